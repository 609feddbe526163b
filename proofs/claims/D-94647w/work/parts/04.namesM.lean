/-! FaceCoinsModel -/
set_option maxRecDepth 100000
def RX8 : String := "FaceCoinsModel"
def TX8 : u_T := fun k => match k with
  | 0 => ("FaceCoinsModel", "thrown", "I", false)
  | 1 => ("FaceCoinsModel", "tape", "[I", true)
  | 2 => ("FaceCoinsModel", "taped", "I", false)
  | 3 => ("FaceCoinsModel", "size", "I", false)
  | 4 => ("FaceCoinsModel", "limit", "I", false)
  | 5 => ("FaceCoinsModel", "to", "I", false)
  | 6 => ("FaceCoinsModel", "from", "I", false)
  | 7 => ("FaceCoinsModel", "kind", "I", false)
  | 8 => ("FaceCoinsModel", "number", "I", false)
  | 9 => ("FaceCoinsModel", "sign", "I", false)
  | 10 => ("FaceCoinsModel", "fault", "I", false)
  | 11 => ("FaceCoinsModel", "place", "I", false)
  | 12 => ("FaceCoinsModel", "word", "J", false)
  | 13 => ("FaceCoinsModel", "told", "I", false)
  | 14 => ("FaceCoinsModel", "now", "[I", true)
  | 15 => ("FaceCoinsModel", "read", "[I", true)
  | 16 => ("FaceCoinsModel", "kept", "[I", true)
  | 17 => ("FaceCoinsModel", "snaps", "[I", true)
  | 18 => ("FaceCoinsModel", "name", "[J", true)
  | 19 => ("FaceCoinsModel", "readName", "[J", true)
  | 20 => ("FaceCoinsModel", "keptName", "[J", true)
  | 21 => ("FaceCoinsModel", "isKept", "[Z", true)
  | 22 => ("FaceCoinsModel", "isBegun", "Z", false)
  | 23 => ("FaceCoinsModel", "snapMany", "I", false)
  | 24 => ("FaceCoinsModel", "onces", "I", false)
  | 25 => ("FaceCoinsModel", "given", "[I", true)
  | 26 => ("FaceCoinsModel", "looked", "[I", true)
  | 27 => ("FaceCoinsModel", "worth", "[I", true)
  | 28 => ("FaceCoinsModel", "least", "[I", true)
  | 29 => ("FaceCoinsModel", "paid", "[I", true)
  | 30 => ("FaceCoinsModel", "chosen", "[I", true)
  | 31 => ("FaceCoinsModel", "lookedMany", "I", false)
  | 32 => ("FaceCoinsModel", "paidMany", "I", false)
  | 33 => ("FaceCoinsModel", "wayWho", "[I", true)
  | 34 => ("FaceCoinsModel", "wayMint", "[I", true)
  | 35 => ("FaceCoinsModel", "couldWho", "[I", true)
  | 36 => ("FaceCoinsModel", "couldMint", "[I", true)
  | 37 => ("FaceCoinsModel", "shownWho", "[I", true)
  | 38 => ("FaceCoinsModel", "shownDeep", "[I", true)
  | 39 => ("FaceCoinsModel", "rowsMade", "I", false)
  | 40 => ("FaceCoinsModel", "rowsLong", "I", false)
  | 41 => ("FaceCoinsModel", "seed", "I", false)
  | 42 => ("FaceCoinsModel", "node", "[I", true)
  | 43 => ("FaceCoinsModel", "nodes", "I", false)
  | 44 => ("FaceCoinsModel", "onesMany", "I", false)
  | 45 => ("FaceCoinsModel", "within", "I", false)
  | _ => ("FaceCoinsModel", "top", "I", false)
def tyX8 : Nat → FieldType := fun k => match k with
  | 0 => .int
  | 1 => .array .int
  | 2 => .int
  | 3 => .int
  | 4 => .int
  | 5 => .int
  | 6 => .int
  | 7 => .int
  | 8 => .int
  | 9 => .int
  | 10 => .int
  | 11 => .int
  | 12 => .long
  | 13 => .int
  | 14 => .array .int
  | 15 => .array .int
  | 16 => .array .int
  | 17 => .array .int
  | 18 => .array .long
  | 19 => .array .long
  | 20 => .array .long
  | 21 => .array .boolean
  | 22 => .boolean
  | 23 => .int
  | 24 => .int
  | 25 => .array .int
  | 26 => .array .int
  | 27 => .array .int
  | 28 => .array .int
  | 29 => .array .int
  | 30 => .array .int
  | 31 => .int
  | 32 => .int
  | 33 => .array .int
  | 34 => .array .int
  | 35 => .array .int
  | 36 => .array .int
  | 37 => .array .int
  | 38 => .array .int
  | 39 => .int
  | 40 => .int
  | 41 => .int
  | 42 => .array .int
  | 43 => .int
  | 44 => .int
  | 45 => .int
  | _ => .int
abbrev wsX80 : List Cond := u_ws RX8 TX8 47
set_option maxRecDepth 100000 in
theorem nmX8 : ∀ a, a < 47 → ∀ b, b < 47 → a ≠ b → (TX8 a).2.1 ≠ (TX8 b).2.1 := by decide +kernel
set_option maxRecDepth 100000 in
theorem tyX8_ok : ∀ k, k < 47 → parseFieldDescriptor (TX8 k).2.2.1 = some (tyX8 k) := by decide +kernel
abbrev cX8_init : ByteArray := prog_18_method_1_code
def yX8_init : MethodName := ⟨RX8, "<init>", "()V"⟩
def dkwX8_init_7 : List UInt8 := [188, 10, 181, 0, 74, 42, 16, 9, 188, 10, 181, 0, 77, 42, 17, 0, 240, 188, 10, 181, 0, 80, 177]
abbrev dktX8_init_7 : List UInt8 := dkwX8_init_7 ++ []
def dkwX8_init_6 : List UInt8 := [188, 10, 181, 0, 65, 42, 16, 9, 188, 10, 181, 0, 68, 42, 16, 9, 188, 10, 181, 0, 71, 42, 16, 9]
abbrev dktX8_init_6 : List UInt8 := dkwX8_init_6 ++ dktX8_init_7
def dkwX8_init_5 : List UInt8 := [42, 16, 12, 188, 10, 181, 0, 55, 42, 2, 181, 0, 58, 42, 16, 9, 188, 10, 181, 0, 62, 42, 16, 9]
abbrev dktX8_init_5 : List UInt8 := dkwX8_init_5 ++ dktX8_init_6
def dkwX8_init_4 : List UInt8 := [16, 72, 188, 10, 181, 0, 46, 42, 17, 101, 157, 188, 10, 181, 0, 49, 42, 16, 40, 188, 10, 181, 0, 52]
abbrev dktX8_init_4 : List UInt8 := dkwX8_init_4 ++ dktX8_init_5
def dkwX8_init_3 : List UInt8 := [42, 5, 188, 4, 181, 0, 36, 42, 16, 40, 188, 10, 181, 0, 40, 42, 16, 12, 188, 10, 181, 0, 43, 42]
abbrev dktX8_init_3 : List UInt8 := dkwX8_init_3 ++ dktX8_init_4
def dkwX8_init_2 : List UInt8 := [42, 16, 12, 188, 11, 181, 0, 26, 42, 16, 12, 188, 11, 181, 0, 30, 42, 16, 24, 188, 11, 181, 0, 33]
abbrev dktX8_init_2 : List UInt8 := dkwX8_init_2 ++ dktX8_init_3
def dkwX8_init_1 : List UInt8 := [16, 108, 188, 10, 181, 0, 16, 42, 17, 63, 152, 188, 10, 181, 0, 19, 42, 18, 22, 188, 10, 181, 0, 23]
abbrev dktX8_init_1 : List UInt8 := dkwX8_init_1 ++ dktX8_init_2
def dkwX8_init_0 : List UInt8 := [42, 183, 0, 1, 42, 17, 2, 228, 188, 10, 181, 0, 7, 42, 17, 31, 204, 188, 10, 181, 0, 13, 42]
abbrev dktX8_init_0 : List UInt8 := dkwX8_init_0 ++ dktX8_init_1
theorem dksX8_init_0 : cX8_init.data.toList.drop 0 = dktX8_init_0 := by decide +kernel
theorem dksX8_init_1 : cX8_init.data.toList.drop 23 = dktX8_init_1 := dk_seg dksX8_init_0 23 rfl rfl
theorem dksX8_init_2 : cX8_init.data.toList.drop 47 = dktX8_init_2 := dk_seg dksX8_init_1 24 rfl rfl
theorem dksX8_init_3 : cX8_init.data.toList.drop 71 = dktX8_init_3 := dk_seg dksX8_init_2 24 rfl rfl
theorem dksX8_init_4 : cX8_init.data.toList.drop 95 = dktX8_init_4 := dk_seg dksX8_init_3 24 rfl rfl
theorem dksX8_init_5 : cX8_init.data.toList.drop 119 = dktX8_init_5 := dk_seg dksX8_init_4 24 rfl rfl
theorem dksX8_init_6 : cX8_init.data.toList.drop 143 = dktX8_init_6 := dk_seg dksX8_init_5 24 rfl rfl
theorem dksX8_init_7 : cX8_init.data.toList.drop 167 = dktX8_init_7 := dk_seg dksX8_init_6 24 rfl rfl
theorem dX8_init_0 : decode cX8_init 0 = .ok (.aload_n 0, 1) := dk_42 (dk_at dksX8_init_0 0 rfl rfl)
theorem dX8_init_1 : decode cX8_init 1 = .ok (.invokespecial 1, 3) := dk_183 0 1 (dk_at dksX8_init_0 1 rfl rfl)
theorem dX8_init_4 : decode cX8_init 4 = .ok (.aload_n 0, 1) := dk_42 (dk_at dksX8_init_0 4 rfl rfl)
theorem dX8_init_5 : decode cX8_init 5 = .ok (.sipush 740, 3) := dk_17 2 228 (dk_at dksX8_init_0 5 rfl rfl)
theorem dX8_init_8 : decode cX8_init 8 = .ok (.newarray .int, 2) := dk_188_10 (dk_at dksX8_init_0 8 rfl rfl)
theorem dX8_init_10 : decode cX8_init 10 = .ok (.putfield 7, 3) := dk_181 0 7 (dk_at dksX8_init_0 10 rfl rfl)
theorem dX8_init_13 : decode cX8_init 13 = .ok (.aload_n 0, 1) := dk_42 (dk_at dksX8_init_0 13 rfl rfl)
theorem dX8_init_14 : decode cX8_init 14 = .ok (.sipush 8140, 3) := dk_17 31 204 (dk_at dksX8_init_0 14 rfl rfl)
theorem dX8_init_17 : decode cX8_init 17 = .ok (.newarray .int, 2) := dk_188_10 (dk_at dksX8_init_0 17 rfl rfl)
theorem dX8_init_19 : decode cX8_init 19 = .ok (.putfield 13, 3) := dk_181 0 13 (dk_at dksX8_init_0 19 rfl rfl)
theorem dX8_init_22 : decode cX8_init 22 = .ok (.aload_n 0, 1) := dk_42 (dk_at dksX8_init_0 22 rfl rfl)
theorem dX8_init_23 : decode cX8_init 23 = .ok (.bipush 108, 2) := dk_16 108 (dk_at dksX8_init_1 0 rfl rfl)
theorem dX8_init_25 : decode cX8_init 25 = .ok (.newarray .int, 2) := dk_188_10 (dk_at dksX8_init_1 2 rfl rfl)
theorem dX8_init_27 : decode cX8_init 27 = .ok (.putfield 16, 3) := dk_181 0 16 (dk_at dksX8_init_1 4 rfl rfl)
theorem dX8_init_30 : decode cX8_init 30 = .ok (.aload_n 0, 1) := dk_42 (dk_at dksX8_init_1 7 rfl rfl)
theorem dX8_init_31 : decode cX8_init 31 = .ok (.sipush 16280, 3) := dk_17 63 152 (dk_at dksX8_init_1 8 rfl rfl)
theorem dX8_init_34 : decode cX8_init 34 = .ok (.newarray .int, 2) := dk_188_10 (dk_at dksX8_init_1 11 rfl rfl)
theorem dX8_init_36 : decode cX8_init 36 = .ok (.putfield 19, 3) := dk_181 0 19 (dk_at dksX8_init_1 13 rfl rfl)
theorem dX8_init_39 : decode cX8_init 39 = .ok (.aload_n 0, 1) := dk_42 (dk_at dksX8_init_1 16 rfl rfl)
theorem dX8_init_40 : decode cX8_init 40 = .ok (.ldc 22, 2) := dk_18 22 (dk_at dksX8_init_1 17 rfl rfl)
theorem dX8_init_42 : decode cX8_init 42 = .ok (.newarray .int, 2) := dk_188_10 (dk_at dksX8_init_1 19 rfl rfl)
theorem dX8_init_44 : decode cX8_init 44 = .ok (.putfield 23, 3) := dk_181 0 23 (dk_at dksX8_init_1 21 rfl rfl)
theorem dX8_init_47 : decode cX8_init 47 = .ok (.aload_n 0, 1) := dk_42 (dk_at dksX8_init_2 0 rfl rfl)
theorem dX8_init_48 : decode cX8_init 48 = .ok (.bipush 12, 2) := dk_16 12 (dk_at dksX8_init_2 1 rfl rfl)
theorem dX8_init_50 : decode cX8_init 50 = .ok (.newarray .long, 2) := dk_188_11 (dk_at dksX8_init_2 3 rfl rfl)
theorem dX8_init_52 : decode cX8_init 52 = .ok (.putfield 26, 3) := dk_181 0 26 (dk_at dksX8_init_2 5 rfl rfl)
theorem dX8_init_55 : decode cX8_init 55 = .ok (.aload_n 0, 1) := dk_42 (dk_at dksX8_init_2 8 rfl rfl)
theorem dX8_init_56 : decode cX8_init 56 = .ok (.bipush 12, 2) := dk_16 12 (dk_at dksX8_init_2 9 rfl rfl)
theorem dX8_init_58 : decode cX8_init 58 = .ok (.newarray .long, 2) := dk_188_11 (dk_at dksX8_init_2 11 rfl rfl)
theorem dX8_init_60 : decode cX8_init 60 = .ok (.putfield 30, 3) := dk_181 0 30 (dk_at dksX8_init_2 13 rfl rfl)
theorem dX8_init_63 : decode cX8_init 63 = .ok (.aload_n 0, 1) := dk_42 (dk_at dksX8_init_2 16 rfl rfl)
theorem dX8_init_64 : decode cX8_init 64 = .ok (.bipush 24, 2) := dk_16 24 (dk_at dksX8_init_2 17 rfl rfl)
theorem dX8_init_66 : decode cX8_init 66 = .ok (.newarray .long, 2) := dk_188_11 (dk_at dksX8_init_2 19 rfl rfl)
theorem dX8_init_68 : decode cX8_init 68 = .ok (.putfield 33, 3) := dk_181 0 33 (dk_at dksX8_init_2 21 rfl rfl)
theorem dX8_init_71 : decode cX8_init 71 = .ok (.aload_n 0, 1) := dk_42 (dk_at dksX8_init_3 0 rfl rfl)
theorem dX8_init_72 : decode cX8_init 72 = .ok (.iconst 2, 1) := dk_5 (dk_at dksX8_init_3 1 rfl rfl)
theorem dX8_init_73 : decode cX8_init 73 = .ok (.newarray .boolean, 2) := dk_188_4 (dk_at dksX8_init_3 2 rfl rfl)
theorem dX8_init_75 : decode cX8_init 75 = .ok (.putfield 36, 3) := dk_181 0 36 (dk_at dksX8_init_3 4 rfl rfl)
theorem dX8_init_78 : decode cX8_init 78 = .ok (.aload_n 0, 1) := dk_42 (dk_at dksX8_init_3 7 rfl rfl)
theorem dX8_init_79 : decode cX8_init 79 = .ok (.bipush 40, 2) := dk_16 40 (dk_at dksX8_init_3 8 rfl rfl)
theorem dX8_init_81 : decode cX8_init 81 = .ok (.newarray .int, 2) := dk_188_10 (dk_at dksX8_init_3 10 rfl rfl)
theorem dX8_init_83 : decode cX8_init 83 = .ok (.putfield 40, 3) := dk_181 0 40 (dk_at dksX8_init_3 12 rfl rfl)
theorem dX8_init_86 : decode cX8_init 86 = .ok (.aload_n 0, 1) := dk_42 (dk_at dksX8_init_3 15 rfl rfl)
theorem dX8_init_87 : decode cX8_init 87 = .ok (.bipush 12, 2) := dk_16 12 (dk_at dksX8_init_3 16 rfl rfl)
theorem dX8_init_89 : decode cX8_init 89 = .ok (.newarray .int, 2) := dk_188_10 (dk_at dksX8_init_3 18 rfl rfl)
theorem dX8_init_91 : decode cX8_init 91 = .ok (.putfield 43, 3) := dk_181 0 43 (dk_at dksX8_init_3 20 rfl rfl)
theorem dX8_init_94 : decode cX8_init 94 = .ok (.aload_n 0, 1) := dk_42 (dk_at dksX8_init_3 23 rfl rfl)
theorem dX8_init_95 : decode cX8_init 95 = .ok (.bipush 72, 2) := dk_16 72 (dk_at dksX8_init_4 0 rfl rfl)
theorem dX8_init_97 : decode cX8_init 97 = .ok (.newarray .int, 2) := dk_188_10 (dk_at dksX8_init_4 2 rfl rfl)
theorem dX8_init_99 : decode cX8_init 99 = .ok (.putfield 46, 3) := dk_181 0 46 (dk_at dksX8_init_4 4 rfl rfl)
theorem dX8_init_102 : decode cX8_init 102 = .ok (.aload_n 0, 1) := dk_42 (dk_at dksX8_init_4 7 rfl rfl)
theorem dX8_init_103 : decode cX8_init 103 = .ok (.sipush 26013, 3) := dk_17 101 157 (dk_at dksX8_init_4 8 rfl rfl)
theorem dX8_init_106 : decode cX8_init 106 = .ok (.newarray .int, 2) := dk_188_10 (dk_at dksX8_init_4 11 rfl rfl)
theorem dX8_init_108 : decode cX8_init 108 = .ok (.putfield 49, 3) := dk_181 0 49 (dk_at dksX8_init_4 13 rfl rfl)
theorem dX8_init_111 : decode cX8_init 111 = .ok (.aload_n 0, 1) := dk_42 (dk_at dksX8_init_4 16 rfl rfl)
theorem dX8_init_112 : decode cX8_init 112 = .ok (.bipush 40, 2) := dk_16 40 (dk_at dksX8_init_4 17 rfl rfl)
theorem dX8_init_114 : decode cX8_init 114 = .ok (.newarray .int, 2) := dk_188_10 (dk_at dksX8_init_4 19 rfl rfl)
theorem dX8_init_116 : decode cX8_init 116 = .ok (.putfield 52, 3) := dk_181 0 52 (dk_at dksX8_init_4 21 rfl rfl)
theorem dX8_init_119 : decode cX8_init 119 = .ok (.aload_n 0, 1) := dk_42 (dk_at dksX8_init_5 0 rfl rfl)
theorem dX8_init_120 : decode cX8_init 120 = .ok (.bipush 12, 2) := dk_16 12 (dk_at dksX8_init_5 1 rfl rfl)
theorem dX8_init_122 : decode cX8_init 122 = .ok (.newarray .int, 2) := dk_188_10 (dk_at dksX8_init_5 3 rfl rfl)
theorem dX8_init_124 : decode cX8_init 124 = .ok (.putfield 55, 3) := dk_181 0 55 (dk_at dksX8_init_5 5 rfl rfl)
theorem dX8_init_127 : decode cX8_init 127 = .ok (.aload_n 0, 1) := dk_42 (dk_at dksX8_init_5 8 rfl rfl)
theorem dX8_init_128 : decode cX8_init 128 = .ok (.iconst (-1), 1) := dk_2 (dk_at dksX8_init_5 9 rfl rfl)
theorem dX8_init_129 : decode cX8_init 129 = .ok (.putfield 58, 3) := dk_181 0 58 (dk_at dksX8_init_5 10 rfl rfl)
theorem dX8_init_132 : decode cX8_init 132 = .ok (.aload_n 0, 1) := dk_42 (dk_at dksX8_init_5 13 rfl rfl)
theorem dX8_init_133 : decode cX8_init 133 = .ok (.bipush 9, 2) := dk_16 9 (dk_at dksX8_init_5 14 rfl rfl)
theorem dX8_init_135 : decode cX8_init 135 = .ok (.newarray .int, 2) := dk_188_10 (dk_at dksX8_init_5 16 rfl rfl)
theorem dX8_init_137 : decode cX8_init 137 = .ok (.putfield 62, 3) := dk_181 0 62 (dk_at dksX8_init_5 18 rfl rfl)
theorem dX8_init_140 : decode cX8_init 140 = .ok (.aload_n 0, 1) := dk_42 (dk_at dksX8_init_5 21 rfl rfl)
theorem dX8_init_141 : decode cX8_init 141 = .ok (.bipush 9, 2) := dk_16 9 (dk_at dksX8_init_5 22 rfl rfl)
theorem dX8_init_143 : decode cX8_init 143 = .ok (.newarray .int, 2) := dk_188_10 (dk_at dksX8_init_6 0 rfl rfl)
theorem dX8_init_145 : decode cX8_init 145 = .ok (.putfield 65, 3) := dk_181 0 65 (dk_at dksX8_init_6 2 rfl rfl)
theorem dX8_init_148 : decode cX8_init 148 = .ok (.aload_n 0, 1) := dk_42 (dk_at dksX8_init_6 5 rfl rfl)
theorem dX8_init_149 : decode cX8_init 149 = .ok (.bipush 9, 2) := dk_16 9 (dk_at dksX8_init_6 6 rfl rfl)
theorem dX8_init_151 : decode cX8_init 151 = .ok (.newarray .int, 2) := dk_188_10 (dk_at dksX8_init_6 8 rfl rfl)
theorem dX8_init_153 : decode cX8_init 153 = .ok (.putfield 68, 3) := dk_181 0 68 (dk_at dksX8_init_6 10 rfl rfl)
theorem dX8_init_156 : decode cX8_init 156 = .ok (.aload_n 0, 1) := dk_42 (dk_at dksX8_init_6 13 rfl rfl)
theorem dX8_init_157 : decode cX8_init 157 = .ok (.bipush 9, 2) := dk_16 9 (dk_at dksX8_init_6 14 rfl rfl)
theorem dX8_init_159 : decode cX8_init 159 = .ok (.newarray .int, 2) := dk_188_10 (dk_at dksX8_init_6 16 rfl rfl)
theorem dX8_init_161 : decode cX8_init 161 = .ok (.putfield 71, 3) := dk_181 0 71 (dk_at dksX8_init_6 18 rfl rfl)
theorem dX8_init_164 : decode cX8_init 164 = .ok (.aload_n 0, 1) := dk_42 (dk_at dksX8_init_6 21 rfl rfl)
theorem dX8_init_165 : decode cX8_init 165 = .ok (.bipush 9, 2) := dk_16 9 (dk_at dksX8_init_6 22 rfl rfl)
theorem dX8_init_167 : decode cX8_init 167 = .ok (.newarray .int, 2) := dk_188_10 (dk_at dksX8_init_7 0 rfl rfl)
theorem dX8_init_169 : decode cX8_init 169 = .ok (.putfield 74, 3) := dk_181 0 74 (dk_at dksX8_init_7 2 rfl rfl)
theorem dX8_init_172 : decode cX8_init 172 = .ok (.aload_n 0, 1) := dk_42 (dk_at dksX8_init_7 5 rfl rfl)
theorem dX8_init_173 : decode cX8_init 173 = .ok (.bipush 9, 2) := dk_16 9 (dk_at dksX8_init_7 6 rfl rfl)
theorem dX8_init_175 : decode cX8_init 175 = .ok (.newarray .int, 2) := dk_188_10 (dk_at dksX8_init_7 8 rfl rfl)
theorem dX8_init_177 : decode cX8_init 177 = .ok (.putfield 77, 3) := dk_181 0 77 (dk_at dksX8_init_7 10 rfl rfl)
theorem dX8_init_180 : decode cX8_init 180 = .ok (.aload_n 0, 1) := dk_42 (dk_at dksX8_init_7 13 rfl rfl)
theorem dX8_init_181 : decode cX8_init 181 = .ok (.sipush 240, 3) := dk_17 0 240 (dk_at dksX8_init_7 14 rfl rfl)
theorem dX8_init_184 : decode cX8_init 184 = .ok (.newarray .int, 2) := dk_188_10 (dk_at dksX8_init_7 17 rfl rfl)
theorem dX8_init_186 : decode cX8_init 186 = .ok (.putfield 80, 3) := dk_181 0 80 (dk_at dksX8_init_7 19 rfl rfl)
theorem dX8_init_189 : decode cX8_init 189 = .ok (.return_, 1) := dk_177 (dk_at dksX8_init_7 22 rfl rfl)
abbrev cX8_thrown : ByteArray := prog_18_method_2_code
def yX8_thrown : MethodName := ⟨RX8, "thrown", "()I"⟩
theorem dX8_thrown_0 : decode cX8_thrown 0 = .ok (.aload_n 0, 1) := by decide +kernel
theorem dX8_thrown_1 : decode cX8_thrown 1 = .ok (.getfield 83, 3) := by decide +kernel
theorem dX8_thrown_4 : decode cX8_thrown 4 = .ok (.ireturn, 1) := by decide +kernel
abbrev cX8_feed : ByteArray := prog_18_method_5_code
def yX8_feed : MethodName := ⟨RX8, "feed", "(IIIII)I"⟩
def dkwX8_feed_2 : List UInt8 := [182, 0, 89, 42, 180, 0, 86, 172]
abbrev dktX8_feed_2 : List UInt8 := dkwX8_feed_2 ++ []
def dkwX8_feed_1 : List UInt8 := [182, 0, 89, 42, 28, 182, 0, 89, 42, 29, 182, 0, 89, 42, 21, 4, 182, 0, 89, 42, 21, 5]
abbrev dktX8_feed_1 : List UInt8 := dkwX8_feed_1 ++ dktX8_feed_2
def dkwX8_feed_0 : List UInt8 := [42, 3, 181, 0, 83, 42, 180, 0, 86, 16, 20, 96, 17, 2, 228, 164, 0, 5, 2, 172, 42, 27]
abbrev dktX8_feed_0 : List UInt8 := dkwX8_feed_0 ++ dktX8_feed_1
theorem dksX8_feed_0 : cX8_feed.data.toList.drop 0 = dktX8_feed_0 := by decide +kernel
theorem dksX8_feed_1 : cX8_feed.data.toList.drop 22 = dktX8_feed_1 := dk_seg dksX8_feed_0 22 rfl rfl
theorem dksX8_feed_2 : cX8_feed.data.toList.drop 44 = dktX8_feed_2 := dk_seg dksX8_feed_1 22 rfl rfl
theorem dX8_feed_0 : decode cX8_feed 0 = .ok (.aload_n 0, 1) := dk_42 (dk_at dksX8_feed_0 0 rfl rfl)
theorem dX8_feed_1 : decode cX8_feed 1 = .ok (.iconst 0, 1) := dk_3 (dk_at dksX8_feed_0 1 rfl rfl)
theorem dX8_feed_2 : decode cX8_feed 2 = .ok (.putfield 83, 3) := dk_181 0 83 (dk_at dksX8_feed_0 2 rfl rfl)
theorem dX8_feed_5 : decode cX8_feed 5 = .ok (.aload_n 0, 1) := dk_42 (dk_at dksX8_feed_0 5 rfl rfl)
theorem dX8_feed_6 : decode cX8_feed 6 = .ok (.getfield 86, 3) := dk_180 0 86 (dk_at dksX8_feed_0 6 rfl rfl)
theorem dX8_feed_9 : decode cX8_feed 9 = .ok (.bipush 20, 2) := dk_16 20 (dk_at dksX8_feed_0 9 rfl rfl)
theorem dX8_feed_11 : decode cX8_feed 11 = .ok (.iadd, 1) := dk_96 (dk_at dksX8_feed_0 11 rfl rfl)
theorem dX8_feed_12 : decode cX8_feed 12 = .ok (.sipush 740, 3) := dk_17 2 228 (dk_at dksX8_feed_0 12 rfl rfl)
theorem dX8_feed_15 : decode cX8_feed 15 = .ok (.if_icmp .le 5, 3) := dk_164 0 5 (dk_at dksX8_feed_0 15 rfl rfl)
theorem dX8_feed_18 : decode cX8_feed 18 = .ok (.iconst (-1), 1) := dk_2 (dk_at dksX8_feed_0 18 rfl rfl)
theorem dX8_feed_19 : decode cX8_feed 19 = .ok (.ireturn, 1) := dk_172 (dk_at dksX8_feed_0 19 rfl rfl)
theorem dX8_feed_20 : decode cX8_feed 20 = .ok (.aload_n 0, 1) := dk_42 (dk_at dksX8_feed_0 20 rfl rfl)
theorem dX8_feed_21 : decode cX8_feed 21 = .ok (.iload_n 1, 1) := dk_27 (dk_at dksX8_feed_0 21 rfl rfl)
theorem dX8_feed_22 : decode cX8_feed 22 = .ok (.invokevirtual 89, 3) := dk_182 0 89 (dk_at dksX8_feed_1 0 rfl rfl)
theorem dX8_feed_25 : decode cX8_feed 25 = .ok (.aload_n 0, 1) := dk_42 (dk_at dksX8_feed_1 3 rfl rfl)
theorem dX8_feed_26 : decode cX8_feed 26 = .ok (.iload_n 2, 1) := dk_28 (dk_at dksX8_feed_1 4 rfl rfl)
theorem dX8_feed_27 : decode cX8_feed 27 = .ok (.invokevirtual 89, 3) := dk_182 0 89 (dk_at dksX8_feed_1 5 rfl rfl)
theorem dX8_feed_30 : decode cX8_feed 30 = .ok (.aload_n 0, 1) := dk_42 (dk_at dksX8_feed_1 8 rfl rfl)
theorem dX8_feed_31 : decode cX8_feed 31 = .ok (.iload_n 3, 1) := dk_29 (dk_at dksX8_feed_1 9 rfl rfl)
theorem dX8_feed_32 : decode cX8_feed 32 = .ok (.invokevirtual 89, 3) := dk_182 0 89 (dk_at dksX8_feed_1 10 rfl rfl)
theorem dX8_feed_35 : decode cX8_feed 35 = .ok (.aload_n 0, 1) := dk_42 (dk_at dksX8_feed_1 13 rfl rfl)
theorem dX8_feed_36 : decode cX8_feed 36 = .ok (.iload 4, 2) := dk_21 4 (dk_at dksX8_feed_1 14 rfl rfl)
theorem dX8_feed_38 : decode cX8_feed 38 = .ok (.invokevirtual 89, 3) := dk_182 0 89 (dk_at dksX8_feed_1 16 rfl rfl)
theorem dX8_feed_41 : decode cX8_feed 41 = .ok (.aload_n 0, 1) := dk_42 (dk_at dksX8_feed_1 19 rfl rfl)
theorem dX8_feed_42 : decode cX8_feed 42 = .ok (.iload 5, 2) := dk_21 5 (dk_at dksX8_feed_1 20 rfl rfl)
theorem dX8_feed_44 : decode cX8_feed 44 = .ok (.invokevirtual 89, 3) := dk_182 0 89 (dk_at dksX8_feed_2 0 rfl rfl)
theorem dX8_feed_47 : decode cX8_feed 47 = .ok (.aload_n 0, 1) := dk_42 (dk_at dksX8_feed_2 3 rfl rfl)
theorem dX8_feed_48 : decode cX8_feed 48 = .ok (.getfield 86, 3) := dk_180 0 86 (dk_at dksX8_feed_2 4 rfl rfl)
theorem dX8_feed_51 : decode cX8_feed 51 = .ok (.ireturn, 1) := dk_172 (dk_at dksX8_feed_2 7 rfl rfl)
abbrev cX8_come : ByteArray := prog_18_method_4_code
def yX8_come : MethodName := ⟨RX8, "come", "(I)V"⟩
def dkwX8_come_1 : List UInt8 := [89, 180, 0, 86, 4, 96, 181, 0, 86, 132, 2, 248, 167, 255, 223, 177]
abbrev dktX8_come_1 : List UInt8 := dkwX8_come_1 ++ []
def dkwX8_come_0 : List UInt8 := [16, 24, 61, 28, 155, 0, 35, 42, 180, 0, 7, 42, 180, 0, 86, 27, 28, 124, 17, 0, 255, 126, 79, 42]
abbrev dktX8_come_0 : List UInt8 := dkwX8_come_0 ++ dktX8_come_1
theorem dksX8_come_0 : cX8_come.data.toList.drop 0 = dktX8_come_0 := by decide +kernel
theorem dksX8_come_1 : cX8_come.data.toList.drop 24 = dktX8_come_1 := dk_seg dksX8_come_0 24 rfl rfl
theorem dX8_come_0 : decode cX8_come 0 = .ok (.bipush 24, 2) := dk_16 24 (dk_at dksX8_come_0 0 rfl rfl)
theorem dX8_come_2 : decode cX8_come 2 = .ok (.istore_n 2, 1) := dk_61 (dk_at dksX8_come_0 2 rfl rfl)
theorem dX8_come_3 : decode cX8_come 3 = .ok (.iload_n 2, 1) := dk_28 (dk_at dksX8_come_0 3 rfl rfl)
theorem dX8_come_4 : decode cX8_come 4 = .ok (.ifCond .lt 35, 3) := dk_155 0 35 (dk_at dksX8_come_0 4 rfl rfl)
theorem dX8_come_7 : decode cX8_come 7 = .ok (.aload_n 0, 1) := dk_42 (dk_at dksX8_come_0 7 rfl rfl)
theorem dX8_come_8 : decode cX8_come 8 = .ok (.getfield 7, 3) := dk_180 0 7 (dk_at dksX8_come_0 8 rfl rfl)
theorem dX8_come_11 : decode cX8_come 11 = .ok (.aload_n 0, 1) := dk_42 (dk_at dksX8_come_0 11 rfl rfl)
theorem dX8_come_12 : decode cX8_come 12 = .ok (.getfield 86, 3) := dk_180 0 86 (dk_at dksX8_come_0 12 rfl rfl)
theorem dX8_come_15 : decode cX8_come 15 = .ok (.iload_n 1, 1) := dk_27 (dk_at dksX8_come_0 15 rfl rfl)
theorem dX8_come_16 : decode cX8_come 16 = .ok (.iload_n 2, 1) := dk_28 (dk_at dksX8_come_0 16 rfl rfl)
theorem dX8_come_17 : decode cX8_come 17 = .ok (.iushr, 1) := dk_124 (dk_at dksX8_come_0 17 rfl rfl)
theorem dX8_come_18 : decode cX8_come 18 = .ok (.sipush 255, 3) := dk_17 0 255 (dk_at dksX8_come_0 18 rfl rfl)
theorem dX8_come_21 : decode cX8_come 21 = .ok (.iand, 1) := dk_126 (dk_at dksX8_come_0 21 rfl rfl)
theorem dX8_come_22 : decode cX8_come 22 = .ok (.iastore, 1) := dk_79 (dk_at dksX8_come_0 22 rfl rfl)
theorem dX8_come_23 : decode cX8_come 23 = .ok (.aload_n 0, 1) := dk_42 (dk_at dksX8_come_0 23 rfl rfl)
theorem dX8_come_24 : decode cX8_come 24 = .ok (.dup, 1) := dk_89 (dk_at dksX8_come_1 0 rfl rfl)
theorem dX8_come_25 : decode cX8_come 25 = .ok (.getfield 86, 3) := dk_180 0 86 (dk_at dksX8_come_1 1 rfl rfl)
theorem dX8_come_28 : decode cX8_come 28 = .ok (.iconst 1, 1) := dk_4 (dk_at dksX8_come_1 4 rfl rfl)
theorem dX8_come_29 : decode cX8_come 29 = .ok (.iadd, 1) := dk_96 (dk_at dksX8_come_1 5 rfl rfl)
theorem dX8_come_30 : decode cX8_come 30 = .ok (.putfield 86, 3) := dk_181 0 86 (dk_at dksX8_come_1 6 rfl rfl)
theorem dX8_come_33 : decode cX8_come 33 = .ok (.iinc 2 (-8), 3) := dk_132 2 248 (dk_at dksX8_come_1 9 rfl rfl)
theorem dX8_come_36 : decode cX8_come 36 = .ok (.goto (-33), 3) := dk_167 255 223 (dk_at dksX8_come_1 12 rfl rfl)
theorem dX8_come_39 : decode cX8_come 39 = .ok (.return_, 1) := dk_177 (dk_at dksX8_come_1 15 rfl rfl)
abbrev cX8_end : ByteArray := prog_18_method_6_code
def yX8_end : MethodName := ⟨RX8, "end", "(I)Z"⟩
def dkwX8_end_1 : List UInt8 := [4, 172]
abbrev dktX8_end_1 : List UInt8 := dkwX8_end_1 ++ []
def dkwX8_end_0 : List UInt8 := [42, 3, 181, 0, 83, 27, 155, 0, 11, 27, 42, 180, 0, 86, 164, 0, 5, 3, 172, 42, 27, 181, 0, 86]
abbrev dktX8_end_0 : List UInt8 := dkwX8_end_0 ++ dktX8_end_1
theorem dksX8_end_0 : cX8_end.data.toList.drop 0 = dktX8_end_0 := by decide +kernel
theorem dksX8_end_1 : cX8_end.data.toList.drop 24 = dktX8_end_1 := dk_seg dksX8_end_0 24 rfl rfl
theorem dX8_end_0 : decode cX8_end 0 = .ok (.aload_n 0, 1) := dk_42 (dk_at dksX8_end_0 0 rfl rfl)
theorem dX8_end_1 : decode cX8_end 1 = .ok (.iconst 0, 1) := dk_3 (dk_at dksX8_end_0 1 rfl rfl)
theorem dX8_end_2 : decode cX8_end 2 = .ok (.putfield 83, 3) := dk_181 0 83 (dk_at dksX8_end_0 2 rfl rfl)
theorem dX8_end_5 : decode cX8_end 5 = .ok (.iload_n 1, 1) := dk_27 (dk_at dksX8_end_0 5 rfl rfl)
theorem dX8_end_6 : decode cX8_end 6 = .ok (.ifCond .lt 11, 3) := dk_155 0 11 (dk_at dksX8_end_0 6 rfl rfl)
theorem dX8_end_9 : decode cX8_end 9 = .ok (.iload_n 1, 1) := dk_27 (dk_at dksX8_end_0 9 rfl rfl)
theorem dX8_end_10 : decode cX8_end 10 = .ok (.aload_n 0, 1) := dk_42 (dk_at dksX8_end_0 10 rfl rfl)
theorem dX8_end_11 : decode cX8_end 11 = .ok (.getfield 86, 3) := dk_180 0 86 (dk_at dksX8_end_0 11 rfl rfl)
theorem dX8_end_14 : decode cX8_end 14 = .ok (.if_icmp .le 5, 3) := dk_164 0 5 (dk_at dksX8_end_0 14 rfl rfl)
theorem dX8_end_17 : decode cX8_end 17 = .ok (.iconst 0, 1) := dk_3 (dk_at dksX8_end_0 17 rfl rfl)
theorem dX8_end_18 : decode cX8_end 18 = .ok (.ireturn, 1) := dk_172 (dk_at dksX8_end_0 18 rfl rfl)
theorem dX8_end_19 : decode cX8_end 19 = .ok (.aload_n 0, 1) := dk_42 (dk_at dksX8_end_0 19 rfl rfl)
theorem dX8_end_20 : decode cX8_end 20 = .ok (.iload_n 1, 1) := dk_27 (dk_at dksX8_end_0 20 rfl rfl)
theorem dX8_end_21 : decode cX8_end 21 = .ok (.putfield 86, 3) := dk_181 0 86 (dk_at dksX8_end_0 21 rfl rfl)
theorem dX8_end_24 : decode cX8_end 24 = .ok (.iconst 1, 1) := dk_4 (dk_at dksX8_end_1 0 rfl rfl)
theorem dX8_end_25 : decode cX8_end 25 = .ok (.ireturn, 1) := dk_172 (dk_at dksX8_end_1 1 rfl rfl)
abbrev cX8_law : ByteArray := prog_18_method_43_code
def yX8_law : MethodName := ⟨RX8, "law", "()I"⟩
def dkwX8_law_7 : List UInt8 := [42, 3, 181, 0, 240, 27, 172]
abbrev dktX8_law_7 : List UInt8 := dkwX8_law_7 ++ []
def dkwX8_law_6 : List UInt8 := [28, 16, 12, 162, 0, 21, 42, 180, 0, 26, 28, 42, 180, 0, 30, 28, 47, 80, 132, 2, 1, 167, 255, 235]
abbrev dktX8_law_6 : List UInt8 := dkwX8_law_6 ++ dktX8_law_7
def dkwX8_law_5 : List UInt8 := [132, 2, 1, 167, 255, 240, 42, 180, 0, 13, 16, 110, 2, 79, 42, 180, 0, 13, 16, 111, 2, 79, 3, 61]
abbrev dktX8_law_5 : List UInt8 := dkwX8_law_5 ++ dktX8_law_6
def dkwX8_law_4 : List UInt8 := [132, 2, 1, 167, 255, 235, 16, 108, 61, 28, 16, 120, 162, 0, 16, 42, 180, 0, 13, 28, 3, 79]
abbrev dktX8_law_4 : List UInt8 := dkwX8_law_4 ++ dktX8_law_5
def dkwX8_law_3 : List UInt8 := [167, 255, 232, 3, 61, 28, 16, 108, 162, 0, 21, 42, 180, 0, 13, 28, 42, 180, 0, 16, 28, 46, 79]
abbrev dktX8_law_3 : List UInt8 := dkwX8_law_3 ++ dktX8_law_4
def dkwX8_law_2 : List UInt8 := [180, 0, 105, 153, 0, 23, 42, 182, 0, 237, 154, 0, 10, 2, 42, 180, 0, 148, 100, 172, 132, 1, 1]
abbrev dktX8_law_2 : List UInt8 := dkwX8_law_2 ++ dktX8_law_3
def dkwX8_law_1 : List UInt8 := [132, 1, 1, 167, 255, 240, 42, 42, 180, 0, 16, 182, 0, 178, 42, 3, 181, 0, 212, 3, 60, 42]
abbrev dktX8_law_1 : List UInt8 := dkwX8_law_1 ++ dktX8_law_2
def dkwX8_law_0 : List UInt8 := [42, 17, 2, 188, 182, 0, 234, 3, 60, 27, 16, 108, 162, 0, 16, 42, 180, 0, 16, 27, 3, 79]
abbrev dktX8_law_0 : List UInt8 := dkwX8_law_0 ++ dktX8_law_1
theorem dksX8_law_0 : cX8_law.data.toList.drop 0 = dktX8_law_0 := by decide +kernel
theorem dksX8_law_1 : cX8_law.data.toList.drop 22 = dktX8_law_1 := dk_seg dksX8_law_0 22 rfl rfl
theorem dksX8_law_2 : cX8_law.data.toList.drop 44 = dktX8_law_2 := dk_seg dksX8_law_1 22 rfl rfl
theorem dksX8_law_3 : cX8_law.data.toList.drop 67 = dktX8_law_3 := dk_seg dksX8_law_2 23 rfl rfl
theorem dksX8_law_4 : cX8_law.data.toList.drop 90 = dktX8_law_4 := dk_seg dksX8_law_3 23 rfl rfl
theorem dksX8_law_5 : cX8_law.data.toList.drop 112 = dktX8_law_5 := dk_seg dksX8_law_4 22 rfl rfl
theorem dksX8_law_6 : cX8_law.data.toList.drop 136 = dktX8_law_6 := dk_seg dksX8_law_5 24 rfl rfl
theorem dksX8_law_7 : cX8_law.data.toList.drop 160 = dktX8_law_7 := dk_seg dksX8_law_6 24 rfl rfl
theorem dX8_law_0 : decode cX8_law 0 = .ok (.aload_n 0, 1) := dk_42 (dk_at dksX8_law_0 0 rfl rfl)
theorem dX8_law_1 : decode cX8_law 1 = .ok (.sipush 700, 3) := dk_17 2 188 (dk_at dksX8_law_0 1 rfl rfl)
theorem dX8_law_4 : decode cX8_law 4 = .ok (.invokevirtual 234, 3) := dk_182 0 234 (dk_at dksX8_law_0 4 rfl rfl)
theorem dX8_law_7 : decode cX8_law 7 = .ok (.iconst 0, 1) := dk_3 (dk_at dksX8_law_0 7 rfl rfl)
theorem dX8_law_8 : decode cX8_law 8 = .ok (.istore_n 1, 1) := dk_60 (dk_at dksX8_law_0 8 rfl rfl)
theorem dX8_law_9 : decode cX8_law 9 = .ok (.iload_n 1, 1) := dk_27 (dk_at dksX8_law_0 9 rfl rfl)
theorem dX8_law_10 : decode cX8_law 10 = .ok (.bipush 108, 2) := dk_16 108 (dk_at dksX8_law_0 10 rfl rfl)
theorem dX8_law_12 : decode cX8_law 12 = .ok (.if_icmp .ge 16, 3) := dk_162 0 16 (dk_at dksX8_law_0 12 rfl rfl)
theorem dX8_law_15 : decode cX8_law 15 = .ok (.aload_n 0, 1) := dk_42 (dk_at dksX8_law_0 15 rfl rfl)
theorem dX8_law_16 : decode cX8_law 16 = .ok (.getfield 16, 3) := dk_180 0 16 (dk_at dksX8_law_0 16 rfl rfl)
theorem dX8_law_19 : decode cX8_law 19 = .ok (.iload_n 1, 1) := dk_27 (dk_at dksX8_law_0 19 rfl rfl)
theorem dX8_law_20 : decode cX8_law 20 = .ok (.iconst 0, 1) := dk_3 (dk_at dksX8_law_0 20 rfl rfl)
theorem dX8_law_21 : decode cX8_law 21 = .ok (.iastore, 1) := dk_79 (dk_at dksX8_law_0 21 rfl rfl)
theorem dX8_law_22 : decode cX8_law 22 = .ok (.iinc 1 1, 3) := dk_132 1 1 (dk_at dksX8_law_1 0 rfl rfl)
theorem dX8_law_25 : decode cX8_law 25 = .ok (.goto (-16), 3) := dk_167 255 240 (dk_at dksX8_law_1 3 rfl rfl)
theorem dX8_law_28 : decode cX8_law 28 = .ok (.aload_n 0, 1) := dk_42 (dk_at dksX8_law_1 6 rfl rfl)
theorem dX8_law_29 : decode cX8_law 29 = .ok (.aload_n 0, 1) := dk_42 (dk_at dksX8_law_1 7 rfl rfl)
theorem dX8_law_30 : decode cX8_law 30 = .ok (.getfield 16, 3) := dk_180 0 16 (dk_at dksX8_law_1 8 rfl rfl)
theorem dX8_law_33 : decode cX8_law 33 = .ok (.invokevirtual 178, 3) := dk_182 0 178 (dk_at dksX8_law_1 11 rfl rfl)
theorem dX8_law_36 : decode cX8_law 36 = .ok (.aload_n 0, 1) := dk_42 (dk_at dksX8_law_1 14 rfl rfl)
theorem dX8_law_37 : decode cX8_law 37 = .ok (.iconst 0, 1) := dk_3 (dk_at dksX8_law_1 15 rfl rfl)
theorem dX8_law_38 : decode cX8_law 38 = .ok (.putfield 212, 3) := dk_181 0 212 (dk_at dksX8_law_1 16 rfl rfl)
theorem dX8_law_41 : decode cX8_law 41 = .ok (.iconst 0, 1) := dk_3 (dk_at dksX8_law_1 19 rfl rfl)
theorem dX8_law_42 : decode cX8_law 42 = .ok (.istore_n 1, 1) := dk_60 (dk_at dksX8_law_1 20 rfl rfl)
theorem dX8_law_43 : decode cX8_law 43 = .ok (.aload_n 0, 1) := dk_42 (dk_at dksX8_law_1 21 rfl rfl)
theorem dX8_law_44 : decode cX8_law 44 = .ok (.getfield 105, 3) := dk_180 0 105 (dk_at dksX8_law_2 0 rfl rfl)
theorem dX8_law_47 : decode cX8_law 47 = .ok (.ifCond .eq 23, 3) := dk_153 0 23 (dk_at dksX8_law_2 3 rfl rfl)
theorem dX8_law_50 : decode cX8_law 50 = .ok (.aload_n 0, 1) := dk_42 (dk_at dksX8_law_2 6 rfl rfl)
theorem dX8_law_51 : decode cX8_law 51 = .ok (.invokevirtual 237, 3) := dk_182 0 237 (dk_at dksX8_law_2 7 rfl rfl)
theorem dX8_law_54 : decode cX8_law 54 = .ok (.ifCond .ne 10, 3) := dk_154 0 10 (dk_at dksX8_law_2 10 rfl rfl)
theorem dX8_law_57 : decode cX8_law 57 = .ok (.iconst (-1), 1) := dk_2 (dk_at dksX8_law_2 13 rfl rfl)
theorem dX8_law_58 : decode cX8_law 58 = .ok (.aload_n 0, 1) := dk_42 (dk_at dksX8_law_2 14 rfl rfl)
theorem dX8_law_59 : decode cX8_law 59 = .ok (.getfield 148, 3) := dk_180 0 148 (dk_at dksX8_law_2 15 rfl rfl)
theorem dX8_law_62 : decode cX8_law 62 = .ok (.isub, 1) := dk_100 (dk_at dksX8_law_2 18 rfl rfl)
theorem dX8_law_63 : decode cX8_law 63 = .ok (.ireturn, 1) := dk_172 (dk_at dksX8_law_2 19 rfl rfl)
theorem dX8_law_64 : decode cX8_law 64 = .ok (.iinc 1 1, 3) := dk_132 1 1 (dk_at dksX8_law_2 20 rfl rfl)
theorem dX8_law_67 : decode cX8_law 67 = .ok (.goto (-24), 3) := dk_167 255 232 (dk_at dksX8_law_3 0 rfl rfl)
theorem dX8_law_70 : decode cX8_law 70 = .ok (.iconst 0, 1) := dk_3 (dk_at dksX8_law_3 3 rfl rfl)
theorem dX8_law_71 : decode cX8_law 71 = .ok (.istore_n 2, 1) := dk_61 (dk_at dksX8_law_3 4 rfl rfl)
theorem dX8_law_72 : decode cX8_law 72 = .ok (.iload_n 2, 1) := dk_28 (dk_at dksX8_law_3 5 rfl rfl)
theorem dX8_law_73 : decode cX8_law 73 = .ok (.bipush 108, 2) := dk_16 108 (dk_at dksX8_law_3 6 rfl rfl)
theorem dX8_law_75 : decode cX8_law 75 = .ok (.if_icmp .ge 21, 3) := dk_162 0 21 (dk_at dksX8_law_3 8 rfl rfl)
theorem dX8_law_78 : decode cX8_law 78 = .ok (.aload_n 0, 1) := dk_42 (dk_at dksX8_law_3 11 rfl rfl)
theorem dX8_law_79 : decode cX8_law 79 = .ok (.getfield 13, 3) := dk_180 0 13 (dk_at dksX8_law_3 12 rfl rfl)
theorem dX8_law_82 : decode cX8_law 82 = .ok (.iload_n 2, 1) := dk_28 (dk_at dksX8_law_3 15 rfl rfl)
theorem dX8_law_83 : decode cX8_law 83 = .ok (.aload_n 0, 1) := dk_42 (dk_at dksX8_law_3 16 rfl rfl)
theorem dX8_law_84 : decode cX8_law 84 = .ok (.getfield 16, 3) := dk_180 0 16 (dk_at dksX8_law_3 17 rfl rfl)
theorem dX8_law_87 : decode cX8_law 87 = .ok (.iload_n 2, 1) := dk_28 (dk_at dksX8_law_3 20 rfl rfl)
theorem dX8_law_88 : decode cX8_law 88 = .ok (.iaload, 1) := dk_46 (dk_at dksX8_law_3 21 rfl rfl)
theorem dX8_law_89 : decode cX8_law 89 = .ok (.iastore, 1) := dk_79 (dk_at dksX8_law_3 22 rfl rfl)
theorem dX8_law_90 : decode cX8_law 90 = .ok (.iinc 2 1, 3) := dk_132 2 1 (dk_at dksX8_law_4 0 rfl rfl)
theorem dX8_law_93 : decode cX8_law 93 = .ok (.goto (-21), 3) := dk_167 255 235 (dk_at dksX8_law_4 3 rfl rfl)
theorem dX8_law_96 : decode cX8_law 96 = .ok (.bipush 108, 2) := dk_16 108 (dk_at dksX8_law_4 6 rfl rfl)
theorem dX8_law_98 : decode cX8_law 98 = .ok (.istore_n 2, 1) := dk_61 (dk_at dksX8_law_4 8 rfl rfl)
theorem dX8_law_99 : decode cX8_law 99 = .ok (.iload_n 2, 1) := dk_28 (dk_at dksX8_law_4 9 rfl rfl)
theorem dX8_law_100 : decode cX8_law 100 = .ok (.bipush 120, 2) := dk_16 120 (dk_at dksX8_law_4 10 rfl rfl)
theorem dX8_law_102 : decode cX8_law 102 = .ok (.if_icmp .ge 16, 3) := dk_162 0 16 (dk_at dksX8_law_4 12 rfl rfl)
theorem dX8_law_105 : decode cX8_law 105 = .ok (.aload_n 0, 1) := dk_42 (dk_at dksX8_law_4 15 rfl rfl)
theorem dX8_law_106 : decode cX8_law 106 = .ok (.getfield 13, 3) := dk_180 0 13 (dk_at dksX8_law_4 16 rfl rfl)
theorem dX8_law_109 : decode cX8_law 109 = .ok (.iload_n 2, 1) := dk_28 (dk_at dksX8_law_4 19 rfl rfl)
theorem dX8_law_110 : decode cX8_law 110 = .ok (.iconst 0, 1) := dk_3 (dk_at dksX8_law_4 20 rfl rfl)
theorem dX8_law_111 : decode cX8_law 111 = .ok (.iastore, 1) := dk_79 (dk_at dksX8_law_4 21 rfl rfl)
theorem dX8_law_112 : decode cX8_law 112 = .ok (.iinc 2 1, 3) := dk_132 2 1 (dk_at dksX8_law_5 0 rfl rfl)
theorem dX8_law_115 : decode cX8_law 115 = .ok (.goto (-16), 3) := dk_167 255 240 (dk_at dksX8_law_5 3 rfl rfl)
theorem dX8_law_118 : decode cX8_law 118 = .ok (.aload_n 0, 1) := dk_42 (dk_at dksX8_law_5 6 rfl rfl)
theorem dX8_law_119 : decode cX8_law 119 = .ok (.getfield 13, 3) := dk_180 0 13 (dk_at dksX8_law_5 7 rfl rfl)
theorem dX8_law_122 : decode cX8_law 122 = .ok (.bipush 110, 2) := dk_16 110 (dk_at dksX8_law_5 10 rfl rfl)
theorem dX8_law_124 : decode cX8_law 124 = .ok (.iconst (-1), 1) := dk_2 (dk_at dksX8_law_5 12 rfl rfl)
theorem dX8_law_125 : decode cX8_law 125 = .ok (.iastore, 1) := dk_79 (dk_at dksX8_law_5 13 rfl rfl)
theorem dX8_law_126 : decode cX8_law 126 = .ok (.aload_n 0, 1) := dk_42 (dk_at dksX8_law_5 14 rfl rfl)
theorem dX8_law_127 : decode cX8_law 127 = .ok (.getfield 13, 3) := dk_180 0 13 (dk_at dksX8_law_5 15 rfl rfl)
theorem dX8_law_130 : decode cX8_law 130 = .ok (.bipush 111, 2) := dk_16 111 (dk_at dksX8_law_5 18 rfl rfl)
theorem dX8_law_132 : decode cX8_law 132 = .ok (.iconst (-1), 1) := dk_2 (dk_at dksX8_law_5 20 rfl rfl)
theorem dX8_law_133 : decode cX8_law 133 = .ok (.iastore, 1) := dk_79 (dk_at dksX8_law_5 21 rfl rfl)
theorem dX8_law_134 : decode cX8_law 134 = .ok (.iconst 0, 1) := dk_3 (dk_at dksX8_law_5 22 rfl rfl)
theorem dX8_law_135 : decode cX8_law 135 = .ok (.istore_n 2, 1) := dk_61 (dk_at dksX8_law_5 23 rfl rfl)
theorem dX8_law_136 : decode cX8_law 136 = .ok (.iload_n 2, 1) := dk_28 (dk_at dksX8_law_6 0 rfl rfl)
theorem dX8_law_137 : decode cX8_law 137 = .ok (.bipush 12, 2) := dk_16 12 (dk_at dksX8_law_6 1 rfl rfl)
theorem dX8_law_139 : decode cX8_law 139 = .ok (.if_icmp .ge 21, 3) := dk_162 0 21 (dk_at dksX8_law_6 3 rfl rfl)
theorem dX8_law_142 : decode cX8_law 142 = .ok (.aload_n 0, 1) := dk_42 (dk_at dksX8_law_6 6 rfl rfl)
theorem dX8_law_143 : decode cX8_law 143 = .ok (.getfield 26, 3) := dk_180 0 26 (dk_at dksX8_law_6 7 rfl rfl)
theorem dX8_law_146 : decode cX8_law 146 = .ok (.iload_n 2, 1) := dk_28 (dk_at dksX8_law_6 10 rfl rfl)
theorem dX8_law_147 : decode cX8_law 147 = .ok (.aload_n 0, 1) := dk_42 (dk_at dksX8_law_6 11 rfl rfl)
theorem dX8_law_148 : decode cX8_law 148 = .ok (.getfield 30, 3) := dk_180 0 30 (dk_at dksX8_law_6 12 rfl rfl)
theorem dX8_law_151 : decode cX8_law 151 = .ok (.iload_n 2, 1) := dk_28 (dk_at dksX8_law_6 15 rfl rfl)
theorem dX8_law_152 : decode cX8_law 152 = .ok (.laload, 1) := dk_47 (dk_at dksX8_law_6 16 rfl rfl)
theorem dX8_law_153 : decode cX8_law 153 = .ok (.lastore, 1) := dk_80 (dk_at dksX8_law_6 17 rfl rfl)
theorem dX8_law_154 : decode cX8_law 154 = .ok (.iinc 2 1, 3) := dk_132 2 1 (dk_at dksX8_law_6 18 rfl rfl)
theorem dX8_law_157 : decode cX8_law 157 = .ok (.goto (-21), 3) := dk_167 255 235 (dk_at dksX8_law_6 21 rfl rfl)
theorem dX8_law_160 : decode cX8_law 160 = .ok (.aload_n 0, 1) := dk_42 (dk_at dksX8_law_7 0 rfl rfl)
theorem dX8_law_161 : decode cX8_law 161 = .ok (.iconst 0, 1) := dk_3 (dk_at dksX8_law_7 1 rfl rfl)
theorem dX8_law_162 : decode cX8_law 162 = .ok (.putfield 240, 3) := dk_181 0 240 (dk_at dksX8_law_7 2 rfl rfl)
theorem dX8_law_165 : decode cX8_law 165 = .ok (.iload_n 1, 1) := dk_27 (dk_at dksX8_law_7 5 rfl rfl)
theorem dX8_law_166 : decode cX8_law 166 = .ok (.ireturn, 1) := dk_172 (dk_at dksX8_law_7 6 rfl rfl)
abbrev cX8_begin : ByteArray := prog_18_method_23_code
def yX8_begin : MethodName := ⟨RX8, "begin", "(I)V"⟩
def dkwX8_begin_1 : List UInt8 := [181, 0, 145, 42, 3, 181, 0, 96, 42, 182, 0, 161, 177]
abbrev dktX8_begin_1 : List UInt8 := dkwX8_begin_1 ++ []
def dkwX8_begin_0 : List UInt8 := [42, 3, 181, 0, 83, 42, 182, 0, 167, 42, 42, 182, 0, 170, 181, 0, 93, 42, 27, 181, 0, 102, 42, 3]
abbrev dktX8_begin_0 : List UInt8 := dkwX8_begin_0 ++ dktX8_begin_1
theorem dksX8_begin_0 : cX8_begin.data.toList.drop 0 = dktX8_begin_0 := by decide +kernel
theorem dksX8_begin_1 : cX8_begin.data.toList.drop 24 = dktX8_begin_1 := dk_seg dksX8_begin_0 24 rfl rfl
theorem dX8_begin_0 : decode cX8_begin 0 = .ok (.aload_n 0, 1) := dk_42 (dk_at dksX8_begin_0 0 rfl rfl)
theorem dX8_begin_1 : decode cX8_begin 1 = .ok (.iconst 0, 1) := dk_3 (dk_at dksX8_begin_0 1 rfl rfl)
theorem dX8_begin_2 : decode cX8_begin 2 = .ok (.putfield 83, 3) := dk_181 0 83 (dk_at dksX8_begin_0 2 rfl rfl)
theorem dX8_begin_5 : decode cX8_begin 5 = .ok (.aload_n 0, 1) := dk_42 (dk_at dksX8_begin_0 5 rfl rfl)
theorem dX8_begin_6 : decode cX8_begin 6 = .ok (.invokevirtual 167, 3) := dk_182 0 167 (dk_at dksX8_begin_0 6 rfl rfl)
theorem dX8_begin_9 : decode cX8_begin 9 = .ok (.aload_n 0, 1) := dk_42 (dk_at dksX8_begin_0 9 rfl rfl)
theorem dX8_begin_10 : decode cX8_begin 10 = .ok (.aload_n 0, 1) := dk_42 (dk_at dksX8_begin_0 10 rfl rfl)
theorem dX8_begin_11 : decode cX8_begin 11 = .ok (.invokevirtual 170, 3) := dk_182 0 170 (dk_at dksX8_begin_0 11 rfl rfl)
theorem dX8_begin_14 : decode cX8_begin 14 = .ok (.putfield 93, 3) := dk_181 0 93 (dk_at dksX8_begin_0 14 rfl rfl)
theorem dX8_begin_17 : decode cX8_begin 17 = .ok (.aload_n 0, 1) := dk_42 (dk_at dksX8_begin_0 17 rfl rfl)
theorem dX8_begin_18 : decode cX8_begin 18 = .ok (.iload_n 1, 1) := dk_27 (dk_at dksX8_begin_0 18 rfl rfl)
theorem dX8_begin_19 : decode cX8_begin 19 = .ok (.putfield 102, 3) := dk_181 0 102 (dk_at dksX8_begin_0 19 rfl rfl)
theorem dX8_begin_22 : decode cX8_begin 22 = .ok (.aload_n 0, 1) := dk_42 (dk_at dksX8_begin_0 22 rfl rfl)
theorem dX8_begin_23 : decode cX8_begin 23 = .ok (.iconst 0, 1) := dk_3 (dk_at dksX8_begin_0 23 rfl rfl)
theorem dX8_begin_24 : decode cX8_begin 24 = .ok (.putfield 145, 3) := dk_181 0 145 (dk_at dksX8_begin_1 0 rfl rfl)
theorem dX8_begin_27 : decode cX8_begin 27 = .ok (.aload_n 0, 1) := dk_42 (dk_at dksX8_begin_1 3 rfl rfl)
theorem dX8_begin_28 : decode cX8_begin 28 = .ok (.iconst 0, 1) := dk_3 (dk_at dksX8_begin_1 4 rfl rfl)
theorem dX8_begin_29 : decode cX8_begin 29 = .ok (.putfield 96, 3) := dk_181 0 96 (dk_at dksX8_begin_1 5 rfl rfl)
theorem dX8_begin_32 : decode cX8_begin 32 = .ok (.aload_n 0, 1) := dk_42 (dk_at dksX8_begin_1 8 rfl rfl)
theorem dX8_begin_33 : decode cX8_begin 33 = .ok (.invokevirtual 161, 3) := dk_182 0 161 (dk_at dksX8_begin_1 9 rfl rfl)
theorem dX8_begin_36 : decode cX8_begin 36 = .ok (.return_, 1) := dk_177 (dk_at dksX8_begin_1 12 rfl rfl)
abbrev cX8_lay : ByteArray := prog_18_method_25_code
def yX8_lay : MethodName := ⟨RX8, "lay", "()V"⟩
def dkwX8_lay_1 : List UInt8 := [180, 0, 13, 16, 110, 2, 79, 42, 180, 0, 13, 16, 111, 2, 79, 177]
abbrev dktX8_lay_1 : List UInt8 := dkwX8_lay_1 ++ []
def dkwX8_lay_0 : List UInt8 := [42, 180, 0, 174, 153, 0, 4, 177, 42, 4, 181, 0, 174, 42, 42, 180, 0, 13, 182, 0, 178, 42]
abbrev dktX8_lay_0 : List UInt8 := dkwX8_lay_0 ++ dktX8_lay_1
theorem dksX8_lay_0 : cX8_lay.data.toList.drop 0 = dktX8_lay_0 := by decide +kernel
theorem dksX8_lay_1 : cX8_lay.data.toList.drop 22 = dktX8_lay_1 := dk_seg dksX8_lay_0 22 rfl rfl
theorem dX8_lay_0 : decode cX8_lay 0 = .ok (.aload_n 0, 1) := dk_42 (dk_at dksX8_lay_0 0 rfl rfl)
theorem dX8_lay_1 : decode cX8_lay 1 = .ok (.getfield 174, 3) := dk_180 0 174 (dk_at dksX8_lay_0 1 rfl rfl)
theorem dX8_lay_4 : decode cX8_lay 4 = .ok (.ifCond .eq 4, 3) := dk_153 0 4 (dk_at dksX8_lay_0 4 rfl rfl)
theorem dX8_lay_7 : decode cX8_lay 7 = .ok (.return_, 1) := dk_177 (dk_at dksX8_lay_0 7 rfl rfl)
theorem dX8_lay_8 : decode cX8_lay 8 = .ok (.aload_n 0, 1) := dk_42 (dk_at dksX8_lay_0 8 rfl rfl)
theorem dX8_lay_9 : decode cX8_lay 9 = .ok (.iconst 1, 1) := dk_4 (dk_at dksX8_lay_0 9 rfl rfl)
theorem dX8_lay_10 : decode cX8_lay 10 = .ok (.putfield 174, 3) := dk_181 0 174 (dk_at dksX8_lay_0 10 rfl rfl)
theorem dX8_lay_13 : decode cX8_lay 13 = .ok (.aload_n 0, 1) := dk_42 (dk_at dksX8_lay_0 13 rfl rfl)
theorem dX8_lay_14 : decode cX8_lay 14 = .ok (.aload_n 0, 1) := dk_42 (dk_at dksX8_lay_0 14 rfl rfl)
theorem dX8_lay_15 : decode cX8_lay 15 = .ok (.getfield 13, 3) := dk_180 0 13 (dk_at dksX8_lay_0 15 rfl rfl)
theorem dX8_lay_18 : decode cX8_lay 18 = .ok (.invokevirtual 178, 3) := dk_182 0 178 (dk_at dksX8_lay_0 18 rfl rfl)
theorem dX8_lay_21 : decode cX8_lay 21 = .ok (.aload_n 0, 1) := dk_42 (dk_at dksX8_lay_0 21 rfl rfl)
theorem dX8_lay_22 : decode cX8_lay 22 = .ok (.getfield 13, 3) := dk_180 0 13 (dk_at dksX8_lay_1 0 rfl rfl)
theorem dX8_lay_25 : decode cX8_lay 25 = .ok (.bipush 110, 2) := dk_16 110 (dk_at dksX8_lay_1 3 rfl rfl)
theorem dX8_lay_27 : decode cX8_lay 27 = .ok (.iconst (-1), 1) := dk_2 (dk_at dksX8_lay_1 5 rfl rfl)
theorem dX8_lay_28 : decode cX8_lay 28 = .ok (.iastore, 1) := dk_79 (dk_at dksX8_lay_1 6 rfl rfl)
theorem dX8_lay_29 : decode cX8_lay 29 = .ok (.aload_n 0, 1) := dk_42 (dk_at dksX8_lay_1 7 rfl rfl)
theorem dX8_lay_30 : decode cX8_lay 30 = .ok (.getfield 13, 3) := dk_180 0 13 (dk_at dksX8_lay_1 8 rfl rfl)
theorem dX8_lay_33 : decode cX8_lay 33 = .ok (.bipush 111, 2) := dk_16 111 (dk_at dksX8_lay_1 11 rfl rfl)
theorem dX8_lay_35 : decode cX8_lay 35 = .ok (.iconst (-1), 1) := dk_2 (dk_at dksX8_lay_1 13 rfl rfl)
theorem dX8_lay_36 : decode cX8_lay 36 = .ok (.iastore, 1) := dk_79 (dk_at dksX8_lay_1 14 rfl rfl)
theorem dX8_lay_37 : decode cX8_lay 37 = .ok (.return_, 1) := dk_177 (dk_at dksX8_lay_1 15 rfl rfl)
abbrev cX8_plain : ByteArray := prog_18_method_24_code
def yX8_plain : MethodName := ⟨RX8, "plain", "([I)V"⟩
def dkwX8_plain_0 : List UInt8 := [43, 7, 16, 50, 79, 43, 8, 16, 50, 79, 43, 16, 6, 8, 79, 177]
abbrev dktX8_plain_0 : List UInt8 := dkwX8_plain_0 ++ []
theorem dksX8_plain_0 : cX8_plain.data.toList.drop 0 = dktX8_plain_0 := by decide +kernel
theorem dX8_plain_0 : decode cX8_plain 0 = .ok (.aload_n 1, 1) := dk_43 (dk_at dksX8_plain_0 0 rfl rfl)
theorem dX8_plain_1 : decode cX8_plain 1 = .ok (.iconst 4, 1) := dk_7 (dk_at dksX8_plain_0 1 rfl rfl)
theorem dX8_plain_2 : decode cX8_plain 2 = .ok (.bipush 50, 2) := dk_16 50 (dk_at dksX8_plain_0 2 rfl rfl)
theorem dX8_plain_4 : decode cX8_plain 4 = .ok (.iastore, 1) := dk_79 (dk_at dksX8_plain_0 4 rfl rfl)
theorem dX8_plain_5 : decode cX8_plain 5 = .ok (.aload_n 1, 1) := dk_43 (dk_at dksX8_plain_0 5 rfl rfl)
theorem dX8_plain_6 : decode cX8_plain 6 = .ok (.iconst 5, 1) := dk_8 (dk_at dksX8_plain_0 6 rfl rfl)
theorem dX8_plain_7 : decode cX8_plain 7 = .ok (.bipush 50, 2) := dk_16 50 (dk_at dksX8_plain_0 7 rfl rfl)
theorem dX8_plain_9 : decode cX8_plain 9 = .ok (.iastore, 1) := dk_79 (dk_at dksX8_plain_0 9 rfl rfl)
theorem dX8_plain_10 : decode cX8_plain 10 = .ok (.aload_n 1, 1) := dk_43 (dk_at dksX8_plain_0 10 rfl rfl)
theorem dX8_plain_11 : decode cX8_plain 11 = .ok (.bipush 6, 2) := dk_16 6 (dk_at dksX8_plain_0 11 rfl rfl)
theorem dX8_plain_13 : decode cX8_plain 13 = .ok (.iconst 5, 1) := dk_8 (dk_at dksX8_plain_0 13 rfl rfl)
theorem dX8_plain_14 : decode cX8_plain 14 = .ok (.iastore, 1) := dk_79 (dk_at dksX8_plain_0 14 rfl rfl)
theorem dX8_plain_15 : decode cX8_plain 15 = .ok (.return_, 1) := dk_177 (dk_at dksX8_plain_0 15 rfl rfl)
abbrev cX8_take : ByteArray := prog_18_method_7_code
def yX8_take : MethodName := ⟨RX8, "take", "()I"⟩
def dkwX8_take_0 : List UInt8 := [42, 180, 0, 86, 60, 42, 3, 181, 0, 86, 27, 172]
abbrev dktX8_take_0 : List UInt8 := dkwX8_take_0 ++ []
theorem dksX8_take_0 : cX8_take.data.toList.drop 0 = dktX8_take_0 := by decide +kernel
theorem dX8_take_0 : decode cX8_take 0 = .ok (.aload_n 0, 1) := dk_42 (dk_at dksX8_take_0 0 rfl rfl)
theorem dX8_take_1 : decode cX8_take 1 = .ok (.getfield 86, 3) := dk_180 0 86 (dk_at dksX8_take_0 1 rfl rfl)
theorem dX8_take_4 : decode cX8_take 4 = .ok (.istore_n 1, 1) := dk_60 (dk_at dksX8_take_0 4 rfl rfl)
theorem dX8_take_5 : decode cX8_take 5 = .ok (.aload_n 0, 1) := dk_42 (dk_at dksX8_take_0 5 rfl rfl)
theorem dX8_take_6 : decode cX8_take 6 = .ok (.iconst 0, 1) := dk_3 (dk_at dksX8_take_0 6 rfl rfl)
theorem dX8_take_7 : decode cX8_take 7 = .ok (.putfield 86, 3) := dk_181 0 86 (dk_at dksX8_take_0 7 rfl rfl)
theorem dX8_take_10 : decode cX8_take 10 = .ok (.iload_n 1, 1) := dk_27 (dk_at dksX8_take_0 10 rfl rfl)
theorem dX8_take_11 : decode cX8_take 11 = .ok (.ireturn, 1) := dk_172 (dk_at dksX8_take_0 11 rfl rfl)
abbrev cX8_go : ByteArray := prog_18_method_13_code
def yX8_go : MethodName := ⟨RX8, "go", "()V"⟩
def dkwX8_go_16 : List UInt8 := [167, 0, 4, 7, 164, 0, 7, 4, 167, 0, 12, 28, 153, 0, 7, 5, 167, 0, 4, 6, 181, 0, 105, 177]
abbrev dktX8_go_16 : List UInt8 := dkwX8_go_16 ++ []
def dkwX8_go_15 : List UInt8 := [167, 255, 124, 42, 29, 153, 0, 25, 42, 180, 0, 96, 42, 180, 0, 99, 100, 28, 153, 0, 8, 16, 6]
abbrev dktX8_go_15 : List UInt8 := dkwX8_go_15 ++ dktX8_go_16
def dkwX8_go_14 : List UInt8 := [180, 0, 122, 104, 21, 4, 96, 16, 48, 100, 181, 0, 122, 42, 89, 180, 0, 96, 4, 96, 181, 0, 96]
abbrev dktX8_go_14 : List UInt8 := dkwX8_go_14 ++ dktX8_go_15
def dkwX8_go_13 : List UInt8 := [20, 0, 131, 101, 181, 0, 118, 42, 180, 0, 96, 42, 180, 0, 99, 100, 7, 162, 0, 20, 42, 16, 10, 42]
abbrev dktX8_go_13 : List UInt8 := dkwX8_go_13 ++ dktX8_go_14
def dkwX8_go_12 : List UInt8 := [180, 0, 99, 100, 16, 6, 162, 0, 23, 42, 20, 0, 129, 42, 180, 0, 118, 105, 21, 4, 133, 97]
abbrev dktX8_go_12 : List UInt8 := dkwX8_go_12 ++ dktX8_go_13
def dkwX8_go_11 : List UInt8 := [153, 0, 16, 21, 4, 184, 0, 108, 28, 160, 0, 7, 4, 167, 0, 4, 3, 62, 42, 180, 0, 96, 42]
abbrev dktX8_go_11 : List UInt8 := dkwX8_go_11 ++ dktX8_go_12
def dkwX8_go_10 : List UInt8 := [180, 0, 96, 182, 0, 125, 184, 0, 112, 153, 0, 110, 42, 180, 0, 7, 42, 180, 0, 96, 46, 54, 4, 29]
abbrev dktX8_go_10 : List UInt8 := dkwX8_go_10 ++ dktX8_go_11
def dkwX8_go_9 : List UInt8 := [181, 0, 118, 42, 3, 181, 0, 122, 42, 42, 180, 0, 96, 182, 0, 125, 184, 0, 108, 154, 0, 17, 42, 42]
abbrev dktX8_go_9 : List UInt8 := dkwX8_go_9 ++ dktX8_go_10
def dkwX8_go_8 : List UInt8 := [181, 0, 115, 42, 89, 180, 0, 96, 4, 96, 181, 0, 96, 177, 27, 184, 0, 108, 61, 4, 62, 42, 9]
abbrev dktX8_go_8 : List UInt8 := dkwX8_go_8 ++ dktX8_go_9
def dkwX8_go_7 : List UInt8 := [27, 16, 40, 159, 0, 9, 27, 16, 41, 160, 0, 7, 7, 167, 0, 4, 4, 181, 0, 105, 42, 27]
abbrev dktX8_go_7 : List UInt8 := dkwX8_go_7 ++ dktX8_go_8
def dkwX8_go_6 : List UInt8 := [27, 16, 59, 159, 0, 33, 27, 16, 60, 159, 0, 27, 27, 16, 61, 159, 0, 21, 27, 16, 62, 159, 0, 15]
abbrev dktX8_go_6 : List UInt8 := dkwX8_go_6 ++ dktX8_go_7
def dkwX8_go_5 : List UInt8 := [180, 0, 7, 42, 180, 0, 96, 46, 60, 27, 184, 0, 108, 154, 0, 71, 27, 184, 0, 112, 154, 0, 64, 42]
abbrev dktX8_go_5 : List UInt8 := dkwX8_go_5 ++ dktX8_go_6
def dkwX8_go_4 : List UInt8 := [181, 0, 105, 177, 42, 180, 0, 96, 42, 180, 0, 93, 161, 0, 9, 42, 3, 181, 0, 105, 177, 42]
abbrev dktX8_go_4 : List UInt8 := dkwX8_go_4 ++ dktX8_go_5
def dkwX8_go_3 : List UInt8 := [164, 0, 28, 42, 180, 0, 99, 42, 180, 0, 102, 161, 0, 17, 42, 42, 180, 0, 102, 181, 0, 99, 42, 4]
abbrev dktX8_go_3 : List UInt8 := dkwX8_go_3 ++ dktX8_go_4
def dkwX8_go_2 : List UInt8 := [181, 0, 96, 167, 255, 207, 42, 42, 180, 0, 96, 181, 0, 99, 42, 180, 0, 93, 42, 180, 0, 102]
abbrev dktX8_go_2 : List UInt8 := dkwX8_go_2 ++ dktX8_go_3
def dkwX8_go_1 : List UInt8 := [159, 0, 17, 42, 180, 0, 7, 42, 180, 0, 96, 46, 16, 10, 160, 0, 16, 42, 89, 180, 0, 96, 4, 96]
abbrev dktX8_go_1 : List UInt8 := dkwX8_go_1 ++ dktX8_go_2
def dkwX8_go_0 : List UInt8 := [42, 180, 0, 96, 42, 180, 0, 93, 162, 0, 44, 42, 180, 0, 7, 42, 180, 0, 96, 46, 16, 32]
abbrev dktX8_go_0 : List UInt8 := dkwX8_go_0 ++ dktX8_go_1
theorem dksX8_go_0 : cX8_go.data.toList.drop 0 = dktX8_go_0 := by decide +kernel
theorem dksX8_go_1 : cX8_go.data.toList.drop 22 = dktX8_go_1 := dk_seg dksX8_go_0 22 rfl rfl
theorem dksX8_go_2 : cX8_go.data.toList.drop 46 = dktX8_go_2 := dk_seg dksX8_go_1 24 rfl rfl
theorem dksX8_go_3 : cX8_go.data.toList.drop 68 = dktX8_go_3 := dk_seg dksX8_go_2 22 rfl rfl
theorem dksX8_go_4 : cX8_go.data.toList.drop 92 = dktX8_go_4 := dk_seg dksX8_go_3 24 rfl rfl
theorem dksX8_go_5 : cX8_go.data.toList.drop 114 = dktX8_go_5 := dk_seg dksX8_go_4 22 rfl rfl
theorem dksX8_go_6 : cX8_go.data.toList.drop 138 = dktX8_go_6 := dk_seg dksX8_go_5 24 rfl rfl
theorem dksX8_go_7 : cX8_go.data.toList.drop 162 = dktX8_go_7 := dk_seg dksX8_go_6 24 rfl rfl
theorem dksX8_go_8 : cX8_go.data.toList.drop 184 = dktX8_go_8 := dk_seg dksX8_go_7 22 rfl rfl
theorem dksX8_go_9 : cX8_go.data.toList.drop 207 = dktX8_go_9 := dk_seg dksX8_go_8 23 rfl rfl
theorem dksX8_go_10 : cX8_go.data.toList.drop 231 = dktX8_go_10 := dk_seg dksX8_go_9 24 rfl rfl
theorem dksX8_go_11 : cX8_go.data.toList.drop 255 = dktX8_go_11 := dk_seg dksX8_go_10 24 rfl rfl
theorem dksX8_go_12 : cX8_go.data.toList.drop 278 = dktX8_go_12 := dk_seg dksX8_go_11 23 rfl rfl
theorem dksX8_go_13 : cX8_go.data.toList.drop 300 = dktX8_go_13 := dk_seg dksX8_go_12 22 rfl rfl
theorem dksX8_go_14 : cX8_go.data.toList.drop 324 = dktX8_go_14 := dk_seg dksX8_go_13 24 rfl rfl
theorem dksX8_go_15 : cX8_go.data.toList.drop 347 = dktX8_go_15 := dk_seg dksX8_go_14 23 rfl rfl
theorem dksX8_go_16 : cX8_go.data.toList.drop 370 = dktX8_go_16 := dk_seg dksX8_go_15 23 rfl rfl
theorem dX8_go_0 : decode cX8_go 0 = .ok (.aload_n 0, 1) := dk_42 (dk_at dksX8_go_0 0 rfl rfl)
theorem dX8_go_1 : decode cX8_go 1 = .ok (.getfield 96, 3) := dk_180 0 96 (dk_at dksX8_go_0 1 rfl rfl)
theorem dX8_go_4 : decode cX8_go 4 = .ok (.aload_n 0, 1) := dk_42 (dk_at dksX8_go_0 4 rfl rfl)
theorem dX8_go_5 : decode cX8_go 5 = .ok (.getfield 93, 3) := dk_180 0 93 (dk_at dksX8_go_0 5 rfl rfl)
theorem dX8_go_8 : decode cX8_go 8 = .ok (.if_icmp .ge 44, 3) := dk_162 0 44 (dk_at dksX8_go_0 8 rfl rfl)
theorem dX8_go_11 : decode cX8_go 11 = .ok (.aload_n 0, 1) := dk_42 (dk_at dksX8_go_0 11 rfl rfl)
theorem dX8_go_12 : decode cX8_go 12 = .ok (.getfield 7, 3) := dk_180 0 7 (dk_at dksX8_go_0 12 rfl rfl)
theorem dX8_go_15 : decode cX8_go 15 = .ok (.aload_n 0, 1) := dk_42 (dk_at dksX8_go_0 15 rfl rfl)
theorem dX8_go_16 : decode cX8_go 16 = .ok (.getfield 96, 3) := dk_180 0 96 (dk_at dksX8_go_0 16 rfl rfl)
theorem dX8_go_19 : decode cX8_go 19 = .ok (.iaload, 1) := dk_46 (dk_at dksX8_go_0 19 rfl rfl)
theorem dX8_go_20 : decode cX8_go 20 = .ok (.bipush 32, 2) := dk_16 32 (dk_at dksX8_go_0 20 rfl rfl)
theorem dX8_go_22 : decode cX8_go 22 = .ok (.if_icmp .eq 17, 3) := dk_159 0 17 (dk_at dksX8_go_1 0 rfl rfl)
theorem dX8_go_25 : decode cX8_go 25 = .ok (.aload_n 0, 1) := dk_42 (dk_at dksX8_go_1 3 rfl rfl)
theorem dX8_go_26 : decode cX8_go 26 = .ok (.getfield 7, 3) := dk_180 0 7 (dk_at dksX8_go_1 4 rfl rfl)
theorem dX8_go_29 : decode cX8_go 29 = .ok (.aload_n 0, 1) := dk_42 (dk_at dksX8_go_1 7 rfl rfl)
theorem dX8_go_30 : decode cX8_go 30 = .ok (.getfield 96, 3) := dk_180 0 96 (dk_at dksX8_go_1 8 rfl rfl)
theorem dX8_go_33 : decode cX8_go 33 = .ok (.iaload, 1) := dk_46 (dk_at dksX8_go_1 11 rfl rfl)
theorem dX8_go_34 : decode cX8_go 34 = .ok (.bipush 10, 2) := dk_16 10 (dk_at dksX8_go_1 12 rfl rfl)
theorem dX8_go_36 : decode cX8_go 36 = .ok (.if_icmp .ne 16, 3) := dk_160 0 16 (dk_at dksX8_go_1 14 rfl rfl)
theorem dX8_go_39 : decode cX8_go 39 = .ok (.aload_n 0, 1) := dk_42 (dk_at dksX8_go_1 17 rfl rfl)
theorem dX8_go_40 : decode cX8_go 40 = .ok (.dup, 1) := dk_89 (dk_at dksX8_go_1 18 rfl rfl)
theorem dX8_go_41 : decode cX8_go 41 = .ok (.getfield 96, 3) := dk_180 0 96 (dk_at dksX8_go_1 19 rfl rfl)
theorem dX8_go_44 : decode cX8_go 44 = .ok (.iconst 1, 1) := dk_4 (dk_at dksX8_go_1 22 rfl rfl)
theorem dX8_go_45 : decode cX8_go 45 = .ok (.iadd, 1) := dk_96 (dk_at dksX8_go_1 23 rfl rfl)
theorem dX8_go_46 : decode cX8_go 46 = .ok (.putfield 96, 3) := dk_181 0 96 (dk_at dksX8_go_2 0 rfl rfl)
theorem dX8_go_49 : decode cX8_go 49 = .ok (.goto (-49), 3) := dk_167 255 207 (dk_at dksX8_go_2 3 rfl rfl)
theorem dX8_go_52 : decode cX8_go 52 = .ok (.aload_n 0, 1) := dk_42 (dk_at dksX8_go_2 6 rfl rfl)
theorem dX8_go_53 : decode cX8_go 53 = .ok (.aload_n 0, 1) := dk_42 (dk_at dksX8_go_2 7 rfl rfl)
theorem dX8_go_54 : decode cX8_go 54 = .ok (.getfield 96, 3) := dk_180 0 96 (dk_at dksX8_go_2 8 rfl rfl)
theorem dX8_go_57 : decode cX8_go 57 = .ok (.putfield 99, 3) := dk_181 0 99 (dk_at dksX8_go_2 11 rfl rfl)
theorem dX8_go_60 : decode cX8_go 60 = .ok (.aload_n 0, 1) := dk_42 (dk_at dksX8_go_2 14 rfl rfl)
theorem dX8_go_61 : decode cX8_go 61 = .ok (.getfield 93, 3) := dk_180 0 93 (dk_at dksX8_go_2 15 rfl rfl)
theorem dX8_go_64 : decode cX8_go 64 = .ok (.aload_n 0, 1) := dk_42 (dk_at dksX8_go_2 18 rfl rfl)
theorem dX8_go_65 : decode cX8_go 65 = .ok (.getfield 102, 3) := dk_180 0 102 (dk_at dksX8_go_2 19 rfl rfl)
theorem dX8_go_68 : decode cX8_go 68 = .ok (.if_icmp .le 28, 3) := dk_164 0 28 (dk_at dksX8_go_3 0 rfl rfl)
theorem dX8_go_71 : decode cX8_go 71 = .ok (.aload_n 0, 1) := dk_42 (dk_at dksX8_go_3 3 rfl rfl)
theorem dX8_go_72 : decode cX8_go 72 = .ok (.getfield 99, 3) := dk_180 0 99 (dk_at dksX8_go_3 4 rfl rfl)
theorem dX8_go_75 : decode cX8_go 75 = .ok (.aload_n 0, 1) := dk_42 (dk_at dksX8_go_3 7 rfl rfl)
theorem dX8_go_76 : decode cX8_go 76 = .ok (.getfield 102, 3) := dk_180 0 102 (dk_at dksX8_go_3 8 rfl rfl)
theorem dX8_go_79 : decode cX8_go 79 = .ok (.if_icmp .lt 17, 3) := dk_161 0 17 (dk_at dksX8_go_3 11 rfl rfl)
theorem dX8_go_82 : decode cX8_go 82 = .ok (.aload_n 0, 1) := dk_42 (dk_at dksX8_go_3 14 rfl rfl)
theorem dX8_go_83 : decode cX8_go 83 = .ok (.aload_n 0, 1) := dk_42 (dk_at dksX8_go_3 15 rfl rfl)
theorem dX8_go_84 : decode cX8_go 84 = .ok (.getfield 102, 3) := dk_180 0 102 (dk_at dksX8_go_3 16 rfl rfl)
theorem dX8_go_87 : decode cX8_go 87 = .ok (.putfield 99, 3) := dk_181 0 99 (dk_at dksX8_go_3 19 rfl rfl)
theorem dX8_go_90 : decode cX8_go 90 = .ok (.aload_n 0, 1) := dk_42 (dk_at dksX8_go_3 22 rfl rfl)
theorem dX8_go_91 : decode cX8_go 91 = .ok (.iconst 1, 1) := dk_4 (dk_at dksX8_go_3 23 rfl rfl)
theorem dX8_go_92 : decode cX8_go 92 = .ok (.putfield 105, 3) := dk_181 0 105 (dk_at dksX8_go_4 0 rfl rfl)
theorem dX8_go_95 : decode cX8_go 95 = .ok (.return_, 1) := dk_177 (dk_at dksX8_go_4 3 rfl rfl)
theorem dX8_go_96 : decode cX8_go 96 = .ok (.aload_n 0, 1) := dk_42 (dk_at dksX8_go_4 4 rfl rfl)
theorem dX8_go_97 : decode cX8_go 97 = .ok (.getfield 96, 3) := dk_180 0 96 (dk_at dksX8_go_4 5 rfl rfl)
theorem dX8_go_100 : decode cX8_go 100 = .ok (.aload_n 0, 1) := dk_42 (dk_at dksX8_go_4 8 rfl rfl)
theorem dX8_go_101 : decode cX8_go 101 = .ok (.getfield 93, 3) := dk_180 0 93 (dk_at dksX8_go_4 9 rfl rfl)
theorem dX8_go_104 : decode cX8_go 104 = .ok (.if_icmp .lt 9, 3) := dk_161 0 9 (dk_at dksX8_go_4 12 rfl rfl)
theorem dX8_go_107 : decode cX8_go 107 = .ok (.aload_n 0, 1) := dk_42 (dk_at dksX8_go_4 15 rfl rfl)
theorem dX8_go_108 : decode cX8_go 108 = .ok (.iconst 0, 1) := dk_3 (dk_at dksX8_go_4 16 rfl rfl)
theorem dX8_go_109 : decode cX8_go 109 = .ok (.putfield 105, 3) := dk_181 0 105 (dk_at dksX8_go_4 17 rfl rfl)
theorem dX8_go_112 : decode cX8_go 112 = .ok (.return_, 1) := dk_177 (dk_at dksX8_go_4 20 rfl rfl)
theorem dX8_go_113 : decode cX8_go 113 = .ok (.aload_n 0, 1) := dk_42 (dk_at dksX8_go_4 21 rfl rfl)
theorem dX8_go_114 : decode cX8_go 114 = .ok (.getfield 7, 3) := dk_180 0 7 (dk_at dksX8_go_5 0 rfl rfl)
theorem dX8_go_117 : decode cX8_go 117 = .ok (.aload_n 0, 1) := dk_42 (dk_at dksX8_go_5 3 rfl rfl)
theorem dX8_go_118 : decode cX8_go 118 = .ok (.getfield 96, 3) := dk_180 0 96 (dk_at dksX8_go_5 4 rfl rfl)
theorem dX8_go_121 : decode cX8_go 121 = .ok (.iaload, 1) := dk_46 (dk_at dksX8_go_5 7 rfl rfl)
theorem dX8_go_122 : decode cX8_go 122 = .ok (.istore_n 1, 1) := dk_60 (dk_at dksX8_go_5 8 rfl rfl)
theorem dX8_go_123 : decode cX8_go 123 = .ok (.iload_n 1, 1) := dk_27 (dk_at dksX8_go_5 9 rfl rfl)
theorem dX8_go_124 : decode cX8_go 124 = .ok (.invokestatic 108, 3) := dk_184 0 108 (dk_at dksX8_go_5 10 rfl rfl)
theorem dX8_go_127 : decode cX8_go 127 = .ok (.ifCond .ne 71, 3) := dk_154 0 71 (dk_at dksX8_go_5 13 rfl rfl)
theorem dX8_go_130 : decode cX8_go 130 = .ok (.iload_n 1, 1) := dk_27 (dk_at dksX8_go_5 16 rfl rfl)
theorem dX8_go_131 : decode cX8_go 131 = .ok (.invokestatic 112, 3) := dk_184 0 112 (dk_at dksX8_go_5 17 rfl rfl)
theorem dX8_go_134 : decode cX8_go 134 = .ok (.ifCond .ne 64, 3) := dk_154 0 64 (dk_at dksX8_go_5 20 rfl rfl)
theorem dX8_go_137 : decode cX8_go 137 = .ok (.aload_n 0, 1) := dk_42 (dk_at dksX8_go_5 23 rfl rfl)
theorem dX8_go_138 : decode cX8_go 138 = .ok (.iload_n 1, 1) := dk_27 (dk_at dksX8_go_6 0 rfl rfl)
theorem dX8_go_139 : decode cX8_go 139 = .ok (.bipush 59, 2) := dk_16 59 (dk_at dksX8_go_6 1 rfl rfl)
theorem dX8_go_141 : decode cX8_go 141 = .ok (.if_icmp .eq 33, 3) := dk_159 0 33 (dk_at dksX8_go_6 3 rfl rfl)
theorem dX8_go_144 : decode cX8_go 144 = .ok (.iload_n 1, 1) := dk_27 (dk_at dksX8_go_6 6 rfl rfl)
theorem dX8_go_145 : decode cX8_go 145 = .ok (.bipush 60, 2) := dk_16 60 (dk_at dksX8_go_6 7 rfl rfl)
theorem dX8_go_147 : decode cX8_go 147 = .ok (.if_icmp .eq 27, 3) := dk_159 0 27 (dk_at dksX8_go_6 9 rfl rfl)
theorem dX8_go_150 : decode cX8_go 150 = .ok (.iload_n 1, 1) := dk_27 (dk_at dksX8_go_6 12 rfl rfl)
theorem dX8_go_151 : decode cX8_go 151 = .ok (.bipush 61, 2) := dk_16 61 (dk_at dksX8_go_6 13 rfl rfl)
theorem dX8_go_153 : decode cX8_go 153 = .ok (.if_icmp .eq 21, 3) := dk_159 0 21 (dk_at dksX8_go_6 15 rfl rfl)
theorem dX8_go_156 : decode cX8_go 156 = .ok (.iload_n 1, 1) := dk_27 (dk_at dksX8_go_6 18 rfl rfl)
theorem dX8_go_157 : decode cX8_go 157 = .ok (.bipush 62, 2) := dk_16 62 (dk_at dksX8_go_6 19 rfl rfl)
theorem dX8_go_159 : decode cX8_go 159 = .ok (.if_icmp .eq 15, 3) := dk_159 0 15 (dk_at dksX8_go_6 21 rfl rfl)
theorem dX8_go_162 : decode cX8_go 162 = .ok (.iload_n 1, 1) := dk_27 (dk_at dksX8_go_7 0 rfl rfl)
theorem dX8_go_163 : decode cX8_go 163 = .ok (.bipush 40, 2) := dk_16 40 (dk_at dksX8_go_7 1 rfl rfl)
theorem dX8_go_165 : decode cX8_go 165 = .ok (.if_icmp .eq 9, 3) := dk_159 0 9 (dk_at dksX8_go_7 3 rfl rfl)
theorem dX8_go_168 : decode cX8_go 168 = .ok (.iload_n 1, 1) := dk_27 (dk_at dksX8_go_7 6 rfl rfl)
theorem dX8_go_169 : decode cX8_go 169 = .ok (.bipush 41, 2) := dk_16 41 (dk_at dksX8_go_7 7 rfl rfl)
theorem dX8_go_171 : decode cX8_go 171 = .ok (.if_icmp .ne 7, 3) := dk_160 0 7 (dk_at dksX8_go_7 9 rfl rfl)
theorem dX8_go_174 : decode cX8_go 174 = .ok (.iconst 4, 1) := dk_7 (dk_at dksX8_go_7 12 rfl rfl)
theorem dX8_go_175 : decode cX8_go 175 = .ok (.goto 4, 3) := dk_167 0 4 (dk_at dksX8_go_7 13 rfl rfl)
theorem dX8_go_178 : decode cX8_go 178 = .ok (.iconst 1, 1) := dk_4 (dk_at dksX8_go_7 16 rfl rfl)
theorem dX8_go_179 : decode cX8_go 179 = .ok (.putfield 105, 3) := dk_181 0 105 (dk_at dksX8_go_7 17 rfl rfl)
theorem dX8_go_182 : decode cX8_go 182 = .ok (.aload_n 0, 1) := dk_42 (dk_at dksX8_go_7 20 rfl rfl)
theorem dX8_go_183 : decode cX8_go 183 = .ok (.iload_n 1, 1) := dk_27 (dk_at dksX8_go_7 21 rfl rfl)
theorem dX8_go_184 : decode cX8_go 184 = .ok (.putfield 115, 3) := dk_181 0 115 (dk_at dksX8_go_8 0 rfl rfl)
theorem dX8_go_187 : decode cX8_go 187 = .ok (.aload_n 0, 1) := dk_42 (dk_at dksX8_go_8 3 rfl rfl)
theorem dX8_go_188 : decode cX8_go 188 = .ok (.dup, 1) := dk_89 (dk_at dksX8_go_8 4 rfl rfl)
theorem dX8_go_189 : decode cX8_go 189 = .ok (.getfield 96, 3) := dk_180 0 96 (dk_at dksX8_go_8 5 rfl rfl)
theorem dX8_go_192 : decode cX8_go 192 = .ok (.iconst 1, 1) := dk_4 (dk_at dksX8_go_8 8 rfl rfl)
theorem dX8_go_193 : decode cX8_go 193 = .ok (.iadd, 1) := dk_96 (dk_at dksX8_go_8 9 rfl rfl)
theorem dX8_go_194 : decode cX8_go 194 = .ok (.putfield 96, 3) := dk_181 0 96 (dk_at dksX8_go_8 10 rfl rfl)
theorem dX8_go_197 : decode cX8_go 197 = .ok (.return_, 1) := dk_177 (dk_at dksX8_go_8 13 rfl rfl)
theorem dX8_go_198 : decode cX8_go 198 = .ok (.iload_n 1, 1) := dk_27 (dk_at dksX8_go_8 14 rfl rfl)
theorem dX8_go_199 : decode cX8_go 199 = .ok (.invokestatic 108, 3) := dk_184 0 108 (dk_at dksX8_go_8 15 rfl rfl)
theorem dX8_go_202 : decode cX8_go 202 = .ok (.istore_n 2, 1) := dk_61 (dk_at dksX8_go_8 18 rfl rfl)
theorem dX8_go_203 : decode cX8_go 203 = .ok (.iconst 1, 1) := dk_4 (dk_at dksX8_go_8 19 rfl rfl)
theorem dX8_go_204 : decode cX8_go 204 = .ok (.istore_n 3, 1) := dk_62 (dk_at dksX8_go_8 20 rfl rfl)
theorem dX8_go_205 : decode cX8_go 205 = .ok (.aload_n 0, 1) := dk_42 (dk_at dksX8_go_8 21 rfl rfl)
theorem dX8_go_206 : decode cX8_go 206 = .ok (.lconst 0, 1) := dk_9 (dk_at dksX8_go_8 22 rfl rfl)
theorem dX8_go_207 : decode cX8_go 207 = .ok (.putfield 118, 3) := dk_181 0 118 (dk_at dksX8_go_9 0 rfl rfl)
theorem dX8_go_210 : decode cX8_go 210 = .ok (.aload_n 0, 1) := dk_42 (dk_at dksX8_go_9 3 rfl rfl)
theorem dX8_go_211 : decode cX8_go 211 = .ok (.iconst 0, 1) := dk_3 (dk_at dksX8_go_9 4 rfl rfl)
theorem dX8_go_212 : decode cX8_go 212 = .ok (.putfield 122, 3) := dk_181 0 122 (dk_at dksX8_go_9 5 rfl rfl)
theorem dX8_go_215 : decode cX8_go 215 = .ok (.aload_n 0, 1) := dk_42 (dk_at dksX8_go_9 8 rfl rfl)
theorem dX8_go_216 : decode cX8_go 216 = .ok (.aload_n 0, 1) := dk_42 (dk_at dksX8_go_9 9 rfl rfl)
theorem dX8_go_217 : decode cX8_go 217 = .ok (.getfield 96, 3) := dk_180 0 96 (dk_at dksX8_go_9 10 rfl rfl)
theorem dX8_go_220 : decode cX8_go 220 = .ok (.invokevirtual 125, 3) := dk_182 0 125 (dk_at dksX8_go_9 13 rfl rfl)
theorem dX8_go_223 : decode cX8_go 223 = .ok (.invokestatic 108, 3) := dk_184 0 108 (dk_at dksX8_go_9 16 rfl rfl)
theorem dX8_go_226 : decode cX8_go 226 = .ok (.ifCond .ne 17, 3) := dk_154 0 17 (dk_at dksX8_go_9 19 rfl rfl)
theorem dX8_go_229 : decode cX8_go 229 = .ok (.aload_n 0, 1) := dk_42 (dk_at dksX8_go_9 22 rfl rfl)
theorem dX8_go_230 : decode cX8_go 230 = .ok (.aload_n 0, 1) := dk_42 (dk_at dksX8_go_9 23 rfl rfl)
theorem dX8_go_231 : decode cX8_go 231 = .ok (.getfield 96, 3) := dk_180 0 96 (dk_at dksX8_go_10 0 rfl rfl)
theorem dX8_go_234 : decode cX8_go 234 = .ok (.invokevirtual 125, 3) := dk_182 0 125 (dk_at dksX8_go_10 3 rfl rfl)
theorem dX8_go_237 : decode cX8_go 237 = .ok (.invokestatic 112, 3) := dk_184 0 112 (dk_at dksX8_go_10 6 rfl rfl)
theorem dX8_go_240 : decode cX8_go 240 = .ok (.ifCond .eq 110, 3) := dk_153 0 110 (dk_at dksX8_go_10 9 rfl rfl)
theorem dX8_go_243 : decode cX8_go 243 = .ok (.aload_n 0, 1) := dk_42 (dk_at dksX8_go_10 12 rfl rfl)
theorem dX8_go_244 : decode cX8_go 244 = .ok (.getfield 7, 3) := dk_180 0 7 (dk_at dksX8_go_10 13 rfl rfl)
theorem dX8_go_247 : decode cX8_go 247 = .ok (.aload_n 0, 1) := dk_42 (dk_at dksX8_go_10 16 rfl rfl)
theorem dX8_go_248 : decode cX8_go 248 = .ok (.getfield 96, 3) := dk_180 0 96 (dk_at dksX8_go_10 17 rfl rfl)
theorem dX8_go_251 : decode cX8_go 251 = .ok (.iaload, 1) := dk_46 (dk_at dksX8_go_10 20 rfl rfl)
theorem dX8_go_252 : decode cX8_go 252 = .ok (.istore 4, 2) := dk_54 4 (dk_at dksX8_go_10 21 rfl rfl)
theorem dX8_go_254 : decode cX8_go 254 = .ok (.iload_n 3, 1) := dk_29 (dk_at dksX8_go_10 23 rfl rfl)
theorem dX8_go_255 : decode cX8_go 255 = .ok (.ifCond .eq 16, 3) := dk_153 0 16 (dk_at dksX8_go_11 0 rfl rfl)
theorem dX8_go_258 : decode cX8_go 258 = .ok (.iload 4, 2) := dk_21 4 (dk_at dksX8_go_11 3 rfl rfl)
theorem dX8_go_260 : decode cX8_go 260 = .ok (.invokestatic 108, 3) := dk_184 0 108 (dk_at dksX8_go_11 5 rfl rfl)
theorem dX8_go_263 : decode cX8_go 263 = .ok (.iload_n 2, 1) := dk_28 (dk_at dksX8_go_11 8 rfl rfl)
theorem dX8_go_264 : decode cX8_go 264 = .ok (.if_icmp .ne 7, 3) := dk_160 0 7 (dk_at dksX8_go_11 9 rfl rfl)
theorem dX8_go_267 : decode cX8_go 267 = .ok (.iconst 1, 1) := dk_4 (dk_at dksX8_go_11 12 rfl rfl)
theorem dX8_go_268 : decode cX8_go 268 = .ok (.goto 4, 3) := dk_167 0 4 (dk_at dksX8_go_11 13 rfl rfl)
theorem dX8_go_271 : decode cX8_go 271 = .ok (.iconst 0, 1) := dk_3 (dk_at dksX8_go_11 16 rfl rfl)
theorem dX8_go_272 : decode cX8_go 272 = .ok (.istore_n 3, 1) := dk_62 (dk_at dksX8_go_11 17 rfl rfl)
theorem dX8_go_273 : decode cX8_go 273 = .ok (.aload_n 0, 1) := dk_42 (dk_at dksX8_go_11 18 rfl rfl)
theorem dX8_go_274 : decode cX8_go 274 = .ok (.getfield 96, 3) := dk_180 0 96 (dk_at dksX8_go_11 19 rfl rfl)
theorem dX8_go_277 : decode cX8_go 277 = .ok (.aload_n 0, 1) := dk_42 (dk_at dksX8_go_11 22 rfl rfl)
theorem dX8_go_278 : decode cX8_go 278 = .ok (.getfield 99, 3) := dk_180 0 99 (dk_at dksX8_go_12 0 rfl rfl)
theorem dX8_go_281 : decode cX8_go 281 = .ok (.isub, 1) := dk_100 (dk_at dksX8_go_12 3 rfl rfl)
theorem dX8_go_282 : decode cX8_go 282 = .ok (.bipush 6, 2) := dk_16 6 (dk_at dksX8_go_12 4 rfl rfl)
theorem dX8_go_284 : decode cX8_go 284 = .ok (.if_icmp .ge 23, 3) := dk_162 0 23 (dk_at dksX8_go_12 6 rfl rfl)
theorem dX8_go_287 : decode cX8_go 287 = .ok (.aload_n 0, 1) := dk_42 (dk_at dksX8_go_12 9 rfl rfl)
theorem dX8_go_288 : decode cX8_go 288 = .ok (.ldc2_w 129, 3) := dk_20 0 129 (dk_at dksX8_go_12 10 rfl rfl)
theorem dX8_go_291 : decode cX8_go 291 = .ok (.aload_n 0, 1) := dk_42 (dk_at dksX8_go_12 13 rfl rfl)
theorem dX8_go_292 : decode cX8_go 292 = .ok (.getfield 118, 3) := dk_180 0 118 (dk_at dksX8_go_12 14 rfl rfl)
theorem dX8_go_295 : decode cX8_go 295 = .ok (.lmul, 1) := dk_105 (dk_at dksX8_go_12 17 rfl rfl)
theorem dX8_go_296 : decode cX8_go 296 = .ok (.iload 4, 2) := dk_21 4 (dk_at dksX8_go_12 18 rfl rfl)
theorem dX8_go_298 : decode cX8_go 298 = .ok (.i2l, 1) := dk_133 (dk_at dksX8_go_12 20 rfl rfl)
theorem dX8_go_299 : decode cX8_go 299 = .ok (.ladd, 1) := dk_97 (dk_at dksX8_go_12 21 rfl rfl)
theorem dX8_go_300 : decode cX8_go 300 = .ok (.ldc2_w 131, 3) := dk_20 0 131 (dk_at dksX8_go_13 0 rfl rfl)
theorem dX8_go_303 : decode cX8_go 303 = .ok (.lsub, 1) := dk_101 (dk_at dksX8_go_13 3 rfl rfl)
theorem dX8_go_304 : decode cX8_go 304 = .ok (.putfield 118, 3) := dk_181 0 118 (dk_at dksX8_go_13 4 rfl rfl)
theorem dX8_go_307 : decode cX8_go 307 = .ok (.aload_n 0, 1) := dk_42 (dk_at dksX8_go_13 7 rfl rfl)
theorem dX8_go_308 : decode cX8_go 308 = .ok (.getfield 96, 3) := dk_180 0 96 (dk_at dksX8_go_13 8 rfl rfl)
theorem dX8_go_311 : decode cX8_go 311 = .ok (.aload_n 0, 1) := dk_42 (dk_at dksX8_go_13 11 rfl rfl)
theorem dX8_go_312 : decode cX8_go 312 = .ok (.getfield 99, 3) := dk_180 0 99 (dk_at dksX8_go_13 12 rfl rfl)
theorem dX8_go_315 : decode cX8_go 315 = .ok (.isub, 1) := dk_100 (dk_at dksX8_go_13 15 rfl rfl)
theorem dX8_go_316 : decode cX8_go 316 = .ok (.iconst 4, 1) := dk_7 (dk_at dksX8_go_13 16 rfl rfl)
theorem dX8_go_317 : decode cX8_go 317 = .ok (.if_icmp .ge 20, 3) := dk_162 0 20 (dk_at dksX8_go_13 17 rfl rfl)
theorem dX8_go_320 : decode cX8_go 320 = .ok (.aload_n 0, 1) := dk_42 (dk_at dksX8_go_13 20 rfl rfl)
theorem dX8_go_321 : decode cX8_go 321 = .ok (.bipush 10, 2) := dk_16 10 (dk_at dksX8_go_13 21 rfl rfl)
theorem dX8_go_323 : decode cX8_go 323 = .ok (.aload_n 0, 1) := dk_42 (dk_at dksX8_go_13 23 rfl rfl)
theorem dX8_go_324 : decode cX8_go 324 = .ok (.getfield 122, 3) := dk_180 0 122 (dk_at dksX8_go_14 0 rfl rfl)
theorem dX8_go_327 : decode cX8_go 327 = .ok (.imul, 1) := dk_104 (dk_at dksX8_go_14 3 rfl rfl)
theorem dX8_go_328 : decode cX8_go 328 = .ok (.iload 4, 2) := dk_21 4 (dk_at dksX8_go_14 4 rfl rfl)
theorem dX8_go_330 : decode cX8_go 330 = .ok (.iadd, 1) := dk_96 (dk_at dksX8_go_14 6 rfl rfl)
theorem dX8_go_331 : decode cX8_go 331 = .ok (.bipush 48, 2) := dk_16 48 (dk_at dksX8_go_14 7 rfl rfl)
theorem dX8_go_333 : decode cX8_go 333 = .ok (.isub, 1) := dk_100 (dk_at dksX8_go_14 9 rfl rfl)
theorem dX8_go_334 : decode cX8_go 334 = .ok (.putfield 122, 3) := dk_181 0 122 (dk_at dksX8_go_14 10 rfl rfl)
theorem dX8_go_337 : decode cX8_go 337 = .ok (.aload_n 0, 1) := dk_42 (dk_at dksX8_go_14 13 rfl rfl)
theorem dX8_go_338 : decode cX8_go 338 = .ok (.dup, 1) := dk_89 (dk_at dksX8_go_14 14 rfl rfl)
theorem dX8_go_339 : decode cX8_go 339 = .ok (.getfield 96, 3) := dk_180 0 96 (dk_at dksX8_go_14 15 rfl rfl)
theorem dX8_go_342 : decode cX8_go 342 = .ok (.iconst 1, 1) := dk_4 (dk_at dksX8_go_14 18 rfl rfl)
theorem dX8_go_343 : decode cX8_go 343 = .ok (.iadd, 1) := dk_96 (dk_at dksX8_go_14 19 rfl rfl)
theorem dX8_go_344 : decode cX8_go 344 = .ok (.putfield 96, 3) := dk_181 0 96 (dk_at dksX8_go_14 20 rfl rfl)
theorem dX8_go_347 : decode cX8_go 347 = .ok (.goto (-132), 3) := dk_167 255 124 (dk_at dksX8_go_15 0 rfl rfl)
theorem dX8_go_350 : decode cX8_go 350 = .ok (.aload_n 0, 1) := dk_42 (dk_at dksX8_go_15 3 rfl rfl)
theorem dX8_go_351 : decode cX8_go 351 = .ok (.iload_n 3, 1) := dk_29 (dk_at dksX8_go_15 4 rfl rfl)
theorem dX8_go_352 : decode cX8_go 352 = .ok (.ifCond .eq 25, 3) := dk_153 0 25 (dk_at dksX8_go_15 5 rfl rfl)
theorem dX8_go_355 : decode cX8_go 355 = .ok (.aload_n 0, 1) := dk_42 (dk_at dksX8_go_15 8 rfl rfl)
theorem dX8_go_356 : decode cX8_go 356 = .ok (.getfield 96, 3) := dk_180 0 96 (dk_at dksX8_go_15 9 rfl rfl)
theorem dX8_go_359 : decode cX8_go 359 = .ok (.aload_n 0, 1) := dk_42 (dk_at dksX8_go_15 12 rfl rfl)
theorem dX8_go_360 : decode cX8_go 360 = .ok (.getfield 99, 3) := dk_180 0 99 (dk_at dksX8_go_15 13 rfl rfl)
theorem dX8_go_363 : decode cX8_go 363 = .ok (.isub, 1) := dk_100 (dk_at dksX8_go_15 16 rfl rfl)
theorem dX8_go_364 : decode cX8_go 364 = .ok (.iload_n 2, 1) := dk_28 (dk_at dksX8_go_15 17 rfl rfl)
theorem dX8_go_365 : decode cX8_go 365 = .ok (.ifCond .eq 8, 3) := dk_153 0 8 (dk_at dksX8_go_15 18 rfl rfl)
theorem dX8_go_368 : decode cX8_go 368 = .ok (.bipush 6, 2) := dk_16 6 (dk_at dksX8_go_15 21 rfl rfl)
theorem dX8_go_370 : decode cX8_go 370 = .ok (.goto 4, 3) := dk_167 0 4 (dk_at dksX8_go_16 0 rfl rfl)
theorem dX8_go_373 : decode cX8_go 373 = .ok (.iconst 4, 1) := dk_7 (dk_at dksX8_go_16 3 rfl rfl)
theorem dX8_go_374 : decode cX8_go 374 = .ok (.if_icmp .le 7, 3) := dk_164 0 7 (dk_at dksX8_go_16 4 rfl rfl)
theorem dX8_go_377 : decode cX8_go 377 = .ok (.iconst 1, 1) := dk_4 (dk_at dksX8_go_16 7 rfl rfl)
theorem dX8_go_378 : decode cX8_go 378 = .ok (.goto 12, 3) := dk_167 0 12 (dk_at dksX8_go_16 8 rfl rfl)
theorem dX8_go_381 : decode cX8_go 381 = .ok (.iload_n 2, 1) := dk_28 (dk_at dksX8_go_16 11 rfl rfl)
theorem dX8_go_382 : decode cX8_go 382 = .ok (.ifCond .eq 7, 3) := dk_153 0 7 (dk_at dksX8_go_16 12 rfl rfl)
theorem dX8_go_385 : decode cX8_go 385 = .ok (.iconst 2, 1) := dk_5 (dk_at dksX8_go_16 15 rfl rfl)
theorem dX8_go_386 : decode cX8_go 386 = .ok (.goto 4, 3) := dk_167 0 4 (dk_at dksX8_go_16 16 rfl rfl)
theorem dX8_go_389 : decode cX8_go 389 = .ok (.iconst 3, 1) := dk_6 (dk_at dksX8_go_16 19 rfl rfl)
theorem dX8_go_390 : decode cX8_go 390 = .ok (.putfield 105, 3) := dk_181 0 105 (dk_at dksX8_go_16 20 rfl rfl)
theorem dX8_go_393 : decode cX8_go 393 = .ok (.return_, 1) := dk_177 (dk_at dksX8_go_16 23 rfl rfl)
abbrev cX8_isLetter : ByteArray := prog_18_method_12_code
def yX8_isLetter : MethodName := ⟨RX8, "isLetter", "(I)Z"⟩
def dkwX8_isLetter_0 : List UInt8 := [26, 16, 97, 161, 0, 13, 26, 16, 122, 163, 0, 7, 4, 167, 0, 4, 3, 172]
abbrev dktX8_isLetter_0 : List UInt8 := dkwX8_isLetter_0 ++ []
theorem dksX8_isLetter_0 : cX8_isLetter.data.toList.drop 0 = dktX8_isLetter_0 := by decide +kernel
theorem dX8_isLetter_0 : decode cX8_isLetter 0 = .ok (.iload_n 0, 1) := dk_26 (dk_at dksX8_isLetter_0 0 rfl rfl)
theorem dX8_isLetter_1 : decode cX8_isLetter 1 = .ok (.bipush 97, 2) := dk_16 97 (dk_at dksX8_isLetter_0 1 rfl rfl)
theorem dX8_isLetter_3 : decode cX8_isLetter 3 = .ok (.if_icmp .lt 13, 3) := dk_161 0 13 (dk_at dksX8_isLetter_0 3 rfl rfl)
theorem dX8_isLetter_6 : decode cX8_isLetter 6 = .ok (.iload_n 0, 1) := dk_26 (dk_at dksX8_isLetter_0 6 rfl rfl)
theorem dX8_isLetter_7 : decode cX8_isLetter 7 = .ok (.bipush 122, 2) := dk_16 122 (dk_at dksX8_isLetter_0 7 rfl rfl)
theorem dX8_isLetter_9 : decode cX8_isLetter 9 = .ok (.if_icmp .gt 7, 3) := dk_163 0 7 (dk_at dksX8_isLetter_0 9 rfl rfl)
theorem dX8_isLetter_12 : decode cX8_isLetter 12 = .ok (.iconst 1, 1) := dk_4 (dk_at dksX8_isLetter_0 12 rfl rfl)
theorem dX8_isLetter_13 : decode cX8_isLetter 13 = .ok (.goto 4, 3) := dk_167 0 4 (dk_at dksX8_isLetter_0 13 rfl rfl)
theorem dX8_isLetter_16 : decode cX8_isLetter 16 = .ok (.iconst 0, 1) := dk_3 (dk_at dksX8_isLetter_0 16 rfl rfl)
theorem dX8_isLetter_17 : decode cX8_isLetter 17 = .ok (.ireturn, 1) := dk_172 (dk_at dksX8_isLetter_0 17 rfl rfl)
abbrev cX8_isDigit : ByteArray := prog_18_method_11_code
def yX8_isDigit : MethodName := ⟨RX8, "isDigit", "(I)Z"⟩
def dkwX8_isDigit_0 : List UInt8 := [26, 16, 48, 161, 0, 13, 26, 16, 57, 163, 0, 7, 4, 167, 0, 4, 3, 172]
abbrev dktX8_isDigit_0 : List UInt8 := dkwX8_isDigit_0 ++ []
theorem dksX8_isDigit_0 : cX8_isDigit.data.toList.drop 0 = dktX8_isDigit_0 := by decide +kernel
theorem dX8_isDigit_0 : decode cX8_isDigit 0 = .ok (.iload_n 0, 1) := dk_26 (dk_at dksX8_isDigit_0 0 rfl rfl)
theorem dX8_isDigit_1 : decode cX8_isDigit 1 = .ok (.bipush 48, 2) := dk_16 48 (dk_at dksX8_isDigit_0 1 rfl rfl)
theorem dX8_isDigit_3 : decode cX8_isDigit 3 = .ok (.if_icmp .lt 13, 3) := dk_161 0 13 (dk_at dksX8_isDigit_0 3 rfl rfl)
theorem dX8_isDigit_6 : decode cX8_isDigit 6 = .ok (.iload_n 0, 1) := dk_26 (dk_at dksX8_isDigit_0 6 rfl rfl)
theorem dX8_isDigit_7 : decode cX8_isDigit 7 = .ok (.bipush 57, 2) := dk_16 57 (dk_at dksX8_isDigit_0 7 rfl rfl)
theorem dX8_isDigit_9 : decode cX8_isDigit 9 = .ok (.if_icmp .gt 7, 3) := dk_163 0 7 (dk_at dksX8_isDigit_0 9 rfl rfl)
theorem dX8_isDigit_12 : decode cX8_isDigit 12 = .ok (.iconst 1, 1) := dk_4 (dk_at dksX8_isDigit_0 12 rfl rfl)
theorem dX8_isDigit_13 : decode cX8_isDigit 13 = .ok (.goto 4, 3) := dk_167 0 4 (dk_at dksX8_isDigit_0 13 rfl rfl)
theorem dX8_isDigit_16 : decode cX8_isDigit 16 = .ok (.iconst 0, 1) := dk_3 (dk_at dksX8_isDigit_0 16 rfl rfl)
theorem dX8_isDigit_17 : decode cX8_isDigit 17 = .ok (.ireturn, 1) := dk_172 (dk_at dksX8_isDigit_0 17 rfl rfl)
abbrev cX8_byteAt : ByteArray := prog_18_method_10_code
def yX8_byteAt : MethodName := ⟨RX8, "byteAt", "(I)I"⟩
def dkwX8_byteAt_0 : List UInt8 := [27, 42, 180, 0, 93, 162, 0, 12, 42, 180, 0, 7, 27, 46, 167, 0, 4, 3, 172]
abbrev dktX8_byteAt_0 : List UInt8 := dkwX8_byteAt_0 ++ []
theorem dksX8_byteAt_0 : cX8_byteAt.data.toList.drop 0 = dktX8_byteAt_0 := by decide +kernel
theorem dX8_byteAt_0 : decode cX8_byteAt 0 = .ok (.iload_n 1, 1) := dk_27 (dk_at dksX8_byteAt_0 0 rfl rfl)
theorem dX8_byteAt_1 : decode cX8_byteAt 1 = .ok (.aload_n 0, 1) := dk_42 (dk_at dksX8_byteAt_0 1 rfl rfl)
theorem dX8_byteAt_2 : decode cX8_byteAt 2 = .ok (.getfield 93, 3) := dk_180 0 93 (dk_at dksX8_byteAt_0 2 rfl rfl)
theorem dX8_byteAt_5 : decode cX8_byteAt 5 = .ok (.if_icmp .ge 12, 3) := dk_162 0 12 (dk_at dksX8_byteAt_0 5 rfl rfl)
theorem dX8_byteAt_8 : decode cX8_byteAt 8 = .ok (.aload_n 0, 1) := dk_42 (dk_at dksX8_byteAt_0 8 rfl rfl)
theorem dX8_byteAt_9 : decode cX8_byteAt 9 = .ok (.getfield 7, 3) := dk_180 0 7 (dk_at dksX8_byteAt_0 9 rfl rfl)
theorem dX8_byteAt_12 : decode cX8_byteAt 12 = .ok (.iload_n 1, 1) := dk_27 (dk_at dksX8_byteAt_0 12 rfl rfl)
theorem dX8_byteAt_13 : decode cX8_byteAt 13 = .ok (.iaload, 1) := dk_46 (dk_at dksX8_byteAt_0 13 rfl rfl)
theorem dX8_byteAt_14 : decode cX8_byteAt 14 = .ok (.goto 4, 3) := dk_167 0 4 (dk_at dksX8_byteAt_0 14 rfl rfl)
theorem dX8_byteAt_17 : decode cX8_byteAt 17 = .ok (.iconst 0, 1) := dk_3 (dk_at dksX8_byteAt_0 17 rfl rfl)
theorem dX8_byteAt_18 : decode cX8_byteAt 18 = .ok (.ireturn, 1) := dk_172 (dk_at dksX8_byteAt_0 18 rfl rfl)
abbrev cX8_readLine : ByteArray := prog_18_method_42_code
def yX8_readLine : MethodName := ⟨RX8, "readLine", "()Z"⟩
def dkwX8_readLine_6 : List UInt8 := [60, 27, 153, 0, 14, 42, 182, 0, 231, 153, 0, 7, 4, 167, 0, 4, 3, 172]
abbrev dktX8_readLine_6 : List UInt8 := dkwX8_readLine_6 ++ []
def dkwX8_readLine_5 : List UInt8 := [182, 0, 202, 153, 0, 16, 42, 6, 16, 6, 4, 16, 9, 182, 0, 227, 167, 0, 8, 42, 4, 182, 0, 151]
abbrev dktX8_readLine_5 : List UInt8 := dkwX8_readLine_5 ++ dktX8_readLine_6
def dkwX8_readLine_4 : List UInt8 := [182, 0, 202, 153, 0, 17, 42, 5, 8, 4, 17, 3, 231, 182, 0, 227, 60, 167, 0, 31, 42, 16, 8]
abbrev dktX8_readLine_4 : List UInt8 := dkwX8_readLine_4 ++ dktX8_readLine_5
def dkwX8_readLine_3 : List UInt8 := [182, 0, 202, 153, 0, 17, 42, 4, 7, 3, 17, 0, 200, 182, 0, 227, 60, 167, 0, 54, 42, 16, 7]
abbrev dktX8_readLine_3 : List UInt8 := dkwX8_readLine_3 ++ dktX8_readLine_4
def dkwX8_readLine_2 : List UInt8 := [42, 8, 182, 0, 202, 153, 0, 16, 42, 3, 6, 3, 16, 100, 182, 0, 227, 60, 167, 0, 77, 42, 16, 6]
abbrev dktX8_readLine_2 : List UInt8 := dkwX8_readLine_2 ++ dktX8_readLine_3
def dkwX8_readLine_1 : List UInt8 := [42, 182, 0, 221, 60, 167, 0, 114, 42, 7, 182, 0, 202, 153, 0, 11, 42, 182, 0, 224, 60, 167, 0, 98]
abbrev dktX8_readLine_1 : List UInt8 := dkwX8_readLine_1 ++ dktX8_readLine_2
def dkwX8_readLine_0 : List UInt8 := [42, 3, 182, 0, 202, 153, 0, 11, 42, 182, 0, 218, 60, 167, 0, 130, 42, 6, 182, 0, 202, 153, 0, 11]
abbrev dktX8_readLine_0 : List UInt8 := dkwX8_readLine_0 ++ dktX8_readLine_1
theorem dksX8_readLine_0 : cX8_readLine.data.toList.drop 0 = dktX8_readLine_0 := by decide +kernel
theorem dksX8_readLine_1 : cX8_readLine.data.toList.drop 24 = dktX8_readLine_1 := dk_seg dksX8_readLine_0 24 rfl rfl
theorem dksX8_readLine_2 : cX8_readLine.data.toList.drop 48 = dktX8_readLine_2 := dk_seg dksX8_readLine_1 24 rfl rfl
theorem dksX8_readLine_3 : cX8_readLine.data.toList.drop 72 = dktX8_readLine_3 := dk_seg dksX8_readLine_2 24 rfl rfl
theorem dksX8_readLine_4 : cX8_readLine.data.toList.drop 95 = dktX8_readLine_4 := dk_seg dksX8_readLine_3 23 rfl rfl
theorem dksX8_readLine_5 : cX8_readLine.data.toList.drop 118 = dktX8_readLine_5 := dk_seg dksX8_readLine_4 23 rfl rfl
theorem dksX8_readLine_6 : cX8_readLine.data.toList.drop 142 = dktX8_readLine_6 := dk_seg dksX8_readLine_5 24 rfl rfl
theorem dX8_readLine_0 : decode cX8_readLine 0 = .ok (.aload_n 0, 1) := dk_42 (dk_at dksX8_readLine_0 0 rfl rfl)
theorem dX8_readLine_1 : decode cX8_readLine 1 = .ok (.iconst 0, 1) := dk_3 (dk_at dksX8_readLine_0 1 rfl rfl)
theorem dX8_readLine_2 : decode cX8_readLine 2 = .ok (.invokevirtual 202, 3) := dk_182 0 202 (dk_at dksX8_readLine_0 2 rfl rfl)
theorem dX8_readLine_5 : decode cX8_readLine 5 = .ok (.ifCond .eq 11, 3) := dk_153 0 11 (dk_at dksX8_readLine_0 5 rfl rfl)
theorem dX8_readLine_8 : decode cX8_readLine 8 = .ok (.aload_n 0, 1) := dk_42 (dk_at dksX8_readLine_0 8 rfl rfl)
theorem dX8_readLine_9 : decode cX8_readLine 9 = .ok (.invokevirtual 218, 3) := dk_182 0 218 (dk_at dksX8_readLine_0 9 rfl rfl)
theorem dX8_readLine_12 : decode cX8_readLine 12 = .ok (.istore_n 1, 1) := dk_60 (dk_at dksX8_readLine_0 12 rfl rfl)
theorem dX8_readLine_13 : decode cX8_readLine 13 = .ok (.goto 130, 3) := dk_167 0 130 (dk_at dksX8_readLine_0 13 rfl rfl)
theorem dX8_readLine_16 : decode cX8_readLine 16 = .ok (.aload_n 0, 1) := dk_42 (dk_at dksX8_readLine_0 16 rfl rfl)
theorem dX8_readLine_17 : decode cX8_readLine 17 = .ok (.iconst 3, 1) := dk_6 (dk_at dksX8_readLine_0 17 rfl rfl)
theorem dX8_readLine_18 : decode cX8_readLine 18 = .ok (.invokevirtual 202, 3) := dk_182 0 202 (dk_at dksX8_readLine_0 18 rfl rfl)
theorem dX8_readLine_21 : decode cX8_readLine 21 = .ok (.ifCond .eq 11, 3) := dk_153 0 11 (dk_at dksX8_readLine_0 21 rfl rfl)
theorem dX8_readLine_24 : decode cX8_readLine 24 = .ok (.aload_n 0, 1) := dk_42 (dk_at dksX8_readLine_1 0 rfl rfl)
theorem dX8_readLine_25 : decode cX8_readLine 25 = .ok (.invokevirtual 221, 3) := dk_182 0 221 (dk_at dksX8_readLine_1 1 rfl rfl)
theorem dX8_readLine_28 : decode cX8_readLine 28 = .ok (.istore_n 1, 1) := dk_60 (dk_at dksX8_readLine_1 4 rfl rfl)
theorem dX8_readLine_29 : decode cX8_readLine 29 = .ok (.goto 114, 3) := dk_167 0 114 (dk_at dksX8_readLine_1 5 rfl rfl)
theorem dX8_readLine_32 : decode cX8_readLine 32 = .ok (.aload_n 0, 1) := dk_42 (dk_at dksX8_readLine_1 8 rfl rfl)
theorem dX8_readLine_33 : decode cX8_readLine 33 = .ok (.iconst 4, 1) := dk_7 (dk_at dksX8_readLine_1 9 rfl rfl)
theorem dX8_readLine_34 : decode cX8_readLine 34 = .ok (.invokevirtual 202, 3) := dk_182 0 202 (dk_at dksX8_readLine_1 10 rfl rfl)
theorem dX8_readLine_37 : decode cX8_readLine 37 = .ok (.ifCond .eq 11, 3) := dk_153 0 11 (dk_at dksX8_readLine_1 13 rfl rfl)
theorem dX8_readLine_40 : decode cX8_readLine 40 = .ok (.aload_n 0, 1) := dk_42 (dk_at dksX8_readLine_1 16 rfl rfl)
theorem dX8_readLine_41 : decode cX8_readLine 41 = .ok (.invokevirtual 224, 3) := dk_182 0 224 (dk_at dksX8_readLine_1 17 rfl rfl)
theorem dX8_readLine_44 : decode cX8_readLine 44 = .ok (.istore_n 1, 1) := dk_60 (dk_at dksX8_readLine_1 20 rfl rfl)
theorem dX8_readLine_45 : decode cX8_readLine 45 = .ok (.goto 98, 3) := dk_167 0 98 (dk_at dksX8_readLine_1 21 rfl rfl)
theorem dX8_readLine_48 : decode cX8_readLine 48 = .ok (.aload_n 0, 1) := dk_42 (dk_at dksX8_readLine_2 0 rfl rfl)
theorem dX8_readLine_49 : decode cX8_readLine 49 = .ok (.iconst 5, 1) := dk_8 (dk_at dksX8_readLine_2 1 rfl rfl)
theorem dX8_readLine_50 : decode cX8_readLine 50 = .ok (.invokevirtual 202, 3) := dk_182 0 202 (dk_at dksX8_readLine_2 2 rfl rfl)
theorem dX8_readLine_53 : decode cX8_readLine 53 = .ok (.ifCond .eq 16, 3) := dk_153 0 16 (dk_at dksX8_readLine_2 5 rfl rfl)
theorem dX8_readLine_56 : decode cX8_readLine 56 = .ok (.aload_n 0, 1) := dk_42 (dk_at dksX8_readLine_2 8 rfl rfl)
theorem dX8_readLine_57 : decode cX8_readLine 57 = .ok (.iconst 0, 1) := dk_3 (dk_at dksX8_readLine_2 9 rfl rfl)
theorem dX8_readLine_58 : decode cX8_readLine 58 = .ok (.iconst 3, 1) := dk_6 (dk_at dksX8_readLine_2 10 rfl rfl)
theorem dX8_readLine_59 : decode cX8_readLine 59 = .ok (.iconst 0, 1) := dk_3 (dk_at dksX8_readLine_2 11 rfl rfl)
theorem dX8_readLine_60 : decode cX8_readLine 60 = .ok (.bipush 100, 2) := dk_16 100 (dk_at dksX8_readLine_2 12 rfl rfl)
theorem dX8_readLine_62 : decode cX8_readLine 62 = .ok (.invokevirtual 227, 3) := dk_182 0 227 (dk_at dksX8_readLine_2 14 rfl rfl)
theorem dX8_readLine_65 : decode cX8_readLine 65 = .ok (.istore_n 1, 1) := dk_60 (dk_at dksX8_readLine_2 17 rfl rfl)
theorem dX8_readLine_66 : decode cX8_readLine 66 = .ok (.goto 77, 3) := dk_167 0 77 (dk_at dksX8_readLine_2 18 rfl rfl)
theorem dX8_readLine_69 : decode cX8_readLine 69 = .ok (.aload_n 0, 1) := dk_42 (dk_at dksX8_readLine_2 21 rfl rfl)
theorem dX8_readLine_70 : decode cX8_readLine 70 = .ok (.bipush 6, 2) := dk_16 6 (dk_at dksX8_readLine_2 22 rfl rfl)
theorem dX8_readLine_72 : decode cX8_readLine 72 = .ok (.invokevirtual 202, 3) := dk_182 0 202 (dk_at dksX8_readLine_3 0 rfl rfl)
theorem dX8_readLine_75 : decode cX8_readLine 75 = .ok (.ifCond .eq 17, 3) := dk_153 0 17 (dk_at dksX8_readLine_3 3 rfl rfl)
theorem dX8_readLine_78 : decode cX8_readLine 78 = .ok (.aload_n 0, 1) := dk_42 (dk_at dksX8_readLine_3 6 rfl rfl)
theorem dX8_readLine_79 : decode cX8_readLine 79 = .ok (.iconst 1, 1) := dk_4 (dk_at dksX8_readLine_3 7 rfl rfl)
theorem dX8_readLine_80 : decode cX8_readLine 80 = .ok (.iconst 4, 1) := dk_7 (dk_at dksX8_readLine_3 8 rfl rfl)
theorem dX8_readLine_81 : decode cX8_readLine 81 = .ok (.iconst 0, 1) := dk_3 (dk_at dksX8_readLine_3 9 rfl rfl)
theorem dX8_readLine_82 : decode cX8_readLine 82 = .ok (.sipush 200, 3) := dk_17 0 200 (dk_at dksX8_readLine_3 10 rfl rfl)
theorem dX8_readLine_85 : decode cX8_readLine 85 = .ok (.invokevirtual 227, 3) := dk_182 0 227 (dk_at dksX8_readLine_3 13 rfl rfl)
theorem dX8_readLine_88 : decode cX8_readLine 88 = .ok (.istore_n 1, 1) := dk_60 (dk_at dksX8_readLine_3 16 rfl rfl)
theorem dX8_readLine_89 : decode cX8_readLine 89 = .ok (.goto 54, 3) := dk_167 0 54 (dk_at dksX8_readLine_3 17 rfl rfl)
theorem dX8_readLine_92 : decode cX8_readLine 92 = .ok (.aload_n 0, 1) := dk_42 (dk_at dksX8_readLine_3 20 rfl rfl)
theorem dX8_readLine_93 : decode cX8_readLine 93 = .ok (.bipush 7, 2) := dk_16 7 (dk_at dksX8_readLine_3 21 rfl rfl)
theorem dX8_readLine_95 : decode cX8_readLine 95 = .ok (.invokevirtual 202, 3) := dk_182 0 202 (dk_at dksX8_readLine_4 0 rfl rfl)
theorem dX8_readLine_98 : decode cX8_readLine 98 = .ok (.ifCond .eq 17, 3) := dk_153 0 17 (dk_at dksX8_readLine_4 3 rfl rfl)
theorem dX8_readLine_101 : decode cX8_readLine 101 = .ok (.aload_n 0, 1) := dk_42 (dk_at dksX8_readLine_4 6 rfl rfl)
theorem dX8_readLine_102 : decode cX8_readLine 102 = .ok (.iconst 2, 1) := dk_5 (dk_at dksX8_readLine_4 7 rfl rfl)
theorem dX8_readLine_103 : decode cX8_readLine 103 = .ok (.iconst 5, 1) := dk_8 (dk_at dksX8_readLine_4 8 rfl rfl)
theorem dX8_readLine_104 : decode cX8_readLine 104 = .ok (.iconst 1, 1) := dk_4 (dk_at dksX8_readLine_4 9 rfl rfl)
theorem dX8_readLine_105 : decode cX8_readLine 105 = .ok (.sipush 999, 3) := dk_17 3 231 (dk_at dksX8_readLine_4 10 rfl rfl)
theorem dX8_readLine_108 : decode cX8_readLine 108 = .ok (.invokevirtual 227, 3) := dk_182 0 227 (dk_at dksX8_readLine_4 13 rfl rfl)
theorem dX8_readLine_111 : decode cX8_readLine 111 = .ok (.istore_n 1, 1) := dk_60 (dk_at dksX8_readLine_4 16 rfl rfl)
theorem dX8_readLine_112 : decode cX8_readLine 112 = .ok (.goto 31, 3) := dk_167 0 31 (dk_at dksX8_readLine_4 17 rfl rfl)
theorem dX8_readLine_115 : decode cX8_readLine 115 = .ok (.aload_n 0, 1) := dk_42 (dk_at dksX8_readLine_4 20 rfl rfl)
theorem dX8_readLine_116 : decode cX8_readLine 116 = .ok (.bipush 8, 2) := dk_16 8 (dk_at dksX8_readLine_4 21 rfl rfl)
theorem dX8_readLine_118 : decode cX8_readLine 118 = .ok (.invokevirtual 202, 3) := dk_182 0 202 (dk_at dksX8_readLine_5 0 rfl rfl)
theorem dX8_readLine_121 : decode cX8_readLine 121 = .ok (.ifCond .eq 16, 3) := dk_153 0 16 (dk_at dksX8_readLine_5 3 rfl rfl)
theorem dX8_readLine_124 : decode cX8_readLine 124 = .ok (.aload_n 0, 1) := dk_42 (dk_at dksX8_readLine_5 6 rfl rfl)
theorem dX8_readLine_125 : decode cX8_readLine 125 = .ok (.iconst 3, 1) := dk_6 (dk_at dksX8_readLine_5 7 rfl rfl)
theorem dX8_readLine_126 : decode cX8_readLine 126 = .ok (.bipush 6, 2) := dk_16 6 (dk_at dksX8_readLine_5 8 rfl rfl)
theorem dX8_readLine_128 : decode cX8_readLine 128 = .ok (.iconst 1, 1) := dk_4 (dk_at dksX8_readLine_5 10 rfl rfl)
theorem dX8_readLine_129 : decode cX8_readLine 129 = .ok (.bipush 9, 2) := dk_16 9 (dk_at dksX8_readLine_5 11 rfl rfl)
theorem dX8_readLine_131 : decode cX8_readLine 131 = .ok (.invokevirtual 227, 3) := dk_182 0 227 (dk_at dksX8_readLine_5 13 rfl rfl)
theorem dX8_readLine_134 : decode cX8_readLine 134 = .ok (.goto 8, 3) := dk_167 0 8 (dk_at dksX8_readLine_5 16 rfl rfl)
theorem dX8_readLine_137 : decode cX8_readLine 137 = .ok (.aload_n 0, 1) := dk_42 (dk_at dksX8_readLine_5 19 rfl rfl)
theorem dX8_readLine_138 : decode cX8_readLine 138 = .ok (.iconst 1, 1) := dk_4 (dk_at dksX8_readLine_5 20 rfl rfl)
theorem dX8_readLine_139 : decode cX8_readLine 139 = .ok (.invokevirtual 151, 3) := dk_182 0 151 (dk_at dksX8_readLine_5 21 rfl rfl)
theorem dX8_readLine_142 : decode cX8_readLine 142 = .ok (.istore_n 1, 1) := dk_60 (dk_at dksX8_readLine_6 0 rfl rfl)
theorem dX8_readLine_143 : decode cX8_readLine 143 = .ok (.iload_n 1, 1) := dk_27 (dk_at dksX8_readLine_6 1 rfl rfl)
theorem dX8_readLine_144 : decode cX8_readLine 144 = .ok (.ifCond .eq 14, 3) := dk_153 0 14 (dk_at dksX8_readLine_6 2 rfl rfl)
theorem dX8_readLine_147 : decode cX8_readLine 147 = .ok (.aload_n 0, 1) := dk_42 (dk_at dksX8_readLine_6 5 rfl rfl)
theorem dX8_readLine_148 : decode cX8_readLine 148 = .ok (.invokevirtual 231, 3) := dk_182 0 231 (dk_at dksX8_readLine_6 6 rfl rfl)
theorem dX8_readLine_151 : decode cX8_readLine 151 = .ok (.ifCond .eq 7, 3) := dk_153 0 7 (dk_at dksX8_readLine_6 9 rfl rfl)
theorem dX8_readLine_154 : decode cX8_readLine 154 = .ok (.iconst 1, 1) := dk_4 (dk_at dksX8_readLine_6 12 rfl rfl)
theorem dX8_readLine_155 : decode cX8_readLine 155 = .ok (.goto 4, 3) := dk_167 0 4 (dk_at dksX8_readLine_6 13 rfl rfl)
theorem dX8_readLine_158 : decode cX8_readLine 158 = .ok (.iconst 0, 1) := dk_3 (dk_at dksX8_readLine_6 16 rfl rfl)
theorem dX8_readLine_159 : decode cX8_readLine 159 = .ok (.ireturn, 1) := dk_172 (dk_at dksX8_readLine_6 17 rfl rfl)
abbrev cX8_isWord : ByteArray := prog_18_method_17_code
def yX8_isWord : MethodName := ⟨RX8, "isWord", "(I)Z"⟩
def dkwX8_isWord_1 : List UInt8 := [3, 172]
abbrev dktX8_isWord_1 : List UInt8 := dkwX8_isWord_1 ++ []
def dkwX8_isWord_0 : List UInt8 := [42, 180, 0, 105, 5, 160, 0, 19, 42, 180, 0, 118, 27, 184, 0, 141, 148, 154, 0, 7, 4, 167, 0, 4]
abbrev dktX8_isWord_0 : List UInt8 := dkwX8_isWord_0 ++ dktX8_isWord_1
theorem dksX8_isWord_0 : cX8_isWord.data.toList.drop 0 = dktX8_isWord_0 := by decide +kernel
theorem dksX8_isWord_1 : cX8_isWord.data.toList.drop 24 = dktX8_isWord_1 := dk_seg dksX8_isWord_0 24 rfl rfl
theorem dX8_isWord_0 : decode cX8_isWord 0 = .ok (.aload_n 0, 1) := dk_42 (dk_at dksX8_isWord_0 0 rfl rfl)
theorem dX8_isWord_1 : decode cX8_isWord 1 = .ok (.getfield 105, 3) := dk_180 0 105 (dk_at dksX8_isWord_0 1 rfl rfl)
theorem dX8_isWord_4 : decode cX8_isWord 4 = .ok (.iconst 2, 1) := dk_5 (dk_at dksX8_isWord_0 4 rfl rfl)
theorem dX8_isWord_5 : decode cX8_isWord 5 = .ok (.if_icmp .ne 19, 3) := dk_160 0 19 (dk_at dksX8_isWord_0 5 rfl rfl)
theorem dX8_isWord_8 : decode cX8_isWord 8 = .ok (.aload_n 0, 1) := dk_42 (dk_at dksX8_isWord_0 8 rfl rfl)
theorem dX8_isWord_9 : decode cX8_isWord 9 = .ok (.getfield 118, 3) := dk_180 0 118 (dk_at dksX8_isWord_0 9 rfl rfl)
theorem dX8_isWord_12 : decode cX8_isWord 12 = .ok (.iload_n 1, 1) := dk_27 (dk_at dksX8_isWord_0 12 rfl rfl)
theorem dX8_isWord_13 : decode cX8_isWord 13 = .ok (.invokestatic 141, 3) := dk_184 0 141 (dk_at dksX8_isWord_0 13 rfl rfl)
theorem dX8_isWord_16 : decode cX8_isWord 16 = .ok (.lcmp, 1) := dk_148 (dk_at dksX8_isWord_0 16 rfl rfl)
theorem dX8_isWord_17 : decode cX8_isWord 17 = .ok (.ifCond .ne 7, 3) := dk_154 0 7 (dk_at dksX8_isWord_0 17 rfl rfl)
theorem dX8_isWord_20 : decode cX8_isWord 20 = .ok (.iconst 1, 1) := dk_4 (dk_at dksX8_isWord_0 20 rfl rfl)
theorem dX8_isWord_21 : decode cX8_isWord 21 = .ok (.goto 4, 3) := dk_167 0 4 (dk_at dksX8_isWord_0 21 rfl rfl)
theorem dX8_isWord_24 : decode cX8_isWord 24 = .ok (.iconst 0, 1) := dk_3 (dk_at dksX8_isWord_1 0 rfl rfl)
theorem dX8_isWord_25 : decode cX8_isWord 25 = .ok (.ireturn, 1) := dk_172 (dk_at dksX8_isWord_1 1 rfl rfl)
abbrev cX8_wordOf : ByteArray := prog_18_method_16_code
def yX8_wordOf : MethodName := ⟨RX8, "wordOf", "(I)J"⟩
def dkwX8_wordOf_13 : List UInt8 := [173, 16, 115, 16, 116, 16, 114, 16, 117, 184, 0, 133, 16, 99, 16, 107, 184, 0, 137, 173]
abbrev dktX8_wordOf_13 : List UInt8 := dkwX8_wordOf_13 ++ []
def dkwX8_wordOf_12 : List UInt8 := [16, 115, 184, 0, 137, 173, 16, 108, 16, 97, 16, 121, 16, 101, 184, 0, 133, 16, 114, 16, 115, 184, 0, 137]
abbrev dktX8_wordOf_12 : List UInt8 := dkwX8_wordOf_12 ++ dktX8_wordOf_13
def dkwX8_wordOf_11 : List UInt8 := [184, 0, 133, 16, 101, 3, 184, 0, 137, 173, 16, 103, 16, 114, 16, 97, 16, 105, 184, 0, 133, 16, 110]
abbrev dktX8_wordOf_11 : List UInt8 := dkwX8_wordOf_11 ++ dktX8_wordOf_12
def dkwX8_wordOf_10 : List UInt8 := [184, 0, 137, 173, 16, 104, 16, 101, 16, 108, 16, 100, 184, 0, 133, 173, 16, 102, 16, 97, 16, 108, 16, 115]
abbrev dktX8_wordOf_10 : List UInt8 := dkwX8_wordOf_10 ++ dktX8_wordOf_11
def dkwX8_wordOf_9 : List UInt8 := [184, 0, 133, 16, 115, 3, 184, 0, 137, 173, 16, 115, 16, 104, 16, 111, 16, 119, 184, 0, 133, 16, 115, 3]
abbrev dktX8_wordOf_9 : List UInt8 := dkwX8_wordOf_9 ++ dktX8_wordOf_10
def dkwX8_wordOf_8 : List UInt8 := [184, 0, 133, 173, 16, 110, 16, 111, 16, 116, 3, 184, 0, 133, 173, 16, 98, 16, 101, 16, 97, 16, 114]
abbrev dktX8_wordOf_8 : List UInt8 := dkwX8_wordOf_8 ++ dktX8_wordOf_9
def dkwX8_wordOf_7 : List UInt8 := [16, 115, 3, 184, 0, 137, 173, 16, 111, 16, 114, 3, 3, 184, 0, 133, 173, 16, 97, 16, 110, 16, 100, 3]
abbrev dktX8_wordOf_7 : List UInt8 := dkwX8_wordOf_7 ++ dktX8_wordOf_8
def dkwX8_wordOf_6 : List UInt8 := [16, 116, 16, 104, 16, 105, 16, 110, 184, 0, 133, 173, 16, 102, 16, 97, 16, 99, 16, 101, 184, 0, 133]
abbrev dktX8_wordOf_6 : List UInt8 := dkwX8_wordOf_6 ++ dktX8_wordOf_7
def dkwX8_wordOf_5 : List UInt8 := [16, 107, 184, 0, 133, 16, 121, 3, 184, 0, 137, 173, 16, 100, 16, 101, 16, 97, 16, 100, 184, 0, 133, 173]
abbrev dktX8_wordOf_5 : List UInt8 := dkwX8_wordOf_5 ++ dktX8_wordOf_6
def dkwX8_wordOf_4 : List UInt8 := [16, 116, 16, 97, 16, 107, 16, 101, 184, 0, 133, 16, 115, 3, 184, 0, 137, 173, 16, 108, 16, 117, 16, 99]
abbrev dktX8_wordOf_4 : List UInt8 := dkwX8_wordOf_4 ++ dktX8_wordOf_5
def dkwX8_wordOf_3 : List UInt8 := [16, 111, 16, 119, 16, 101, 16, 115, 184, 0, 133, 173, 16, 109, 16, 105, 16, 110, 16, 116, 184, 0, 133, 173]
abbrev dktX8_wordOf_3 : List UInt8 := dkwX8_wordOf_3 ++ dktX8_wordOf_4
def dkwX8_wordOf_2 : List UInt8 := [16, 119, 16, 104, 16, 111, 3, 184, 0, 133, 173, 16, 98, 16, 101, 16, 103, 16, 115, 184, 0, 133, 173]
abbrev dktX8_wordOf_2 : List UInt8 := dkwX8_wordOf_2 ++ dktX8_wordOf_3
def dkwX8_wordOf_1 : List UInt8 := [170, 0, 0, 0, 0, 1, 92, 0, 0, 0, 0, 0, 0, 0, 17, 0, 0, 0, 87, 0, 0, 0, 98, 0, 0, 0, 110, 0, 0, 0, 122, 0, 0, 0, 134, 0, 0, 0, 152, 0, 0, 0, 170, 0, 0, 0, 182, 0, 0, 0, 194, 0, 0, 0, 212, 0, 0, 0, 222, 0, 0, 0, 233, 0, 0, 0, 244, 0, 0, 1, 6, 0, 0, 1, 24, 0, 0, 1, 36, 0, 0, 1, 54, 0, 0, 1, 73]
abbrev dktX8_wordOf_1 : List UInt8 := dkwX8_wordOf_1 ++ dktX8_wordOf_2
def dkwX8_wordOf_0 : List UInt8 := [26]
abbrev dktX8_wordOf_0 : List UInt8 := dkwX8_wordOf_0 ++ dktX8_wordOf_1
theorem dksX8_wordOf_0 : cX8_wordOf.data.toList.drop 0 = dktX8_wordOf_0 := by decide +kernel
theorem dksX8_wordOf_1 : cX8_wordOf.data.toList.drop 1 = dktX8_wordOf_1 := dk_seg dksX8_wordOf_0 1 rfl rfl
theorem dksX8_wordOf_2 : cX8_wordOf.data.toList.drop 88 = dktX8_wordOf_2 := dk_seg dksX8_wordOf_1 87 rfl rfl
theorem dksX8_wordOf_3 : cX8_wordOf.data.toList.drop 111 = dktX8_wordOf_3 := dk_seg dksX8_wordOf_2 23 rfl rfl
theorem dksX8_wordOf_4 : cX8_wordOf.data.toList.drop 135 = dktX8_wordOf_4 := dk_seg dksX8_wordOf_3 24 rfl rfl
theorem dksX8_wordOf_5 : cX8_wordOf.data.toList.drop 159 = dktX8_wordOf_5 := dk_seg dksX8_wordOf_4 24 rfl rfl
theorem dksX8_wordOf_6 : cX8_wordOf.data.toList.drop 183 = dktX8_wordOf_6 := dk_seg dksX8_wordOf_5 24 rfl rfl
theorem dksX8_wordOf_7 : cX8_wordOf.data.toList.drop 206 = dktX8_wordOf_7 := dk_seg dksX8_wordOf_6 23 rfl rfl
theorem dksX8_wordOf_8 : cX8_wordOf.data.toList.drop 230 = dktX8_wordOf_8 := dk_seg dksX8_wordOf_7 24 rfl rfl
theorem dksX8_wordOf_9 : cX8_wordOf.data.toList.drop 253 = dktX8_wordOf_9 := dk_seg dksX8_wordOf_8 23 rfl rfl
theorem dksX8_wordOf_10 : cX8_wordOf.data.toList.drop 277 = dktX8_wordOf_10 := dk_seg dksX8_wordOf_9 24 rfl rfl
theorem dksX8_wordOf_11 : cX8_wordOf.data.toList.drop 301 = dktX8_wordOf_11 := dk_seg dksX8_wordOf_10 24 rfl rfl
theorem dksX8_wordOf_12 : cX8_wordOf.data.toList.drop 324 = dktX8_wordOf_12 := dk_seg dksX8_wordOf_11 23 rfl rfl
theorem dksX8_wordOf_13 : cX8_wordOf.data.toList.drop 348 = dktX8_wordOf_13 := dk_seg dksX8_wordOf_12 24 rfl rfl
theorem dX8_wordOf_0 : decode cX8_wordOf 0 = .ok (.iload_n 0, 1) := dk_26 (dk_at dksX8_wordOf_0 0 rfl rfl)
theorem dX8_wordOf_1 : decode cX8_wordOf 1 = .ok (.tableswitch 348 0 17 #[87, 98, 110, 122, 134, 152, 170, 182, 194, 212, 222, 233, 244, 262, 280, 292, 310, 329], 87) := by decide +kernel
theorem dX8_wordOf_88 : decode cX8_wordOf 88 = .ok (.bipush 119, 2) := dk_16 119 (dk_at dksX8_wordOf_2 0 rfl rfl)
theorem dX8_wordOf_90 : decode cX8_wordOf 90 = .ok (.bipush 104, 2) := dk_16 104 (dk_at dksX8_wordOf_2 2 rfl rfl)
theorem dX8_wordOf_92 : decode cX8_wordOf 92 = .ok (.bipush 111, 2) := dk_16 111 (dk_at dksX8_wordOf_2 4 rfl rfl)
theorem dX8_wordOf_94 : decode cX8_wordOf 94 = .ok (.iconst 0, 1) := dk_3 (dk_at dksX8_wordOf_2 6 rfl rfl)
theorem dX8_wordOf_95 : decode cX8_wordOf 95 = .ok (.invokestatic 133, 3) := dk_184 0 133 (dk_at dksX8_wordOf_2 7 rfl rfl)
theorem dX8_wordOf_98 : decode cX8_wordOf 98 = .ok (.lreturn, 1) := dk_173 (dk_at dksX8_wordOf_2 10 rfl rfl)
theorem dX8_wordOf_99 : decode cX8_wordOf 99 = .ok (.bipush 98, 2) := dk_16 98 (dk_at dksX8_wordOf_2 11 rfl rfl)
theorem dX8_wordOf_101 : decode cX8_wordOf 101 = .ok (.bipush 101, 2) := dk_16 101 (dk_at dksX8_wordOf_2 13 rfl rfl)
theorem dX8_wordOf_103 : decode cX8_wordOf 103 = .ok (.bipush 103, 2) := dk_16 103 (dk_at dksX8_wordOf_2 15 rfl rfl)
theorem dX8_wordOf_105 : decode cX8_wordOf 105 = .ok (.bipush 115, 2) := dk_16 115 (dk_at dksX8_wordOf_2 17 rfl rfl)
theorem dX8_wordOf_107 : decode cX8_wordOf 107 = .ok (.invokestatic 133, 3) := dk_184 0 133 (dk_at dksX8_wordOf_2 19 rfl rfl)
theorem dX8_wordOf_110 : decode cX8_wordOf 110 = .ok (.lreturn, 1) := dk_173 (dk_at dksX8_wordOf_2 22 rfl rfl)
theorem dX8_wordOf_111 : decode cX8_wordOf 111 = .ok (.bipush 111, 2) := dk_16 111 (dk_at dksX8_wordOf_3 0 rfl rfl)
theorem dX8_wordOf_113 : decode cX8_wordOf 113 = .ok (.bipush 119, 2) := dk_16 119 (dk_at dksX8_wordOf_3 2 rfl rfl)
theorem dX8_wordOf_115 : decode cX8_wordOf 115 = .ok (.bipush 101, 2) := dk_16 101 (dk_at dksX8_wordOf_3 4 rfl rfl)
theorem dX8_wordOf_117 : decode cX8_wordOf 117 = .ok (.bipush 115, 2) := dk_16 115 (dk_at dksX8_wordOf_3 6 rfl rfl)
theorem dX8_wordOf_119 : decode cX8_wordOf 119 = .ok (.invokestatic 133, 3) := dk_184 0 133 (dk_at dksX8_wordOf_3 8 rfl rfl)
theorem dX8_wordOf_122 : decode cX8_wordOf 122 = .ok (.lreturn, 1) := dk_173 (dk_at dksX8_wordOf_3 11 rfl rfl)
theorem dX8_wordOf_123 : decode cX8_wordOf 123 = .ok (.bipush 109, 2) := dk_16 109 (dk_at dksX8_wordOf_3 12 rfl rfl)
theorem dX8_wordOf_125 : decode cX8_wordOf 125 = .ok (.bipush 105, 2) := dk_16 105 (dk_at dksX8_wordOf_3 14 rfl rfl)
theorem dX8_wordOf_127 : decode cX8_wordOf 127 = .ok (.bipush 110, 2) := dk_16 110 (dk_at dksX8_wordOf_3 16 rfl rfl)
theorem dX8_wordOf_129 : decode cX8_wordOf 129 = .ok (.bipush 116, 2) := dk_16 116 (dk_at dksX8_wordOf_3 18 rfl rfl)
theorem dX8_wordOf_131 : decode cX8_wordOf 131 = .ok (.invokestatic 133, 3) := dk_184 0 133 (dk_at dksX8_wordOf_3 20 rfl rfl)
theorem dX8_wordOf_134 : decode cX8_wordOf 134 = .ok (.lreturn, 1) := dk_173 (dk_at dksX8_wordOf_3 23 rfl rfl)
theorem dX8_wordOf_135 : decode cX8_wordOf 135 = .ok (.bipush 116, 2) := dk_16 116 (dk_at dksX8_wordOf_4 0 rfl rfl)
theorem dX8_wordOf_137 : decode cX8_wordOf 137 = .ok (.bipush 97, 2) := dk_16 97 (dk_at dksX8_wordOf_4 2 rfl rfl)
theorem dX8_wordOf_139 : decode cX8_wordOf 139 = .ok (.bipush 107, 2) := dk_16 107 (dk_at dksX8_wordOf_4 4 rfl rfl)
theorem dX8_wordOf_141 : decode cX8_wordOf 141 = .ok (.bipush 101, 2) := dk_16 101 (dk_at dksX8_wordOf_4 6 rfl rfl)
theorem dX8_wordOf_143 : decode cX8_wordOf 143 = .ok (.invokestatic 133, 3) := dk_184 0 133 (dk_at dksX8_wordOf_4 8 rfl rfl)
theorem dX8_wordOf_146 : decode cX8_wordOf 146 = .ok (.bipush 115, 2) := dk_16 115 (dk_at dksX8_wordOf_4 11 rfl rfl)
theorem dX8_wordOf_148 : decode cX8_wordOf 148 = .ok (.iconst 0, 1) := dk_3 (dk_at dksX8_wordOf_4 13 rfl rfl)
theorem dX8_wordOf_149 : decode cX8_wordOf 149 = .ok (.invokestatic 137, 3) := dk_184 0 137 (dk_at dksX8_wordOf_4 14 rfl rfl)
theorem dX8_wordOf_152 : decode cX8_wordOf 152 = .ok (.lreturn, 1) := dk_173 (dk_at dksX8_wordOf_4 17 rfl rfl)
theorem dX8_wordOf_153 : decode cX8_wordOf 153 = .ok (.bipush 108, 2) := dk_16 108 (dk_at dksX8_wordOf_4 18 rfl rfl)
theorem dX8_wordOf_155 : decode cX8_wordOf 155 = .ok (.bipush 117, 2) := dk_16 117 (dk_at dksX8_wordOf_4 20 rfl rfl)
theorem dX8_wordOf_157 : decode cX8_wordOf 157 = .ok (.bipush 99, 2) := dk_16 99 (dk_at dksX8_wordOf_4 22 rfl rfl)
theorem dX8_wordOf_159 : decode cX8_wordOf 159 = .ok (.bipush 107, 2) := dk_16 107 (dk_at dksX8_wordOf_5 0 rfl rfl)
theorem dX8_wordOf_161 : decode cX8_wordOf 161 = .ok (.invokestatic 133, 3) := dk_184 0 133 (dk_at dksX8_wordOf_5 2 rfl rfl)
theorem dX8_wordOf_164 : decode cX8_wordOf 164 = .ok (.bipush 121, 2) := dk_16 121 (dk_at dksX8_wordOf_5 5 rfl rfl)
theorem dX8_wordOf_166 : decode cX8_wordOf 166 = .ok (.iconst 0, 1) := dk_3 (dk_at dksX8_wordOf_5 7 rfl rfl)
theorem dX8_wordOf_167 : decode cX8_wordOf 167 = .ok (.invokestatic 137, 3) := dk_184 0 137 (dk_at dksX8_wordOf_5 8 rfl rfl)
theorem dX8_wordOf_170 : decode cX8_wordOf 170 = .ok (.lreturn, 1) := dk_173 (dk_at dksX8_wordOf_5 11 rfl rfl)
theorem dX8_wordOf_171 : decode cX8_wordOf 171 = .ok (.bipush 100, 2) := dk_16 100 (dk_at dksX8_wordOf_5 12 rfl rfl)
theorem dX8_wordOf_173 : decode cX8_wordOf 173 = .ok (.bipush 101, 2) := dk_16 101 (dk_at dksX8_wordOf_5 14 rfl rfl)
theorem dX8_wordOf_175 : decode cX8_wordOf 175 = .ok (.bipush 97, 2) := dk_16 97 (dk_at dksX8_wordOf_5 16 rfl rfl)
theorem dX8_wordOf_177 : decode cX8_wordOf 177 = .ok (.bipush 100, 2) := dk_16 100 (dk_at dksX8_wordOf_5 18 rfl rfl)
theorem dX8_wordOf_179 : decode cX8_wordOf 179 = .ok (.invokestatic 133, 3) := dk_184 0 133 (dk_at dksX8_wordOf_5 20 rfl rfl)
theorem dX8_wordOf_182 : decode cX8_wordOf 182 = .ok (.lreturn, 1) := dk_173 (dk_at dksX8_wordOf_5 23 rfl rfl)
theorem dX8_wordOf_183 : decode cX8_wordOf 183 = .ok (.bipush 116, 2) := dk_16 116 (dk_at dksX8_wordOf_6 0 rfl rfl)
theorem dX8_wordOf_185 : decode cX8_wordOf 185 = .ok (.bipush 104, 2) := dk_16 104 (dk_at dksX8_wordOf_6 2 rfl rfl)
theorem dX8_wordOf_187 : decode cX8_wordOf 187 = .ok (.bipush 105, 2) := dk_16 105 (dk_at dksX8_wordOf_6 4 rfl rfl)
theorem dX8_wordOf_189 : decode cX8_wordOf 189 = .ok (.bipush 110, 2) := dk_16 110 (dk_at dksX8_wordOf_6 6 rfl rfl)
theorem dX8_wordOf_191 : decode cX8_wordOf 191 = .ok (.invokestatic 133, 3) := dk_184 0 133 (dk_at dksX8_wordOf_6 8 rfl rfl)
theorem dX8_wordOf_194 : decode cX8_wordOf 194 = .ok (.lreturn, 1) := dk_173 (dk_at dksX8_wordOf_6 11 rfl rfl)
theorem dX8_wordOf_195 : decode cX8_wordOf 195 = .ok (.bipush 102, 2) := dk_16 102 (dk_at dksX8_wordOf_6 12 rfl rfl)
theorem dX8_wordOf_197 : decode cX8_wordOf 197 = .ok (.bipush 97, 2) := dk_16 97 (dk_at dksX8_wordOf_6 14 rfl rfl)
theorem dX8_wordOf_199 : decode cX8_wordOf 199 = .ok (.bipush 99, 2) := dk_16 99 (dk_at dksX8_wordOf_6 16 rfl rfl)
theorem dX8_wordOf_201 : decode cX8_wordOf 201 = .ok (.bipush 101, 2) := dk_16 101 (dk_at dksX8_wordOf_6 18 rfl rfl)
theorem dX8_wordOf_203 : decode cX8_wordOf 203 = .ok (.invokestatic 133, 3) := dk_184 0 133 (dk_at dksX8_wordOf_6 20 rfl rfl)
theorem dX8_wordOf_206 : decode cX8_wordOf 206 = .ok (.bipush 115, 2) := dk_16 115 (dk_at dksX8_wordOf_7 0 rfl rfl)
theorem dX8_wordOf_208 : decode cX8_wordOf 208 = .ok (.iconst 0, 1) := dk_3 (dk_at dksX8_wordOf_7 2 rfl rfl)
theorem dX8_wordOf_209 : decode cX8_wordOf 209 = .ok (.invokestatic 137, 3) := dk_184 0 137 (dk_at dksX8_wordOf_7 3 rfl rfl)
theorem dX8_wordOf_212 : decode cX8_wordOf 212 = .ok (.lreturn, 1) := dk_173 (dk_at dksX8_wordOf_7 6 rfl rfl)
theorem dX8_wordOf_213 : decode cX8_wordOf 213 = .ok (.bipush 111, 2) := dk_16 111 (dk_at dksX8_wordOf_7 7 rfl rfl)
theorem dX8_wordOf_215 : decode cX8_wordOf 215 = .ok (.bipush 114, 2) := dk_16 114 (dk_at dksX8_wordOf_7 9 rfl rfl)
theorem dX8_wordOf_217 : decode cX8_wordOf 217 = .ok (.iconst 0, 1) := dk_3 (dk_at dksX8_wordOf_7 11 rfl rfl)
theorem dX8_wordOf_218 : decode cX8_wordOf 218 = .ok (.iconst 0, 1) := dk_3 (dk_at dksX8_wordOf_7 12 rfl rfl)
theorem dX8_wordOf_219 : decode cX8_wordOf 219 = .ok (.invokestatic 133, 3) := dk_184 0 133 (dk_at dksX8_wordOf_7 13 rfl rfl)
theorem dX8_wordOf_222 : decode cX8_wordOf 222 = .ok (.lreturn, 1) := dk_173 (dk_at dksX8_wordOf_7 16 rfl rfl)
theorem dX8_wordOf_223 : decode cX8_wordOf 223 = .ok (.bipush 97, 2) := dk_16 97 (dk_at dksX8_wordOf_7 17 rfl rfl)
theorem dX8_wordOf_225 : decode cX8_wordOf 225 = .ok (.bipush 110, 2) := dk_16 110 (dk_at dksX8_wordOf_7 19 rfl rfl)
theorem dX8_wordOf_227 : decode cX8_wordOf 227 = .ok (.bipush 100, 2) := dk_16 100 (dk_at dksX8_wordOf_7 21 rfl rfl)
theorem dX8_wordOf_229 : decode cX8_wordOf 229 = .ok (.iconst 0, 1) := dk_3 (dk_at dksX8_wordOf_7 23 rfl rfl)
theorem dX8_wordOf_230 : decode cX8_wordOf 230 = .ok (.invokestatic 133, 3) := dk_184 0 133 (dk_at dksX8_wordOf_8 0 rfl rfl)
theorem dX8_wordOf_233 : decode cX8_wordOf 233 = .ok (.lreturn, 1) := dk_173 (dk_at dksX8_wordOf_8 3 rfl rfl)
theorem dX8_wordOf_234 : decode cX8_wordOf 234 = .ok (.bipush 110, 2) := dk_16 110 (dk_at dksX8_wordOf_8 4 rfl rfl)
theorem dX8_wordOf_236 : decode cX8_wordOf 236 = .ok (.bipush 111, 2) := dk_16 111 (dk_at dksX8_wordOf_8 6 rfl rfl)
theorem dX8_wordOf_238 : decode cX8_wordOf 238 = .ok (.bipush 116, 2) := dk_16 116 (dk_at dksX8_wordOf_8 8 rfl rfl)
theorem dX8_wordOf_240 : decode cX8_wordOf 240 = .ok (.iconst 0, 1) := dk_3 (dk_at dksX8_wordOf_8 10 rfl rfl)
theorem dX8_wordOf_241 : decode cX8_wordOf 241 = .ok (.invokestatic 133, 3) := dk_184 0 133 (dk_at dksX8_wordOf_8 11 rfl rfl)
theorem dX8_wordOf_244 : decode cX8_wordOf 244 = .ok (.lreturn, 1) := dk_173 (dk_at dksX8_wordOf_8 14 rfl rfl)
theorem dX8_wordOf_245 : decode cX8_wordOf 245 = .ok (.bipush 98, 2) := dk_16 98 (dk_at dksX8_wordOf_8 15 rfl rfl)
theorem dX8_wordOf_247 : decode cX8_wordOf 247 = .ok (.bipush 101, 2) := dk_16 101 (dk_at dksX8_wordOf_8 17 rfl rfl)
theorem dX8_wordOf_249 : decode cX8_wordOf 249 = .ok (.bipush 97, 2) := dk_16 97 (dk_at dksX8_wordOf_8 19 rfl rfl)
theorem dX8_wordOf_251 : decode cX8_wordOf 251 = .ok (.bipush 114, 2) := dk_16 114 (dk_at dksX8_wordOf_8 21 rfl rfl)
theorem dX8_wordOf_253 : decode cX8_wordOf 253 = .ok (.invokestatic 133, 3) := dk_184 0 133 (dk_at dksX8_wordOf_9 0 rfl rfl)
theorem dX8_wordOf_256 : decode cX8_wordOf 256 = .ok (.bipush 115, 2) := dk_16 115 (dk_at dksX8_wordOf_9 3 rfl rfl)
theorem dX8_wordOf_258 : decode cX8_wordOf 258 = .ok (.iconst 0, 1) := dk_3 (dk_at dksX8_wordOf_9 5 rfl rfl)
theorem dX8_wordOf_259 : decode cX8_wordOf 259 = .ok (.invokestatic 137, 3) := dk_184 0 137 (dk_at dksX8_wordOf_9 6 rfl rfl)
theorem dX8_wordOf_262 : decode cX8_wordOf 262 = .ok (.lreturn, 1) := dk_173 (dk_at dksX8_wordOf_9 9 rfl rfl)
theorem dX8_wordOf_263 : decode cX8_wordOf 263 = .ok (.bipush 115, 2) := dk_16 115 (dk_at dksX8_wordOf_9 10 rfl rfl)
theorem dX8_wordOf_265 : decode cX8_wordOf 265 = .ok (.bipush 104, 2) := dk_16 104 (dk_at dksX8_wordOf_9 12 rfl rfl)
theorem dX8_wordOf_267 : decode cX8_wordOf 267 = .ok (.bipush 111, 2) := dk_16 111 (dk_at dksX8_wordOf_9 14 rfl rfl)
theorem dX8_wordOf_269 : decode cX8_wordOf 269 = .ok (.bipush 119, 2) := dk_16 119 (dk_at dksX8_wordOf_9 16 rfl rfl)
theorem dX8_wordOf_271 : decode cX8_wordOf 271 = .ok (.invokestatic 133, 3) := dk_184 0 133 (dk_at dksX8_wordOf_9 18 rfl rfl)
theorem dX8_wordOf_274 : decode cX8_wordOf 274 = .ok (.bipush 115, 2) := dk_16 115 (dk_at dksX8_wordOf_9 21 rfl rfl)
theorem dX8_wordOf_276 : decode cX8_wordOf 276 = .ok (.iconst 0, 1) := dk_3 (dk_at dksX8_wordOf_9 23 rfl rfl)
theorem dX8_wordOf_277 : decode cX8_wordOf 277 = .ok (.invokestatic 137, 3) := dk_184 0 137 (dk_at dksX8_wordOf_10 0 rfl rfl)
theorem dX8_wordOf_280 : decode cX8_wordOf 280 = .ok (.lreturn, 1) := dk_173 (dk_at dksX8_wordOf_10 3 rfl rfl)
theorem dX8_wordOf_281 : decode cX8_wordOf 281 = .ok (.bipush 104, 2) := dk_16 104 (dk_at dksX8_wordOf_10 4 rfl rfl)
theorem dX8_wordOf_283 : decode cX8_wordOf 283 = .ok (.bipush 101, 2) := dk_16 101 (dk_at dksX8_wordOf_10 6 rfl rfl)
theorem dX8_wordOf_285 : decode cX8_wordOf 285 = .ok (.bipush 108, 2) := dk_16 108 (dk_at dksX8_wordOf_10 8 rfl rfl)
theorem dX8_wordOf_287 : decode cX8_wordOf 287 = .ok (.bipush 100, 2) := dk_16 100 (dk_at dksX8_wordOf_10 10 rfl rfl)
theorem dX8_wordOf_289 : decode cX8_wordOf 289 = .ok (.invokestatic 133, 3) := dk_184 0 133 (dk_at dksX8_wordOf_10 12 rfl rfl)
theorem dX8_wordOf_292 : decode cX8_wordOf 292 = .ok (.lreturn, 1) := dk_173 (dk_at dksX8_wordOf_10 15 rfl rfl)
theorem dX8_wordOf_293 : decode cX8_wordOf 293 = .ok (.bipush 102, 2) := dk_16 102 (dk_at dksX8_wordOf_10 16 rfl rfl)
theorem dX8_wordOf_295 : decode cX8_wordOf 295 = .ok (.bipush 97, 2) := dk_16 97 (dk_at dksX8_wordOf_10 18 rfl rfl)
theorem dX8_wordOf_297 : decode cX8_wordOf 297 = .ok (.bipush 108, 2) := dk_16 108 (dk_at dksX8_wordOf_10 20 rfl rfl)
theorem dX8_wordOf_299 : decode cX8_wordOf 299 = .ok (.bipush 115, 2) := dk_16 115 (dk_at dksX8_wordOf_10 22 rfl rfl)
theorem dX8_wordOf_301 : decode cX8_wordOf 301 = .ok (.invokestatic 133, 3) := dk_184 0 133 (dk_at dksX8_wordOf_11 0 rfl rfl)
theorem dX8_wordOf_304 : decode cX8_wordOf 304 = .ok (.bipush 101, 2) := dk_16 101 (dk_at dksX8_wordOf_11 3 rfl rfl)
theorem dX8_wordOf_306 : decode cX8_wordOf 306 = .ok (.iconst 0, 1) := dk_3 (dk_at dksX8_wordOf_11 5 rfl rfl)
theorem dX8_wordOf_307 : decode cX8_wordOf 307 = .ok (.invokestatic 137, 3) := dk_184 0 137 (dk_at dksX8_wordOf_11 6 rfl rfl)
theorem dX8_wordOf_310 : decode cX8_wordOf 310 = .ok (.lreturn, 1) := dk_173 (dk_at dksX8_wordOf_11 9 rfl rfl)
theorem dX8_wordOf_311 : decode cX8_wordOf 311 = .ok (.bipush 103, 2) := dk_16 103 (dk_at dksX8_wordOf_11 10 rfl rfl)
theorem dX8_wordOf_313 : decode cX8_wordOf 313 = .ok (.bipush 114, 2) := dk_16 114 (dk_at dksX8_wordOf_11 12 rfl rfl)
theorem dX8_wordOf_315 : decode cX8_wordOf 315 = .ok (.bipush 97, 2) := dk_16 97 (dk_at dksX8_wordOf_11 14 rfl rfl)
theorem dX8_wordOf_317 : decode cX8_wordOf 317 = .ok (.bipush 105, 2) := dk_16 105 (dk_at dksX8_wordOf_11 16 rfl rfl)
theorem dX8_wordOf_319 : decode cX8_wordOf 319 = .ok (.invokestatic 133, 3) := dk_184 0 133 (dk_at dksX8_wordOf_11 18 rfl rfl)
theorem dX8_wordOf_322 : decode cX8_wordOf 322 = .ok (.bipush 110, 2) := dk_16 110 (dk_at dksX8_wordOf_11 21 rfl rfl)
theorem dX8_wordOf_324 : decode cX8_wordOf 324 = .ok (.bipush 115, 2) := dk_16 115 (dk_at dksX8_wordOf_12 0 rfl rfl)
theorem dX8_wordOf_326 : decode cX8_wordOf 326 = .ok (.invokestatic 137, 3) := dk_184 0 137 (dk_at dksX8_wordOf_12 2 rfl rfl)
theorem dX8_wordOf_329 : decode cX8_wordOf 329 = .ok (.lreturn, 1) := dk_173 (dk_at dksX8_wordOf_12 5 rfl rfl)
theorem dX8_wordOf_330 : decode cX8_wordOf 330 = .ok (.bipush 108, 2) := dk_16 108 (dk_at dksX8_wordOf_12 6 rfl rfl)
theorem dX8_wordOf_332 : decode cX8_wordOf 332 = .ok (.bipush 97, 2) := dk_16 97 (dk_at dksX8_wordOf_12 8 rfl rfl)
theorem dX8_wordOf_334 : decode cX8_wordOf 334 = .ok (.bipush 121, 2) := dk_16 121 (dk_at dksX8_wordOf_12 10 rfl rfl)
theorem dX8_wordOf_336 : decode cX8_wordOf 336 = .ok (.bipush 101, 2) := dk_16 101 (dk_at dksX8_wordOf_12 12 rfl rfl)
theorem dX8_wordOf_338 : decode cX8_wordOf 338 = .ok (.invokestatic 133, 3) := dk_184 0 133 (dk_at dksX8_wordOf_12 14 rfl rfl)
theorem dX8_wordOf_341 : decode cX8_wordOf 341 = .ok (.bipush 114, 2) := dk_16 114 (dk_at dksX8_wordOf_12 17 rfl rfl)
theorem dX8_wordOf_343 : decode cX8_wordOf 343 = .ok (.bipush 115, 2) := dk_16 115 (dk_at dksX8_wordOf_12 19 rfl rfl)
theorem dX8_wordOf_345 : decode cX8_wordOf 345 = .ok (.invokestatic 137, 3) := dk_184 0 137 (dk_at dksX8_wordOf_12 21 rfl rfl)
theorem dX8_wordOf_348 : decode cX8_wordOf 348 = .ok (.lreturn, 1) := dk_173 (dk_at dksX8_wordOf_13 0 rfl rfl)
theorem dX8_wordOf_349 : decode cX8_wordOf 349 = .ok (.bipush 115, 2) := dk_16 115 (dk_at dksX8_wordOf_13 1 rfl rfl)
theorem dX8_wordOf_351 : decode cX8_wordOf 351 = .ok (.bipush 116, 2) := dk_16 116 (dk_at dksX8_wordOf_13 3 rfl rfl)
theorem dX8_wordOf_353 : decode cX8_wordOf 353 = .ok (.bipush 114, 2) := dk_16 114 (dk_at dksX8_wordOf_13 5 rfl rfl)
theorem dX8_wordOf_355 : decode cX8_wordOf 355 = .ok (.bipush 117, 2) := dk_16 117 (dk_at dksX8_wordOf_13 7 rfl rfl)
theorem dX8_wordOf_357 : decode cX8_wordOf 357 = .ok (.invokestatic 133, 3) := dk_184 0 133 (dk_at dksX8_wordOf_13 9 rfl rfl)
theorem dX8_wordOf_360 : decode cX8_wordOf 360 = .ok (.bipush 99, 2) := dk_16 99 (dk_at dksX8_wordOf_13 12 rfl rfl)
theorem dX8_wordOf_362 : decode cX8_wordOf 362 = .ok (.bipush 107, 2) := dk_16 107 (dk_at dksX8_wordOf_13 14 rfl rfl)
theorem dX8_wordOf_364 : decode cX8_wordOf 364 = .ok (.invokestatic 137, 3) := dk_184 0 137 (dk_at dksX8_wordOf_13 16 rfl rfl)
theorem dX8_wordOf_367 : decode cX8_wordOf 367 = .ok (.lreturn, 1) := dk_173 (dk_at dksX8_wordOf_13 19 rfl rfl)
abbrev cX8_spelt : ByteArray := prog_18_method_14_code
def yX8_spelt : MethodName := ⟨RX8, "spelt", "(IIII)J"⟩
def dkwX8_spelt_2 : List UInt8 := [105, 29, 133, 97, 20, 0, 131, 101, 167, 0, 5, 22, 4, 173]
abbrev dktX8_spelt_2 : List UInt8 := dkwX8_spelt_2 ++ []
def dkwX8_spelt_1 : List UInt8 := [20, 0, 129, 22, 4, 105, 28, 133, 97, 20, 0, 131, 101, 55, 4, 29, 158, 0, 19, 20, 0, 129, 22, 4]
abbrev dktX8_spelt_1 : List UInt8 := dkwX8_spelt_1 ++ dktX8_spelt_2
def dkwX8_spelt_0 : List UInt8 := [20, 0, 129, 26, 133, 20, 0, 131, 101, 105, 27, 133, 97, 20, 0, 131, 101, 55, 4, 28, 158, 0, 18]
abbrev dktX8_spelt_0 : List UInt8 := dkwX8_spelt_0 ++ dktX8_spelt_1
theorem dksX8_spelt_0 : cX8_spelt.data.toList.drop 0 = dktX8_spelt_0 := by decide +kernel
theorem dksX8_spelt_1 : cX8_spelt.data.toList.drop 23 = dktX8_spelt_1 := dk_seg dksX8_spelt_0 23 rfl rfl
theorem dksX8_spelt_2 : cX8_spelt.data.toList.drop 47 = dktX8_spelt_2 := dk_seg dksX8_spelt_1 24 rfl rfl
theorem dX8_spelt_0 : decode cX8_spelt 0 = .ok (.ldc2_w 129, 3) := dk_20 0 129 (dk_at dksX8_spelt_0 0 rfl rfl)
theorem dX8_spelt_3 : decode cX8_spelt 3 = .ok (.iload_n 0, 1) := dk_26 (dk_at dksX8_spelt_0 3 rfl rfl)
theorem dX8_spelt_4 : decode cX8_spelt 4 = .ok (.i2l, 1) := dk_133 (dk_at dksX8_spelt_0 4 rfl rfl)
theorem dX8_spelt_5 : decode cX8_spelt 5 = .ok (.ldc2_w 131, 3) := dk_20 0 131 (dk_at dksX8_spelt_0 5 rfl rfl)
theorem dX8_spelt_8 : decode cX8_spelt 8 = .ok (.lsub, 1) := dk_101 (dk_at dksX8_spelt_0 8 rfl rfl)
theorem dX8_spelt_9 : decode cX8_spelt 9 = .ok (.lmul, 1) := dk_105 (dk_at dksX8_spelt_0 9 rfl rfl)
theorem dX8_spelt_10 : decode cX8_spelt 10 = .ok (.iload_n 1, 1) := dk_27 (dk_at dksX8_spelt_0 10 rfl rfl)
theorem dX8_spelt_11 : decode cX8_spelt 11 = .ok (.i2l, 1) := dk_133 (dk_at dksX8_spelt_0 11 rfl rfl)
theorem dX8_spelt_12 : decode cX8_spelt 12 = .ok (.ladd, 1) := dk_97 (dk_at dksX8_spelt_0 12 rfl rfl)
theorem dX8_spelt_13 : decode cX8_spelt 13 = .ok (.ldc2_w 131, 3) := dk_20 0 131 (dk_at dksX8_spelt_0 13 rfl rfl)
theorem dX8_spelt_16 : decode cX8_spelt 16 = .ok (.lsub, 1) := dk_101 (dk_at dksX8_spelt_0 16 rfl rfl)
theorem dX8_spelt_17 : decode cX8_spelt 17 = .ok (.lstore 4, 2) := dk_55 4 (dk_at dksX8_spelt_0 17 rfl rfl)
theorem dX8_spelt_19 : decode cX8_spelt 19 = .ok (.iload_n 2, 1) := dk_28 (dk_at dksX8_spelt_0 19 rfl rfl)
theorem dX8_spelt_20 : decode cX8_spelt 20 = .ok (.ifCond .le 18, 3) := dk_158 0 18 (dk_at dksX8_spelt_0 20 rfl rfl)
theorem dX8_spelt_23 : decode cX8_spelt 23 = .ok (.ldc2_w 129, 3) := dk_20 0 129 (dk_at dksX8_spelt_1 0 rfl rfl)
theorem dX8_spelt_26 : decode cX8_spelt 26 = .ok (.lload 4, 2) := dk_22 4 (dk_at dksX8_spelt_1 3 rfl rfl)
theorem dX8_spelt_28 : decode cX8_spelt 28 = .ok (.lmul, 1) := dk_105 (dk_at dksX8_spelt_1 5 rfl rfl)
theorem dX8_spelt_29 : decode cX8_spelt 29 = .ok (.iload_n 2, 1) := dk_28 (dk_at dksX8_spelt_1 6 rfl rfl)
theorem dX8_spelt_30 : decode cX8_spelt 30 = .ok (.i2l, 1) := dk_133 (dk_at dksX8_spelt_1 7 rfl rfl)
theorem dX8_spelt_31 : decode cX8_spelt 31 = .ok (.ladd, 1) := dk_97 (dk_at dksX8_spelt_1 8 rfl rfl)
theorem dX8_spelt_32 : decode cX8_spelt 32 = .ok (.ldc2_w 131, 3) := dk_20 0 131 (dk_at dksX8_spelt_1 9 rfl rfl)
theorem dX8_spelt_35 : decode cX8_spelt 35 = .ok (.lsub, 1) := dk_101 (dk_at dksX8_spelt_1 12 rfl rfl)
theorem dX8_spelt_36 : decode cX8_spelt 36 = .ok (.lstore 4, 2) := dk_55 4 (dk_at dksX8_spelt_1 13 rfl rfl)
theorem dX8_spelt_38 : decode cX8_spelt 38 = .ok (.iload_n 3, 1) := dk_29 (dk_at dksX8_spelt_1 15 rfl rfl)
theorem dX8_spelt_39 : decode cX8_spelt 39 = .ok (.ifCond .le 19, 3) := dk_158 0 19 (dk_at dksX8_spelt_1 16 rfl rfl)
theorem dX8_spelt_42 : decode cX8_spelt 42 = .ok (.ldc2_w 129, 3) := dk_20 0 129 (dk_at dksX8_spelt_1 19 rfl rfl)
theorem dX8_spelt_45 : decode cX8_spelt 45 = .ok (.lload 4, 2) := dk_22 4 (dk_at dksX8_spelt_1 22 rfl rfl)
theorem dX8_spelt_47 : decode cX8_spelt 47 = .ok (.lmul, 1) := dk_105 (dk_at dksX8_spelt_2 0 rfl rfl)
theorem dX8_spelt_48 : decode cX8_spelt 48 = .ok (.iload_n 3, 1) := dk_29 (dk_at dksX8_spelt_2 1 rfl rfl)
theorem dX8_spelt_49 : decode cX8_spelt 49 = .ok (.i2l, 1) := dk_133 (dk_at dksX8_spelt_2 2 rfl rfl)
theorem dX8_spelt_50 : decode cX8_spelt 50 = .ok (.ladd, 1) := dk_97 (dk_at dksX8_spelt_2 3 rfl rfl)
theorem dX8_spelt_51 : decode cX8_spelt 51 = .ok (.ldc2_w 131, 3) := dk_20 0 131 (dk_at dksX8_spelt_2 4 rfl rfl)
theorem dX8_spelt_54 : decode cX8_spelt 54 = .ok (.lsub, 1) := dk_101 (dk_at dksX8_spelt_2 7 rfl rfl)
theorem dX8_spelt_55 : decode cX8_spelt 55 = .ok (.goto 5, 3) := dk_167 0 5 (dk_at dksX8_spelt_2 8 rfl rfl)
theorem dX8_spelt_58 : decode cX8_spelt 58 = .ok (.lload 4, 2) := dk_22 4 (dk_at dksX8_spelt_2 11 rfl rfl)
theorem dX8_spelt_60 : decode cX8_spelt 60 = .ok (.lreturn, 1) := dk_173 (dk_at dksX8_spelt_2 13 rfl rfl)
abbrev cX8_on : ByteArray := prog_18_method_15_code
def yX8_on : MethodName := ⟨RX8, "on", "(JII)J"⟩
def dkwX8_on_1 : List UInt8 := [29, 133, 97, 20, 0, 131, 101, 167, 0, 5, 22, 4, 173]
abbrev dktX8_on_1 : List UInt8 := dkwX8_on_1 ++ []
def dkwX8_on_0 : List UInt8 := [20, 0, 129, 30, 105, 28, 133, 97, 20, 0, 131, 101, 55, 4, 29, 158, 0, 19, 20, 0, 129, 22, 4, 105]
abbrev dktX8_on_0 : List UInt8 := dkwX8_on_0 ++ dktX8_on_1
theorem dksX8_on_0 : cX8_on.data.toList.drop 0 = dktX8_on_0 := by decide +kernel
theorem dksX8_on_1 : cX8_on.data.toList.drop 24 = dktX8_on_1 := dk_seg dksX8_on_0 24 rfl rfl
theorem dX8_on_0 : decode cX8_on 0 = .ok (.ldc2_w 129, 3) := dk_20 0 129 (dk_at dksX8_on_0 0 rfl rfl)
theorem dX8_on_3 : decode cX8_on 3 = .ok (.lload_n 0, 1) := dk_30 (dk_at dksX8_on_0 3 rfl rfl)
theorem dX8_on_4 : decode cX8_on 4 = .ok (.lmul, 1) := dk_105 (dk_at dksX8_on_0 4 rfl rfl)
theorem dX8_on_5 : decode cX8_on 5 = .ok (.iload_n 2, 1) := dk_28 (dk_at dksX8_on_0 5 rfl rfl)
theorem dX8_on_6 : decode cX8_on 6 = .ok (.i2l, 1) := dk_133 (dk_at dksX8_on_0 6 rfl rfl)
theorem dX8_on_7 : decode cX8_on 7 = .ok (.ladd, 1) := dk_97 (dk_at dksX8_on_0 7 rfl rfl)
theorem dX8_on_8 : decode cX8_on 8 = .ok (.ldc2_w 131, 3) := dk_20 0 131 (dk_at dksX8_on_0 8 rfl rfl)
theorem dX8_on_11 : decode cX8_on 11 = .ok (.lsub, 1) := dk_101 (dk_at dksX8_on_0 11 rfl rfl)
theorem dX8_on_12 : decode cX8_on 12 = .ok (.lstore 4, 2) := dk_55 4 (dk_at dksX8_on_0 12 rfl rfl)
theorem dX8_on_14 : decode cX8_on 14 = .ok (.iload_n 3, 1) := dk_29 (dk_at dksX8_on_0 14 rfl rfl)
theorem dX8_on_15 : decode cX8_on 15 = .ok (.ifCond .le 19, 3) := dk_158 0 19 (dk_at dksX8_on_0 15 rfl rfl)
theorem dX8_on_18 : decode cX8_on 18 = .ok (.ldc2_w 129, 3) := dk_20 0 129 (dk_at dksX8_on_0 18 rfl rfl)
theorem dX8_on_21 : decode cX8_on 21 = .ok (.lload 4, 2) := dk_22 4 (dk_at dksX8_on_0 21 rfl rfl)
theorem dX8_on_23 : decode cX8_on 23 = .ok (.lmul, 1) := dk_105 (dk_at dksX8_on_0 23 rfl rfl)
theorem dX8_on_24 : decode cX8_on 24 = .ok (.iload_n 3, 1) := dk_29 (dk_at dksX8_on_1 0 rfl rfl)
theorem dX8_on_25 : decode cX8_on 25 = .ok (.i2l, 1) := dk_133 (dk_at dksX8_on_1 1 rfl rfl)
theorem dX8_on_26 : decode cX8_on 26 = .ok (.ladd, 1) := dk_97 (dk_at dksX8_on_1 2 rfl rfl)
theorem dX8_on_27 : decode cX8_on 27 = .ok (.ldc2_w 131, 3) := dk_20 0 131 (dk_at dksX8_on_1 3 rfl rfl)
theorem dX8_on_30 : decode cX8_on 30 = .ok (.lsub, 1) := dk_101 (dk_at dksX8_on_1 6 rfl rfl)
theorem dX8_on_31 : decode cX8_on 31 = .ok (.goto 5, 3) := dk_167 0 5 (dk_at dksX8_on_1 7 rfl rfl)
theorem dX8_on_34 : decode cX8_on 34 = .ok (.lload 4, 2) := dk_22 4 (dk_at dksX8_on_1 10 rfl rfl)
theorem dX8_on_36 : decode cX8_on 36 = .ok (.lreturn, 1) := dk_173 (dk_at dksX8_on_1 12 rfl rfl)
abbrev cX8_readWho : ByteArray := prog_18_method_37_code
def yX8_readWho : MethodName := ⟨RX8, "readWho", "()Z"⟩
def dkwX8_readWho_5 : List UInt8 := [4, 172]
abbrev dktX8_readWho_5 : List UInt8 := dkwX8_readWho_5 ++ []
def dkwX8_readWho_4 : List UInt8 := [3, 79, 42, 5, 182, 0, 202, 153, 0, 7, 42, 182, 0, 161, 42, 180, 0, 16, 3, 92, 46, 4, 96, 79]
abbrev dktX8_readWho_4 : List UInt8 := dkwX8_readWho_4 ++ dktX8_readWho_5
def dkwX8_readWho_3 : List UInt8 := [42, 180, 0, 16, 16, 8, 6, 27, 104, 96, 4, 96, 42, 5, 182, 0, 202, 153, 0, 7, 4, 167, 0, 4]
abbrev dktX8_readWho_3 : List UInt8 := dkwX8_readWho_3 ++ dktX8_readWho_4
def dkwX8_readWho_2 : List UInt8 := [182, 0, 202, 153, 0, 7, 4, 167, 0, 4, 3, 79, 42, 4, 182, 0, 202, 153, 0, 7, 42, 182, 0, 161]
abbrev dktX8_readWho_2 : List UInt8 := dkwX8_readWho_2 ++ dktX8_readWho_3
def dkwX8_readWho_1 : List UInt8 := [27, 182, 0, 199, 154, 0, 5, 3, 172, 42, 180, 0, 16, 16, 8, 6, 27, 104, 96, 3, 96, 42, 4]
abbrev dktX8_readWho_1 : List UInt8 := dkwX8_readWho_1 ++ dktX8_readWho_2
def dkwX8_readWho_0 : List UInt8 := [42, 180, 0, 16, 3, 46, 60, 27, 16, 8, 160, 0, 9, 42, 7, 182, 0, 151, 172, 42, 182, 0, 161, 42]
abbrev dktX8_readWho_0 : List UInt8 := dkwX8_readWho_0 ++ dktX8_readWho_1
theorem dksX8_readWho_0 : cX8_readWho.data.toList.drop 0 = dktX8_readWho_0 := by decide +kernel
theorem dksX8_readWho_1 : cX8_readWho.data.toList.drop 24 = dktX8_readWho_1 := dk_seg dksX8_readWho_0 24 rfl rfl
theorem dksX8_readWho_2 : cX8_readWho.data.toList.drop 47 = dktX8_readWho_2 := dk_seg dksX8_readWho_1 23 rfl rfl
theorem dksX8_readWho_3 : cX8_readWho.data.toList.drop 71 = dktX8_readWho_3 := dk_seg dksX8_readWho_2 24 rfl rfl
theorem dksX8_readWho_4 : cX8_readWho.data.toList.drop 95 = dktX8_readWho_4 := dk_seg dksX8_readWho_3 24 rfl rfl
theorem dksX8_readWho_5 : cX8_readWho.data.toList.drop 119 = dktX8_readWho_5 := dk_seg dksX8_readWho_4 24 rfl rfl
theorem dX8_readWho_0 : decode cX8_readWho 0 = .ok (.aload_n 0, 1) := dk_42 (dk_at dksX8_readWho_0 0 rfl rfl)
theorem dX8_readWho_1 : decode cX8_readWho 1 = .ok (.getfield 16, 3) := dk_180 0 16 (dk_at dksX8_readWho_0 1 rfl rfl)
theorem dX8_readWho_4 : decode cX8_readWho 4 = .ok (.iconst 0, 1) := dk_3 (dk_at dksX8_readWho_0 4 rfl rfl)
theorem dX8_readWho_5 : decode cX8_readWho 5 = .ok (.iaload, 1) := dk_46 (dk_at dksX8_readWho_0 5 rfl rfl)
theorem dX8_readWho_6 : decode cX8_readWho 6 = .ok (.istore_n 1, 1) := dk_60 (dk_at dksX8_readWho_0 6 rfl rfl)
theorem dX8_readWho_7 : decode cX8_readWho 7 = .ok (.iload_n 1, 1) := dk_27 (dk_at dksX8_readWho_0 7 rfl rfl)
theorem dX8_readWho_8 : decode cX8_readWho 8 = .ok (.bipush 8, 2) := dk_16 8 (dk_at dksX8_readWho_0 8 rfl rfl)
theorem dX8_readWho_10 : decode cX8_readWho 10 = .ok (.if_icmp .ne 9, 3) := dk_160 0 9 (dk_at dksX8_readWho_0 10 rfl rfl)
theorem dX8_readWho_13 : decode cX8_readWho 13 = .ok (.aload_n 0, 1) := dk_42 (dk_at dksX8_readWho_0 13 rfl rfl)
theorem dX8_readWho_14 : decode cX8_readWho 14 = .ok (.iconst 4, 1) := dk_7 (dk_at dksX8_readWho_0 14 rfl rfl)
theorem dX8_readWho_15 : decode cX8_readWho 15 = .ok (.invokevirtual 151, 3) := dk_182 0 151 (dk_at dksX8_readWho_0 15 rfl rfl)
theorem dX8_readWho_18 : decode cX8_readWho 18 = .ok (.ireturn, 1) := dk_172 (dk_at dksX8_readWho_0 18 rfl rfl)
theorem dX8_readWho_19 : decode cX8_readWho 19 = .ok (.aload_n 0, 1) := dk_42 (dk_at dksX8_readWho_0 19 rfl rfl)
theorem dX8_readWho_20 : decode cX8_readWho 20 = .ok (.invokevirtual 161, 3) := dk_182 0 161 (dk_at dksX8_readWho_0 20 rfl rfl)
theorem dX8_readWho_23 : decode cX8_readWho 23 = .ok (.aload_n 0, 1) := dk_42 (dk_at dksX8_readWho_0 23 rfl rfl)
theorem dX8_readWho_24 : decode cX8_readWho 24 = .ok (.iload_n 1, 1) := dk_27 (dk_at dksX8_readWho_1 0 rfl rfl)
theorem dX8_readWho_25 : decode cX8_readWho 25 = .ok (.invokevirtual 199, 3) := dk_182 0 199 (dk_at dksX8_readWho_1 1 rfl rfl)
theorem dX8_readWho_28 : decode cX8_readWho 28 = .ok (.ifCond .ne 5, 3) := dk_154 0 5 (dk_at dksX8_readWho_1 4 rfl rfl)
theorem dX8_readWho_31 : decode cX8_readWho 31 = .ok (.iconst 0, 1) := dk_3 (dk_at dksX8_readWho_1 7 rfl rfl)
theorem dX8_readWho_32 : decode cX8_readWho 32 = .ok (.ireturn, 1) := dk_172 (dk_at dksX8_readWho_1 8 rfl rfl)
theorem dX8_readWho_33 : decode cX8_readWho 33 = .ok (.aload_n 0, 1) := dk_42 (dk_at dksX8_readWho_1 9 rfl rfl)
theorem dX8_readWho_34 : decode cX8_readWho 34 = .ok (.getfield 16, 3) := dk_180 0 16 (dk_at dksX8_readWho_1 10 rfl rfl)
theorem dX8_readWho_37 : decode cX8_readWho 37 = .ok (.bipush 8, 2) := dk_16 8 (dk_at dksX8_readWho_1 13 rfl rfl)
theorem dX8_readWho_39 : decode cX8_readWho 39 = .ok (.iconst 3, 1) := dk_6 (dk_at dksX8_readWho_1 15 rfl rfl)
theorem dX8_readWho_40 : decode cX8_readWho 40 = .ok (.iload_n 1, 1) := dk_27 (dk_at dksX8_readWho_1 16 rfl rfl)
theorem dX8_readWho_41 : decode cX8_readWho 41 = .ok (.imul, 1) := dk_104 (dk_at dksX8_readWho_1 17 rfl rfl)
theorem dX8_readWho_42 : decode cX8_readWho 42 = .ok (.iadd, 1) := dk_96 (dk_at dksX8_readWho_1 18 rfl rfl)
theorem dX8_readWho_43 : decode cX8_readWho 43 = .ok (.iconst 0, 1) := dk_3 (dk_at dksX8_readWho_1 19 rfl rfl)
theorem dX8_readWho_44 : decode cX8_readWho 44 = .ok (.iadd, 1) := dk_96 (dk_at dksX8_readWho_1 20 rfl rfl)
theorem dX8_readWho_45 : decode cX8_readWho 45 = .ok (.aload_n 0, 1) := dk_42 (dk_at dksX8_readWho_1 21 rfl rfl)
theorem dX8_readWho_46 : decode cX8_readWho 46 = .ok (.iconst 1, 1) := dk_4 (dk_at dksX8_readWho_1 22 rfl rfl)
theorem dX8_readWho_47 : decode cX8_readWho 47 = .ok (.invokevirtual 202, 3) := dk_182 0 202 (dk_at dksX8_readWho_2 0 rfl rfl)
theorem dX8_readWho_50 : decode cX8_readWho 50 = .ok (.ifCond .eq 7, 3) := dk_153 0 7 (dk_at dksX8_readWho_2 3 rfl rfl)
theorem dX8_readWho_53 : decode cX8_readWho 53 = .ok (.iconst 1, 1) := dk_4 (dk_at dksX8_readWho_2 6 rfl rfl)
theorem dX8_readWho_54 : decode cX8_readWho 54 = .ok (.goto 4, 3) := dk_167 0 4 (dk_at dksX8_readWho_2 7 rfl rfl)
theorem dX8_readWho_57 : decode cX8_readWho 57 = .ok (.iconst 0, 1) := dk_3 (dk_at dksX8_readWho_2 10 rfl rfl)
theorem dX8_readWho_58 : decode cX8_readWho 58 = .ok (.iastore, 1) := dk_79 (dk_at dksX8_readWho_2 11 rfl rfl)
theorem dX8_readWho_59 : decode cX8_readWho 59 = .ok (.aload_n 0, 1) := dk_42 (dk_at dksX8_readWho_2 12 rfl rfl)
theorem dX8_readWho_60 : decode cX8_readWho 60 = .ok (.iconst 1, 1) := dk_4 (dk_at dksX8_readWho_2 13 rfl rfl)
theorem dX8_readWho_61 : decode cX8_readWho 61 = .ok (.invokevirtual 202, 3) := dk_182 0 202 (dk_at dksX8_readWho_2 14 rfl rfl)
theorem dX8_readWho_64 : decode cX8_readWho 64 = .ok (.ifCond .eq 7, 3) := dk_153 0 7 (dk_at dksX8_readWho_2 17 rfl rfl)
theorem dX8_readWho_67 : decode cX8_readWho 67 = .ok (.aload_n 0, 1) := dk_42 (dk_at dksX8_readWho_2 20 rfl rfl)
theorem dX8_readWho_68 : decode cX8_readWho 68 = .ok (.invokevirtual 161, 3) := dk_182 0 161 (dk_at dksX8_readWho_2 21 rfl rfl)
theorem dX8_readWho_71 : decode cX8_readWho 71 = .ok (.aload_n 0, 1) := dk_42 (dk_at dksX8_readWho_3 0 rfl rfl)
theorem dX8_readWho_72 : decode cX8_readWho 72 = .ok (.getfield 16, 3) := dk_180 0 16 (dk_at dksX8_readWho_3 1 rfl rfl)
theorem dX8_readWho_75 : decode cX8_readWho 75 = .ok (.bipush 8, 2) := dk_16 8 (dk_at dksX8_readWho_3 4 rfl rfl)
theorem dX8_readWho_77 : decode cX8_readWho 77 = .ok (.iconst 3, 1) := dk_6 (dk_at dksX8_readWho_3 6 rfl rfl)
theorem dX8_readWho_78 : decode cX8_readWho 78 = .ok (.iload_n 1, 1) := dk_27 (dk_at dksX8_readWho_3 7 rfl rfl)
theorem dX8_readWho_79 : decode cX8_readWho 79 = .ok (.imul, 1) := dk_104 (dk_at dksX8_readWho_3 8 rfl rfl)
theorem dX8_readWho_80 : decode cX8_readWho 80 = .ok (.iadd, 1) := dk_96 (dk_at dksX8_readWho_3 9 rfl rfl)
theorem dX8_readWho_81 : decode cX8_readWho 81 = .ok (.iconst 1, 1) := dk_4 (dk_at dksX8_readWho_3 10 rfl rfl)
theorem dX8_readWho_82 : decode cX8_readWho 82 = .ok (.iadd, 1) := dk_96 (dk_at dksX8_readWho_3 11 rfl rfl)
theorem dX8_readWho_83 : decode cX8_readWho 83 = .ok (.aload_n 0, 1) := dk_42 (dk_at dksX8_readWho_3 12 rfl rfl)
theorem dX8_readWho_84 : decode cX8_readWho 84 = .ok (.iconst 2, 1) := dk_5 (dk_at dksX8_readWho_3 13 rfl rfl)
theorem dX8_readWho_85 : decode cX8_readWho 85 = .ok (.invokevirtual 202, 3) := dk_182 0 202 (dk_at dksX8_readWho_3 14 rfl rfl)
theorem dX8_readWho_88 : decode cX8_readWho 88 = .ok (.ifCond .eq 7, 3) := dk_153 0 7 (dk_at dksX8_readWho_3 17 rfl rfl)
theorem dX8_readWho_91 : decode cX8_readWho 91 = .ok (.iconst 1, 1) := dk_4 (dk_at dksX8_readWho_3 20 rfl rfl)
theorem dX8_readWho_92 : decode cX8_readWho 92 = .ok (.goto 4, 3) := dk_167 0 4 (dk_at dksX8_readWho_3 21 rfl rfl)
theorem dX8_readWho_95 : decode cX8_readWho 95 = .ok (.iconst 0, 1) := dk_3 (dk_at dksX8_readWho_4 0 rfl rfl)
theorem dX8_readWho_96 : decode cX8_readWho 96 = .ok (.iastore, 1) := dk_79 (dk_at dksX8_readWho_4 1 rfl rfl)
theorem dX8_readWho_97 : decode cX8_readWho 97 = .ok (.aload_n 0, 1) := dk_42 (dk_at dksX8_readWho_4 2 rfl rfl)
theorem dX8_readWho_98 : decode cX8_readWho 98 = .ok (.iconst 2, 1) := dk_5 (dk_at dksX8_readWho_4 3 rfl rfl)
theorem dX8_readWho_99 : decode cX8_readWho 99 = .ok (.invokevirtual 202, 3) := dk_182 0 202 (dk_at dksX8_readWho_4 4 rfl rfl)
theorem dX8_readWho_102 : decode cX8_readWho 102 = .ok (.ifCond .eq 7, 3) := dk_153 0 7 (dk_at dksX8_readWho_4 7 rfl rfl)
theorem dX8_readWho_105 : decode cX8_readWho 105 = .ok (.aload_n 0, 1) := dk_42 (dk_at dksX8_readWho_4 10 rfl rfl)
theorem dX8_readWho_106 : decode cX8_readWho 106 = .ok (.invokevirtual 161, 3) := dk_182 0 161 (dk_at dksX8_readWho_4 11 rfl rfl)
theorem dX8_readWho_109 : decode cX8_readWho 109 = .ok (.aload_n 0, 1) := dk_42 (dk_at dksX8_readWho_4 14 rfl rfl)
theorem dX8_readWho_110 : decode cX8_readWho 110 = .ok (.getfield 16, 3) := dk_180 0 16 (dk_at dksX8_readWho_4 15 rfl rfl)
theorem dX8_readWho_113 : decode cX8_readWho 113 = .ok (.iconst 0, 1) := dk_3 (dk_at dksX8_readWho_4 18 rfl rfl)
theorem dX8_readWho_114 : decode cX8_readWho 114 = .ok (.dup2, 1) := dk_92 (dk_at dksX8_readWho_4 19 rfl rfl)
theorem dX8_readWho_115 : decode cX8_readWho 115 = .ok (.iaload, 1) := dk_46 (dk_at dksX8_readWho_4 20 rfl rfl)
theorem dX8_readWho_116 : decode cX8_readWho 116 = .ok (.iconst 1, 1) := dk_4 (dk_at dksX8_readWho_4 21 rfl rfl)
theorem dX8_readWho_117 : decode cX8_readWho 117 = .ok (.iadd, 1) := dk_96 (dk_at dksX8_readWho_4 22 rfl rfl)
theorem dX8_readWho_118 : decode cX8_readWho 118 = .ok (.iastore, 1) := dk_79 (dk_at dksX8_readWho_4 23 rfl rfl)
theorem dX8_readWho_119 : decode cX8_readWho 119 = .ok (.iconst 1, 1) := dk_4 (dk_at dksX8_readWho_5 0 rfl rfl)
theorem dX8_readWho_120 : decode cX8_readWho 120 = .ok (.ireturn, 1) := dk_172 (dk_at dksX8_readWho_5 1 rfl rfl)
abbrev cX8_bad : ByteArray := prog_18_method_20_code
def yX8_bad : MethodName := ⟨RX8, "bad", "(I)Z"⟩
def dkwX8_bad_1 : List UInt8 := [181, 0, 148, 3, 172]
abbrev dktX8_bad_1 : List UInt8 := dkwX8_bad_1 ++ []
def dkwX8_bad_0 : List UInt8 := [42, 42, 180, 0, 105, 4, 160, 0, 7, 4, 167, 0, 4, 27, 181, 0, 145, 42, 42, 180, 0, 99]
abbrev dktX8_bad_0 : List UInt8 := dkwX8_bad_0 ++ dktX8_bad_1
theorem dksX8_bad_0 : cX8_bad.data.toList.drop 0 = dktX8_bad_0 := by decide +kernel
theorem dksX8_bad_1 : cX8_bad.data.toList.drop 22 = dktX8_bad_1 := dk_seg dksX8_bad_0 22 rfl rfl
theorem dX8_bad_0 : decode cX8_bad 0 = .ok (.aload_n 0, 1) := dk_42 (dk_at dksX8_bad_0 0 rfl rfl)
theorem dX8_bad_1 : decode cX8_bad 1 = .ok (.aload_n 0, 1) := dk_42 (dk_at dksX8_bad_0 1 rfl rfl)
theorem dX8_bad_2 : decode cX8_bad 2 = .ok (.getfield 105, 3) := dk_180 0 105 (dk_at dksX8_bad_0 2 rfl rfl)
theorem dX8_bad_5 : decode cX8_bad 5 = .ok (.iconst 1, 1) := dk_4 (dk_at dksX8_bad_0 5 rfl rfl)
theorem dX8_bad_6 : decode cX8_bad 6 = .ok (.if_icmp .ne 7, 3) := dk_160 0 7 (dk_at dksX8_bad_0 6 rfl rfl)
theorem dX8_bad_9 : decode cX8_bad 9 = .ok (.iconst 1, 1) := dk_4 (dk_at dksX8_bad_0 9 rfl rfl)
theorem dX8_bad_10 : decode cX8_bad 10 = .ok (.goto 4, 3) := dk_167 0 4 (dk_at dksX8_bad_0 10 rfl rfl)
theorem dX8_bad_13 : decode cX8_bad 13 = .ok (.iload_n 1, 1) := dk_27 (dk_at dksX8_bad_0 13 rfl rfl)
theorem dX8_bad_14 : decode cX8_bad 14 = .ok (.putfield 145, 3) := dk_181 0 145 (dk_at dksX8_bad_0 14 rfl rfl)
theorem dX8_bad_17 : decode cX8_bad 17 = .ok (.aload_n 0, 1) := dk_42 (dk_at dksX8_bad_0 17 rfl rfl)
theorem dX8_bad_18 : decode cX8_bad 18 = .ok (.aload_n 0, 1) := dk_42 (dk_at dksX8_bad_0 18 rfl rfl)
theorem dX8_bad_19 : decode cX8_bad 19 = .ok (.getfield 99, 3) := dk_180 0 99 (dk_at dksX8_bad_0 19 rfl rfl)
theorem dX8_bad_22 : decode cX8_bad 22 = .ok (.putfield 148, 3) := dk_181 0 148 (dk_at dksX8_bad_1 0 rfl rfl)
theorem dX8_bad_25 : decode cX8_bad 25 = .ok (.iconst 0, 1) := dk_3 (dk_at dksX8_bad_1 3 rfl rfl)
theorem dX8_bad_26 : decode cX8_bad 26 = .ok (.ireturn, 1) := dk_172 (dk_at dksX8_bad_1 4 rfl rfl)
abbrev cX8_readNew : ByteArray := prog_18_method_36_code
def yX8_readNew : MethodName := ⟨RX8, "readNew", "(I)Z"⟩
def dkwX8_readNew_3 : List UInt8 := [4, 172]
abbrev dktX8_readNew_3 : List UInt8 := dkwX8_readNew_3 ++ []
def dkwX8_readNew_2 : List UInt8 := [2, 159, 0, 9, 42, 6, 182, 0, 151, 172, 42, 180, 0, 30, 27, 42, 180, 0, 118, 80, 42, 182, 0, 161]
abbrev dktX8_readNew_2 : List UInt8 := dkwX8_readNew_2 ++ dktX8_readNew_3
def dkwX8_readNew_1 : List UInt8 := [46, 182, 0, 195, 2, 160, 0, 23, 42, 42, 180, 0, 30, 16, 8, 42, 180, 0, 16, 4, 46, 182, 0, 195]
abbrev dktX8_readNew_1 : List UInt8 := dkwX8_readNew_1 ++ dktX8_readNew_2
def dkwX8_readNew_0 : List UInt8 := [42, 182, 0, 191, 154, 0, 9, 42, 4, 182, 0, 151, 172, 42, 42, 180, 0, 30, 3, 42, 180, 0, 16, 3]
abbrev dktX8_readNew_0 : List UInt8 := dkwX8_readNew_0 ++ dktX8_readNew_1
theorem dksX8_readNew_0 : cX8_readNew.data.toList.drop 0 = dktX8_readNew_0 := by decide +kernel
theorem dksX8_readNew_1 : cX8_readNew.data.toList.drop 24 = dktX8_readNew_1 := dk_seg dksX8_readNew_0 24 rfl rfl
theorem dksX8_readNew_2 : cX8_readNew.data.toList.drop 48 = dktX8_readNew_2 := dk_seg dksX8_readNew_1 24 rfl rfl
theorem dksX8_readNew_3 : cX8_readNew.data.toList.drop 72 = dktX8_readNew_3 := dk_seg dksX8_readNew_2 24 rfl rfl
theorem dX8_readNew_0 : decode cX8_readNew 0 = .ok (.aload_n 0, 1) := dk_42 (dk_at dksX8_readNew_0 0 rfl rfl)
theorem dX8_readNew_1 : decode cX8_readNew 1 = .ok (.invokevirtual 191, 3) := dk_182 0 191 (dk_at dksX8_readNew_0 1 rfl rfl)
theorem dX8_readNew_4 : decode cX8_readNew 4 = .ok (.ifCond .ne 9, 3) := dk_154 0 9 (dk_at dksX8_readNew_0 4 rfl rfl)
theorem dX8_readNew_7 : decode cX8_readNew 7 = .ok (.aload_n 0, 1) := dk_42 (dk_at dksX8_readNew_0 7 rfl rfl)
theorem dX8_readNew_8 : decode cX8_readNew 8 = .ok (.iconst 1, 1) := dk_4 (dk_at dksX8_readNew_0 8 rfl rfl)
theorem dX8_readNew_9 : decode cX8_readNew 9 = .ok (.invokevirtual 151, 3) := dk_182 0 151 (dk_at dksX8_readNew_0 9 rfl rfl)
theorem dX8_readNew_12 : decode cX8_readNew 12 = .ok (.ireturn, 1) := dk_172 (dk_at dksX8_readNew_0 12 rfl rfl)
theorem dX8_readNew_13 : decode cX8_readNew 13 = .ok (.aload_n 0, 1) := dk_42 (dk_at dksX8_readNew_0 13 rfl rfl)
theorem dX8_readNew_14 : decode cX8_readNew 14 = .ok (.aload_n 0, 1) := dk_42 (dk_at dksX8_readNew_0 14 rfl rfl)
theorem dX8_readNew_15 : decode cX8_readNew 15 = .ok (.getfield 30, 3) := dk_180 0 30 (dk_at dksX8_readNew_0 15 rfl rfl)
theorem dX8_readNew_18 : decode cX8_readNew 18 = .ok (.iconst 0, 1) := dk_3 (dk_at dksX8_readNew_0 18 rfl rfl)
theorem dX8_readNew_19 : decode cX8_readNew 19 = .ok (.aload_n 0, 1) := dk_42 (dk_at dksX8_readNew_0 19 rfl rfl)
theorem dX8_readNew_20 : decode cX8_readNew 20 = .ok (.getfield 16, 3) := dk_180 0 16 (dk_at dksX8_readNew_0 20 rfl rfl)
theorem dX8_readNew_23 : decode cX8_readNew 23 = .ok (.iconst 0, 1) := dk_3 (dk_at dksX8_readNew_0 23 rfl rfl)
theorem dX8_readNew_24 : decode cX8_readNew 24 = .ok (.iaload, 1) := dk_46 (dk_at dksX8_readNew_1 0 rfl rfl)
theorem dX8_readNew_25 : decode cX8_readNew 25 = .ok (.invokevirtual 195, 3) := dk_182 0 195 (dk_at dksX8_readNew_1 1 rfl rfl)
theorem dX8_readNew_28 : decode cX8_readNew 28 = .ok (.iconst (-1), 1) := dk_2 (dk_at dksX8_readNew_1 4 rfl rfl)
theorem dX8_readNew_29 : decode cX8_readNew 29 = .ok (.if_icmp .ne 23, 3) := dk_160 0 23 (dk_at dksX8_readNew_1 5 rfl rfl)
theorem dX8_readNew_32 : decode cX8_readNew 32 = .ok (.aload_n 0, 1) := dk_42 (dk_at dksX8_readNew_1 8 rfl rfl)
theorem dX8_readNew_33 : decode cX8_readNew 33 = .ok (.aload_n 0, 1) := dk_42 (dk_at dksX8_readNew_1 9 rfl rfl)
theorem dX8_readNew_34 : decode cX8_readNew 34 = .ok (.getfield 30, 3) := dk_180 0 30 (dk_at dksX8_readNew_1 10 rfl rfl)
theorem dX8_readNew_37 : decode cX8_readNew 37 = .ok (.bipush 8, 2) := dk_16 8 (dk_at dksX8_readNew_1 13 rfl rfl)
theorem dX8_readNew_39 : decode cX8_readNew 39 = .ok (.aload_n 0, 1) := dk_42 (dk_at dksX8_readNew_1 15 rfl rfl)
theorem dX8_readNew_40 : decode cX8_readNew 40 = .ok (.getfield 16, 3) := dk_180 0 16 (dk_at dksX8_readNew_1 16 rfl rfl)
theorem dX8_readNew_43 : decode cX8_readNew 43 = .ok (.iconst 1, 1) := dk_4 (dk_at dksX8_readNew_1 19 rfl rfl)
theorem dX8_readNew_44 : decode cX8_readNew 44 = .ok (.iaload, 1) := dk_46 (dk_at dksX8_readNew_1 20 rfl rfl)
theorem dX8_readNew_45 : decode cX8_readNew 45 = .ok (.invokevirtual 195, 3) := dk_182 0 195 (dk_at dksX8_readNew_1 21 rfl rfl)
theorem dX8_readNew_48 : decode cX8_readNew 48 = .ok (.iconst (-1), 1) := dk_2 (dk_at dksX8_readNew_2 0 rfl rfl)
theorem dX8_readNew_49 : decode cX8_readNew 49 = .ok (.if_icmp .eq 9, 3) := dk_159 0 9 (dk_at dksX8_readNew_2 1 rfl rfl)
theorem dX8_readNew_52 : decode cX8_readNew 52 = .ok (.aload_n 0, 1) := dk_42 (dk_at dksX8_readNew_2 4 rfl rfl)
theorem dX8_readNew_53 : decode cX8_readNew 53 = .ok (.iconst 3, 1) := dk_6 (dk_at dksX8_readNew_2 5 rfl rfl)
theorem dX8_readNew_54 : decode cX8_readNew 54 = .ok (.invokevirtual 151, 3) := dk_182 0 151 (dk_at dksX8_readNew_2 6 rfl rfl)
theorem dX8_readNew_57 : decode cX8_readNew 57 = .ok (.ireturn, 1) := dk_172 (dk_at dksX8_readNew_2 9 rfl rfl)
theorem dX8_readNew_58 : decode cX8_readNew 58 = .ok (.aload_n 0, 1) := dk_42 (dk_at dksX8_readNew_2 10 rfl rfl)
theorem dX8_readNew_59 : decode cX8_readNew 59 = .ok (.getfield 30, 3) := dk_180 0 30 (dk_at dksX8_readNew_2 11 rfl rfl)
theorem dX8_readNew_62 : decode cX8_readNew 62 = .ok (.iload_n 1, 1) := dk_27 (dk_at dksX8_readNew_2 14 rfl rfl)
theorem dX8_readNew_63 : decode cX8_readNew 63 = .ok (.aload_n 0, 1) := dk_42 (dk_at dksX8_readNew_2 15 rfl rfl)
theorem dX8_readNew_64 : decode cX8_readNew 64 = .ok (.getfield 118, 3) := dk_180 0 118 (dk_at dksX8_readNew_2 16 rfl rfl)
theorem dX8_readNew_67 : decode cX8_readNew 67 = .ok (.lastore, 1) := dk_80 (dk_at dksX8_readNew_2 19 rfl rfl)
theorem dX8_readNew_68 : decode cX8_readNew 68 = .ok (.aload_n 0, 1) := dk_42 (dk_at dksX8_readNew_2 20 rfl rfl)
theorem dX8_readNew_69 : decode cX8_readNew 69 = .ok (.invokevirtual 161, 3) := dk_182 0 161 (dk_at dksX8_readNew_2 21 rfl rfl)
theorem dX8_readNew_72 : decode cX8_readNew 72 = .ok (.iconst 1, 1) := dk_4 (dk_at dksX8_readNew_3 0 rfl rfl)
theorem dX8_readNew_73 : decode cX8_readNew 73 = .ok (.ireturn, 1) := dk_172 (dk_at dksX8_readNew_3 1 rfl rfl)
abbrev cX8_isName : ByteArray := prog_18_method_19_code
def yX8_isName : MethodName := ⟨RX8, "isName", "()Z"⟩
def dkwX8_isName_1 : List UInt8 := [184, 0, 141, 148, 154, 0, 5, 3, 172, 132, 1, 1, 167, 255, 233, 4, 172]
abbrev dktX8_isName_1 : List UInt8 := dkwX8_isName_1 ++ []
def dkwX8_isName_0 : List UInt8 := [42, 180, 0, 105, 5, 159, 0, 5, 3, 172, 3, 60, 27, 16, 18, 163, 0, 23, 42, 180, 0, 118, 27]
abbrev dktX8_isName_0 : List UInt8 := dkwX8_isName_0 ++ dktX8_isName_1
theorem dksX8_isName_0 : cX8_isName.data.toList.drop 0 = dktX8_isName_0 := by decide +kernel
theorem dksX8_isName_1 : cX8_isName.data.toList.drop 23 = dktX8_isName_1 := dk_seg dksX8_isName_0 23 rfl rfl
theorem dX8_isName_0 : decode cX8_isName 0 = .ok (.aload_n 0, 1) := dk_42 (dk_at dksX8_isName_0 0 rfl rfl)
theorem dX8_isName_1 : decode cX8_isName 1 = .ok (.getfield 105, 3) := dk_180 0 105 (dk_at dksX8_isName_0 1 rfl rfl)
theorem dX8_isName_4 : decode cX8_isName 4 = .ok (.iconst 2, 1) := dk_5 (dk_at dksX8_isName_0 4 rfl rfl)
theorem dX8_isName_5 : decode cX8_isName 5 = .ok (.if_icmp .eq 5, 3) := dk_159 0 5 (dk_at dksX8_isName_0 5 rfl rfl)
theorem dX8_isName_8 : decode cX8_isName 8 = .ok (.iconst 0, 1) := dk_3 (dk_at dksX8_isName_0 8 rfl rfl)
theorem dX8_isName_9 : decode cX8_isName 9 = .ok (.ireturn, 1) := dk_172 (dk_at dksX8_isName_0 9 rfl rfl)
theorem dX8_isName_10 : decode cX8_isName 10 = .ok (.iconst 0, 1) := dk_3 (dk_at dksX8_isName_0 10 rfl rfl)
theorem dX8_isName_11 : decode cX8_isName 11 = .ok (.istore_n 1, 1) := dk_60 (dk_at dksX8_isName_0 11 rfl rfl)
theorem dX8_isName_12 : decode cX8_isName 12 = .ok (.iload_n 1, 1) := dk_27 (dk_at dksX8_isName_0 12 rfl rfl)
theorem dX8_isName_13 : decode cX8_isName 13 = .ok (.bipush 18, 2) := dk_16 18 (dk_at dksX8_isName_0 13 rfl rfl)
theorem dX8_isName_15 : decode cX8_isName 15 = .ok (.if_icmp .gt 23, 3) := dk_163 0 23 (dk_at dksX8_isName_0 15 rfl rfl)
theorem dX8_isName_18 : decode cX8_isName 18 = .ok (.aload_n 0, 1) := dk_42 (dk_at dksX8_isName_0 18 rfl rfl)
theorem dX8_isName_19 : decode cX8_isName 19 = .ok (.getfield 118, 3) := dk_180 0 118 (dk_at dksX8_isName_0 19 rfl rfl)
theorem dX8_isName_22 : decode cX8_isName 22 = .ok (.iload_n 1, 1) := dk_27 (dk_at dksX8_isName_0 22 rfl rfl)
theorem dX8_isName_23 : decode cX8_isName 23 = .ok (.invokestatic 141, 3) := dk_184 0 141 (dk_at dksX8_isName_1 0 rfl rfl)
theorem dX8_isName_26 : decode cX8_isName 26 = .ok (.lcmp, 1) := dk_148 (dk_at dksX8_isName_1 3 rfl rfl)
theorem dX8_isName_27 : decode cX8_isName 27 = .ok (.ifCond .ne 5, 3) := dk_154 0 5 (dk_at dksX8_isName_1 4 rfl rfl)
theorem dX8_isName_30 : decode cX8_isName 30 = .ok (.iconst 0, 1) := dk_3 (dk_at dksX8_isName_1 7 rfl rfl)
theorem dX8_isName_31 : decode cX8_isName 31 = .ok (.ireturn, 1) := dk_172 (dk_at dksX8_isName_1 8 rfl rfl)
theorem dX8_isName_32 : decode cX8_isName 32 = .ok (.iinc 1 1, 3) := dk_132 1 1 (dk_at dksX8_isName_1 9 rfl rfl)
theorem dX8_isName_35 : decode cX8_isName 35 = .ok (.goto (-23), 3) := dk_167 255 233 (dk_at dksX8_isName_1 12 rfl rfl)
theorem dX8_isName_38 : decode cX8_isName 38 = .ok (.iconst 1, 1) := dk_4 (dk_at dksX8_isName_1 15 rfl rfl)
theorem dX8_isName_39 : decode cX8_isName 39 = .ok (.ireturn, 1) := dk_172 (dk_at dksX8_isName_1 16 rfl rfl)
abbrev cX8_findIn : ByteArray := prog_18_method_35_code
def yX8_findIn : MethodName := ⟨RX8, "findIn", "([JII)I"⟩
def dkwX8_findIn_1 : List UInt8 := [21, 4, 172, 132, 4, 1, 167, 255, 230, 2, 172]
abbrev dktX8_findIn_1 : List UInt8 := dkwX8_findIn_1 ++ []
def dkwX8_findIn_0 : List UInt8 := [3, 54, 4, 21, 4, 29, 162, 0, 26, 43, 28, 21, 4, 96, 47, 42, 180, 0, 118, 148, 154, 0, 6]
abbrev dktX8_findIn_0 : List UInt8 := dkwX8_findIn_0 ++ dktX8_findIn_1
theorem dksX8_findIn_0 : cX8_findIn.data.toList.drop 0 = dktX8_findIn_0 := by decide +kernel
theorem dksX8_findIn_1 : cX8_findIn.data.toList.drop 23 = dktX8_findIn_1 := dk_seg dksX8_findIn_0 23 rfl rfl
theorem dX8_findIn_0 : decode cX8_findIn 0 = .ok (.iconst 0, 1) := dk_3 (dk_at dksX8_findIn_0 0 rfl rfl)
theorem dX8_findIn_1 : decode cX8_findIn 1 = .ok (.istore 4, 2) := dk_54 4 (dk_at dksX8_findIn_0 1 rfl rfl)
theorem dX8_findIn_3 : decode cX8_findIn 3 = .ok (.iload 4, 2) := dk_21 4 (dk_at dksX8_findIn_0 3 rfl rfl)
theorem dX8_findIn_5 : decode cX8_findIn 5 = .ok (.iload_n 3, 1) := dk_29 (dk_at dksX8_findIn_0 5 rfl rfl)
theorem dX8_findIn_6 : decode cX8_findIn 6 = .ok (.if_icmp .ge 26, 3) := dk_162 0 26 (dk_at dksX8_findIn_0 6 rfl rfl)
theorem dX8_findIn_9 : decode cX8_findIn 9 = .ok (.aload_n 1, 1) := dk_43 (dk_at dksX8_findIn_0 9 rfl rfl)
theorem dX8_findIn_10 : decode cX8_findIn 10 = .ok (.iload_n 2, 1) := dk_28 (dk_at dksX8_findIn_0 10 rfl rfl)
theorem dX8_findIn_11 : decode cX8_findIn 11 = .ok (.iload 4, 2) := dk_21 4 (dk_at dksX8_findIn_0 11 rfl rfl)
theorem dX8_findIn_13 : decode cX8_findIn 13 = .ok (.iadd, 1) := dk_96 (dk_at dksX8_findIn_0 13 rfl rfl)
theorem dX8_findIn_14 : decode cX8_findIn 14 = .ok (.laload, 1) := dk_47 (dk_at dksX8_findIn_0 14 rfl rfl)
theorem dX8_findIn_15 : decode cX8_findIn 15 = .ok (.aload_n 0, 1) := dk_42 (dk_at dksX8_findIn_0 15 rfl rfl)
theorem dX8_findIn_16 : decode cX8_findIn 16 = .ok (.getfield 118, 3) := dk_180 0 118 (dk_at dksX8_findIn_0 16 rfl rfl)
theorem dX8_findIn_19 : decode cX8_findIn 19 = .ok (.lcmp, 1) := dk_148 (dk_at dksX8_findIn_0 19 rfl rfl)
theorem dX8_findIn_20 : decode cX8_findIn 20 = .ok (.ifCond .ne 6, 3) := dk_154 0 6 (dk_at dksX8_findIn_0 20 rfl rfl)
theorem dX8_findIn_23 : decode cX8_findIn 23 = .ok (.iload 4, 2) := dk_21 4 (dk_at dksX8_findIn_1 0 rfl rfl)
theorem dX8_findIn_25 : decode cX8_findIn 25 = .ok (.ireturn, 1) := dk_172 (dk_at dksX8_findIn_1 2 rfl rfl)
theorem dX8_findIn_26 : decode cX8_findIn 26 = .ok (.iinc 4 1, 3) := dk_132 4 1 (dk_at dksX8_findIn_1 3 rfl rfl)
theorem dX8_findIn_29 : decode cX8_findIn 29 = .ok (.goto (-26), 3) := dk_167 255 230 (dk_at dksX8_findIn_1 6 rfl rfl)
theorem dX8_findIn_32 : decode cX8_findIn 32 = .ok (.iconst (-1), 1) := dk_2 (dk_at dksX8_findIn_1 9 rfl rfl)
theorem dX8_findIn_33 : decode cX8_findIn 33 = .ok (.ireturn, 1) := dk_172 (dk_at dksX8_findIn_1 10 rfl rfl)
abbrev cX8_readMint : ByteArray := prog_18_method_38_code
def yX8_readMint : MethodName := ⟨RX8, "readMint", "()Z"⟩
def dkwX8_readMint_4 : List UInt8 := [180, 0, 16, 4, 92, 46, 4, 96, 79, 4, 172]
abbrev dktX8_readMint_4 : List UInt8 := dkwX8_readMint_4 ++ []
def dkwX8_readMint_3 : List UInt8 := [154, 0, 5, 3, 172, 42, 180, 0, 16, 16, 32, 6, 27, 104, 96, 4, 96, 42, 180, 0, 158, 79, 42]
abbrev dktX8_readMint_3 : List UInt8 := dkwX8_readMint_3 ++ dktX8_readMint_4
def dkwX8_readMint_2 : List UInt8 := [180, 0, 16, 16, 32, 6, 27, 104, 96, 3, 96, 42, 180, 0, 158, 79, 42, 4, 16, 9, 182, 0, 205]
abbrev dktX8_readMint_2 : List UInt8 := dkwX8_readMint_2 ++ dktX8_readMint_3
def dkwX8_readMint_1 : List UInt8 := [16, 8, 27, 96, 182, 0, 199, 153, 0, 13, 42, 4, 16, 50, 182, 0, 205, 154, 0, 5, 3, 172, 42]
abbrev dktX8_readMint_1 : List UInt8 := dkwX8_readMint_1 ++ dktX8_readMint_2
def dkwX8_readMint_0 : List UInt8 := [42, 180, 0, 16, 4, 46, 60, 27, 7, 160, 0, 9, 42, 7, 182, 0, 151, 172, 42, 182, 0, 161, 42]
abbrev dktX8_readMint_0 : List UInt8 := dkwX8_readMint_0 ++ dktX8_readMint_1
theorem dksX8_readMint_0 : cX8_readMint.data.toList.drop 0 = dktX8_readMint_0 := by decide +kernel
theorem dksX8_readMint_1 : cX8_readMint.data.toList.drop 23 = dktX8_readMint_1 := dk_seg dksX8_readMint_0 23 rfl rfl
theorem dksX8_readMint_2 : cX8_readMint.data.toList.drop 46 = dktX8_readMint_2 := dk_seg dksX8_readMint_1 23 rfl rfl
theorem dksX8_readMint_3 : cX8_readMint.data.toList.drop 69 = dktX8_readMint_3 := dk_seg dksX8_readMint_2 23 rfl rfl
theorem dksX8_readMint_4 : cX8_readMint.data.toList.drop 92 = dktX8_readMint_4 := dk_seg dksX8_readMint_3 23 rfl rfl
theorem dX8_readMint_0 : decode cX8_readMint 0 = .ok (.aload_n 0, 1) := dk_42 (dk_at dksX8_readMint_0 0 rfl rfl)
theorem dX8_readMint_1 : decode cX8_readMint 1 = .ok (.getfield 16, 3) := dk_180 0 16 (dk_at dksX8_readMint_0 1 rfl rfl)
theorem dX8_readMint_4 : decode cX8_readMint 4 = .ok (.iconst 1, 1) := dk_4 (dk_at dksX8_readMint_0 4 rfl rfl)
theorem dX8_readMint_5 : decode cX8_readMint 5 = .ok (.iaload, 1) := dk_46 (dk_at dksX8_readMint_0 5 rfl rfl)
theorem dX8_readMint_6 : decode cX8_readMint 6 = .ok (.istore_n 1, 1) := dk_60 (dk_at dksX8_readMint_0 6 rfl rfl)
theorem dX8_readMint_7 : decode cX8_readMint 7 = .ok (.iload_n 1, 1) := dk_27 (dk_at dksX8_readMint_0 7 rfl rfl)
theorem dX8_readMint_8 : decode cX8_readMint 8 = .ok (.iconst 4, 1) := dk_7 (dk_at dksX8_readMint_0 8 rfl rfl)
theorem dX8_readMint_9 : decode cX8_readMint 9 = .ok (.if_icmp .ne 9, 3) := dk_160 0 9 (dk_at dksX8_readMint_0 9 rfl rfl)
theorem dX8_readMint_12 : decode cX8_readMint 12 = .ok (.aload_n 0, 1) := dk_42 (dk_at dksX8_readMint_0 12 rfl rfl)
theorem dX8_readMint_13 : decode cX8_readMint 13 = .ok (.iconst 4, 1) := dk_7 (dk_at dksX8_readMint_0 13 rfl rfl)
theorem dX8_readMint_14 : decode cX8_readMint 14 = .ok (.invokevirtual 151, 3) := dk_182 0 151 (dk_at dksX8_readMint_0 14 rfl rfl)
theorem dX8_readMint_17 : decode cX8_readMint 17 = .ok (.ireturn, 1) := dk_172 (dk_at dksX8_readMint_0 17 rfl rfl)
theorem dX8_readMint_18 : decode cX8_readMint 18 = .ok (.aload_n 0, 1) := dk_42 (dk_at dksX8_readMint_0 18 rfl rfl)
theorem dX8_readMint_19 : decode cX8_readMint 19 = .ok (.invokevirtual 161, 3) := dk_182 0 161 (dk_at dksX8_readMint_0 19 rfl rfl)
theorem dX8_readMint_22 : decode cX8_readMint 22 = .ok (.aload_n 0, 1) := dk_42 (dk_at dksX8_readMint_0 22 rfl rfl)
theorem dX8_readMint_23 : decode cX8_readMint 23 = .ok (.bipush 8, 2) := dk_16 8 (dk_at dksX8_readMint_1 0 rfl rfl)
theorem dX8_readMint_25 : decode cX8_readMint 25 = .ok (.iload_n 1, 1) := dk_27 (dk_at dksX8_readMint_1 2 rfl rfl)
theorem dX8_readMint_26 : decode cX8_readMint 26 = .ok (.iadd, 1) := dk_96 (dk_at dksX8_readMint_1 3 rfl rfl)
theorem dX8_readMint_27 : decode cX8_readMint 27 = .ok (.invokevirtual 199, 3) := dk_182 0 199 (dk_at dksX8_readMint_1 4 rfl rfl)
theorem dX8_readMint_30 : decode cX8_readMint 30 = .ok (.ifCond .eq 13, 3) := dk_153 0 13 (dk_at dksX8_readMint_1 7 rfl rfl)
theorem dX8_readMint_33 : decode cX8_readMint 33 = .ok (.aload_n 0, 1) := dk_42 (dk_at dksX8_readMint_1 10 rfl rfl)
theorem dX8_readMint_34 : decode cX8_readMint 34 = .ok (.iconst 1, 1) := dk_4 (dk_at dksX8_readMint_1 11 rfl rfl)
theorem dX8_readMint_35 : decode cX8_readMint 35 = .ok (.bipush 50, 2) := dk_16 50 (dk_at dksX8_readMint_1 12 rfl rfl)
theorem dX8_readMint_37 : decode cX8_readMint 37 = .ok (.invokevirtual 205, 3) := dk_182 0 205 (dk_at dksX8_readMint_1 14 rfl rfl)
theorem dX8_readMint_40 : decode cX8_readMint 40 = .ok (.ifCond .ne 5, 3) := dk_154 0 5 (dk_at dksX8_readMint_1 17 rfl rfl)
theorem dX8_readMint_43 : decode cX8_readMint 43 = .ok (.iconst 0, 1) := dk_3 (dk_at dksX8_readMint_1 20 rfl rfl)
theorem dX8_readMint_44 : decode cX8_readMint 44 = .ok (.ireturn, 1) := dk_172 (dk_at dksX8_readMint_1 21 rfl rfl)
theorem dX8_readMint_45 : decode cX8_readMint 45 = .ok (.aload_n 0, 1) := dk_42 (dk_at dksX8_readMint_1 22 rfl rfl)
theorem dX8_readMint_46 : decode cX8_readMint 46 = .ok (.getfield 16, 3) := dk_180 0 16 (dk_at dksX8_readMint_2 0 rfl rfl)
theorem dX8_readMint_49 : decode cX8_readMint 49 = .ok (.bipush 32, 2) := dk_16 32 (dk_at dksX8_readMint_2 3 rfl rfl)
theorem dX8_readMint_51 : decode cX8_readMint 51 = .ok (.iconst 3, 1) := dk_6 (dk_at dksX8_readMint_2 5 rfl rfl)
theorem dX8_readMint_52 : decode cX8_readMint 52 = .ok (.iload_n 1, 1) := dk_27 (dk_at dksX8_readMint_2 6 rfl rfl)
theorem dX8_readMint_53 : decode cX8_readMint 53 = .ok (.imul, 1) := dk_104 (dk_at dksX8_readMint_2 7 rfl rfl)
theorem dX8_readMint_54 : decode cX8_readMint 54 = .ok (.iadd, 1) := dk_96 (dk_at dksX8_readMint_2 8 rfl rfl)
theorem dX8_readMint_55 : decode cX8_readMint 55 = .ok (.iconst 0, 1) := dk_3 (dk_at dksX8_readMint_2 9 rfl rfl)
theorem dX8_readMint_56 : decode cX8_readMint 56 = .ok (.iadd, 1) := dk_96 (dk_at dksX8_readMint_2 10 rfl rfl)
theorem dX8_readMint_57 : decode cX8_readMint 57 = .ok (.aload_n 0, 1) := dk_42 (dk_at dksX8_readMint_2 11 rfl rfl)
theorem dX8_readMint_58 : decode cX8_readMint 58 = .ok (.getfield 158, 3) := dk_180 0 158 (dk_at dksX8_readMint_2 12 rfl rfl)
theorem dX8_readMint_61 : decode cX8_readMint 61 = .ok (.iastore, 1) := dk_79 (dk_at dksX8_readMint_2 15 rfl rfl)
theorem dX8_readMint_62 : decode cX8_readMint 62 = .ok (.aload_n 0, 1) := dk_42 (dk_at dksX8_readMint_2 16 rfl rfl)
theorem dX8_readMint_63 : decode cX8_readMint 63 = .ok (.iconst 1, 1) := dk_4 (dk_at dksX8_readMint_2 17 rfl rfl)
theorem dX8_readMint_64 : decode cX8_readMint 64 = .ok (.bipush 9, 2) := dk_16 9 (dk_at dksX8_readMint_2 18 rfl rfl)
theorem dX8_readMint_66 : decode cX8_readMint 66 = .ok (.invokevirtual 205, 3) := dk_182 0 205 (dk_at dksX8_readMint_2 20 rfl rfl)
theorem dX8_readMint_69 : decode cX8_readMint 69 = .ok (.ifCond .ne 5, 3) := dk_154 0 5 (dk_at dksX8_readMint_3 0 rfl rfl)
theorem dX8_readMint_72 : decode cX8_readMint 72 = .ok (.iconst 0, 1) := dk_3 (dk_at dksX8_readMint_3 3 rfl rfl)
theorem dX8_readMint_73 : decode cX8_readMint 73 = .ok (.ireturn, 1) := dk_172 (dk_at dksX8_readMint_3 4 rfl rfl)
theorem dX8_readMint_74 : decode cX8_readMint 74 = .ok (.aload_n 0, 1) := dk_42 (dk_at dksX8_readMint_3 5 rfl rfl)
theorem dX8_readMint_75 : decode cX8_readMint 75 = .ok (.getfield 16, 3) := dk_180 0 16 (dk_at dksX8_readMint_3 6 rfl rfl)
theorem dX8_readMint_78 : decode cX8_readMint 78 = .ok (.bipush 32, 2) := dk_16 32 (dk_at dksX8_readMint_3 9 rfl rfl)
theorem dX8_readMint_80 : decode cX8_readMint 80 = .ok (.iconst 3, 1) := dk_6 (dk_at dksX8_readMint_3 11 rfl rfl)
theorem dX8_readMint_81 : decode cX8_readMint 81 = .ok (.iload_n 1, 1) := dk_27 (dk_at dksX8_readMint_3 12 rfl rfl)
theorem dX8_readMint_82 : decode cX8_readMint 82 = .ok (.imul, 1) := dk_104 (dk_at dksX8_readMint_3 13 rfl rfl)
theorem dX8_readMint_83 : decode cX8_readMint 83 = .ok (.iadd, 1) := dk_96 (dk_at dksX8_readMint_3 14 rfl rfl)
theorem dX8_readMint_84 : decode cX8_readMint 84 = .ok (.iconst 1, 1) := dk_4 (dk_at dksX8_readMint_3 15 rfl rfl)
theorem dX8_readMint_85 : decode cX8_readMint 85 = .ok (.iadd, 1) := dk_96 (dk_at dksX8_readMint_3 16 rfl rfl)
theorem dX8_readMint_86 : decode cX8_readMint 86 = .ok (.aload_n 0, 1) := dk_42 (dk_at dksX8_readMint_3 17 rfl rfl)
theorem dX8_readMint_87 : decode cX8_readMint 87 = .ok (.getfield 158, 3) := dk_180 0 158 (dk_at dksX8_readMint_3 18 rfl rfl)
theorem dX8_readMint_90 : decode cX8_readMint 90 = .ok (.iastore, 1) := dk_79 (dk_at dksX8_readMint_3 21 rfl rfl)
theorem dX8_readMint_91 : decode cX8_readMint 91 = .ok (.aload_n 0, 1) := dk_42 (dk_at dksX8_readMint_3 22 rfl rfl)
theorem dX8_readMint_92 : decode cX8_readMint 92 = .ok (.getfield 16, 3) := dk_180 0 16 (dk_at dksX8_readMint_4 0 rfl rfl)
theorem dX8_readMint_95 : decode cX8_readMint 95 = .ok (.iconst 1, 1) := dk_4 (dk_at dksX8_readMint_4 3 rfl rfl)
theorem dX8_readMint_96 : decode cX8_readMint 96 = .ok (.dup2, 1) := dk_92 (dk_at dksX8_readMint_4 4 rfl rfl)
theorem dX8_readMint_97 : decode cX8_readMint 97 = .ok (.iaload, 1) := dk_46 (dk_at dksX8_readMint_4 5 rfl rfl)
theorem dX8_readMint_98 : decode cX8_readMint 98 = .ok (.iconst 1, 1) := dk_4 (dk_at dksX8_readMint_4 6 rfl rfl)
theorem dX8_readMint_99 : decode cX8_readMint 99 = .ok (.iadd, 1) := dk_96 (dk_at dksX8_readMint_4 7 rfl rfl)
theorem dX8_readMint_100 : decode cX8_readMint 100 = .ok (.iastore, 1) := dk_79 (dk_at dksX8_readMint_4 8 rfl rfl)
theorem dX8_readMint_101 : decode cX8_readMint 101 = .ok (.iconst 1, 1) := dk_4 (dk_at dksX8_readMint_4 9 rfl rfl)
theorem dX8_readMint_102 : decode cX8_readMint 102 = .ok (.ireturn, 1) := dk_172 (dk_at dksX8_readMint_4 10 rfl rfl)
abbrev cX8_readNumber : ByteArray := prog_18_method_21_code
def yX8_readNumber : MethodName := ⟨RX8, "readNumber", "(II)Z"⟩
def dkwX8_readNumber_1 : List UInt8 := [154, 0, 9, 42, 5, 182, 0, 151, 172, 42, 42, 180, 0, 122, 181, 0, 158, 42, 182, 0, 161, 4, 172]
abbrev dktX8_readNumber_1 : List UInt8 := dkwX8_readNumber_1 ++ []
def dkwX8_readNumber_0 : List UInt8 := [42, 180, 0, 105, 6, 159, 0, 9, 42, 4, 182, 0, 151, 172, 42, 180, 0, 122, 27, 28, 184, 0, 154]
abbrev dktX8_readNumber_0 : List UInt8 := dkwX8_readNumber_0 ++ dktX8_readNumber_1
theorem dksX8_readNumber_0 : cX8_readNumber.data.toList.drop 0 = dktX8_readNumber_0 := by decide +kernel
theorem dksX8_readNumber_1 : cX8_readNumber.data.toList.drop 23 = dktX8_readNumber_1 := dk_seg dksX8_readNumber_0 23 rfl rfl
theorem dX8_readNumber_0 : decode cX8_readNumber 0 = .ok (.aload_n 0, 1) := dk_42 (dk_at dksX8_readNumber_0 0 rfl rfl)
theorem dX8_readNumber_1 : decode cX8_readNumber 1 = .ok (.getfield 105, 3) := dk_180 0 105 (dk_at dksX8_readNumber_0 1 rfl rfl)
theorem dX8_readNumber_4 : decode cX8_readNumber 4 = .ok (.iconst 3, 1) := dk_6 (dk_at dksX8_readNumber_0 4 rfl rfl)
theorem dX8_readNumber_5 : decode cX8_readNumber 5 = .ok (.if_icmp .eq 9, 3) := dk_159 0 9 (dk_at dksX8_readNumber_0 5 rfl rfl)
theorem dX8_readNumber_8 : decode cX8_readNumber 8 = .ok (.aload_n 0, 1) := dk_42 (dk_at dksX8_readNumber_0 8 rfl rfl)
theorem dX8_readNumber_9 : decode cX8_readNumber 9 = .ok (.iconst 1, 1) := dk_4 (dk_at dksX8_readNumber_0 9 rfl rfl)
theorem dX8_readNumber_10 : decode cX8_readNumber 10 = .ok (.invokevirtual 151, 3) := dk_182 0 151 (dk_at dksX8_readNumber_0 10 rfl rfl)
theorem dX8_readNumber_13 : decode cX8_readNumber 13 = .ok (.ireturn, 1) := dk_172 (dk_at dksX8_readNumber_0 13 rfl rfl)
theorem dX8_readNumber_14 : decode cX8_readNumber 14 = .ok (.aload_n 0, 1) := dk_42 (dk_at dksX8_readNumber_0 14 rfl rfl)
theorem dX8_readNumber_15 : decode cX8_readNumber 15 = .ok (.getfield 122, 3) := dk_180 0 122 (dk_at dksX8_readNumber_0 15 rfl rfl)
theorem dX8_readNumber_18 : decode cX8_readNumber 18 = .ok (.iload_n 1, 1) := dk_27 (dk_at dksX8_readNumber_0 18 rfl rfl)
theorem dX8_readNumber_19 : decode cX8_readNumber 19 = .ok (.iload_n 2, 1) := dk_28 (dk_at dksX8_readNumber_0 19 rfl rfl)
theorem dX8_readNumber_20 : decode cX8_readNumber 20 = .ok (.invokestatic 154, 3) := dk_184 0 154 (dk_at dksX8_readNumber_0 20 rfl rfl)
theorem dX8_readNumber_23 : decode cX8_readNumber 23 = .ok (.ifCond .ne 9, 3) := dk_154 0 9 (dk_at dksX8_readNumber_1 0 rfl rfl)
theorem dX8_readNumber_26 : decode cX8_readNumber 26 = .ok (.aload_n 0, 1) := dk_42 (dk_at dksX8_readNumber_1 3 rfl rfl)
theorem dX8_readNumber_27 : decode cX8_readNumber 27 = .ok (.iconst 2, 1) := dk_5 (dk_at dksX8_readNumber_1 4 rfl rfl)
theorem dX8_readNumber_28 : decode cX8_readNumber 28 = .ok (.invokevirtual 151, 3) := dk_182 0 151 (dk_at dksX8_readNumber_1 5 rfl rfl)
theorem dX8_readNumber_31 : decode cX8_readNumber 31 = .ok (.ireturn, 1) := dk_172 (dk_at dksX8_readNumber_1 8 rfl rfl)
theorem dX8_readNumber_32 : decode cX8_readNumber 32 = .ok (.aload_n 0, 1) := dk_42 (dk_at dksX8_readNumber_1 9 rfl rfl)
theorem dX8_readNumber_33 : decode cX8_readNumber 33 = .ok (.aload_n 0, 1) := dk_42 (dk_at dksX8_readNumber_1 10 rfl rfl)
theorem dX8_readNumber_34 : decode cX8_readNumber 34 = .ok (.getfield 122, 3) := dk_180 0 122 (dk_at dksX8_readNumber_1 11 rfl rfl)
theorem dX8_readNumber_37 : decode cX8_readNumber 37 = .ok (.putfield 158, 3) := dk_181 0 158 (dk_at dksX8_readNumber_1 14 rfl rfl)
theorem dX8_readNumber_40 : decode cX8_readNumber 40 = .ok (.aload_n 0, 1) := dk_42 (dk_at dksX8_readNumber_1 17 rfl rfl)
theorem dX8_readNumber_41 : decode cX8_readNumber 41 = .ok (.invokevirtual 161, 3) := dk_182 0 161 (dk_at dksX8_readNumber_1 18 rfl rfl)
theorem dX8_readNumber_44 : decode cX8_readNumber 44 = .ok (.iconst 1, 1) := dk_4 (dk_at dksX8_readNumber_1 21 rfl rfl)
theorem dX8_readNumber_45 : decode cX8_readNumber 45 = .ok (.ireturn, 1) := dk_172 (dk_at dksX8_readNumber_1 22 rfl rfl)
abbrev cX8_isIn : ByteArray := prog_18_method_8_code
def yX8_isIn : MethodName := ⟨RX8, "isIn", "(III)Z"⟩
def dkwX8_isIn_0 : List UInt8 := [26, 27, 161, 0, 12, 26, 28, 163, 0, 7, 4, 167, 0, 4, 3, 172]
abbrev dktX8_isIn_0 : List UInt8 := dkwX8_isIn_0 ++ []
theorem dksX8_isIn_0 : cX8_isIn.data.toList.drop 0 = dktX8_isIn_0 := by decide +kernel
theorem dX8_isIn_0 : decode cX8_isIn 0 = .ok (.iload_n 0, 1) := dk_26 (dk_at dksX8_isIn_0 0 rfl rfl)
theorem dX8_isIn_1 : decode cX8_isIn 1 = .ok (.iload_n 1, 1) := dk_27 (dk_at dksX8_isIn_0 1 rfl rfl)
theorem dX8_isIn_2 : decode cX8_isIn 2 = .ok (.if_icmp .lt 12, 3) := dk_161 0 12 (dk_at dksX8_isIn_0 2 rfl rfl)
theorem dX8_isIn_5 : decode cX8_isIn 5 = .ok (.iload_n 0, 1) := dk_26 (dk_at dksX8_isIn_0 5 rfl rfl)
theorem dX8_isIn_6 : decode cX8_isIn 6 = .ok (.iload_n 2, 1) := dk_28 (dk_at dksX8_isIn_0 6 rfl rfl)
theorem dX8_isIn_7 : decode cX8_isIn 7 = .ok (.if_icmp .gt 7, 3) := dk_163 0 7 (dk_at dksX8_isIn_0 7 rfl rfl)
theorem dX8_isIn_10 : decode cX8_isIn 10 = .ok (.iconst 1, 1) := dk_4 (dk_at dksX8_isIn_0 10 rfl rfl)
theorem dX8_isIn_11 : decode cX8_isIn 11 = .ok (.goto 4, 3) := dk_167 0 4 (dk_at dksX8_isIn_0 11 rfl rfl)
theorem dX8_isIn_14 : decode cX8_isIn 14 = .ok (.iconst 0, 1) := dk_3 (dk_at dksX8_isIn_0 14 rfl rfl)
theorem dX8_isIn_15 : decode cX8_isIn 15 = .ok (.ireturn, 1) := dk_172 (dk_at dksX8_isIn_0 15 rfl rfl)
abbrev cX8_readTakes : ByteArray := prog_18_method_40_code
def yX8_readTakes : MethodName := ⟨RX8, "readTakes", "()Z"⟩
def dkwX8_readTakes_4 : List UInt8 := [5, 92, 46, 4, 96, 79, 4, 172]
abbrev dktX8_readTakes_4 : List UInt8 := dkwX8_readTakes_4 ++ []
def dkwX8_readTakes_3 : List UInt8 := [182, 0, 205, 154, 0, 5, 3, 172, 42, 180, 0, 16, 28, 42, 180, 0, 158, 4, 96, 79, 42, 180, 0, 16]
abbrev dktX8_readTakes_3 : List UInt8 := dkwX8_readTakes_3 ++ dktX8_readTakes_4
def dkwX8_readTakes_2 : List UInt8 := [180, 0, 16, 28, 46, 158, 0, 9, 42, 6, 182, 0, 151, 172, 42, 182, 0, 161, 42, 3, 17, 0, 200]
abbrev dktX8_readTakes_2 : List UInt8 := dkwX8_readTakes_2 ++ dktX8_readTakes_3
def dkwX8_readTakes_1 : List UInt8 := [182, 0, 209, 154, 0, 5, 3, 172, 16, 44, 16, 8, 27, 104, 96, 42, 180, 0, 158, 96, 61, 42]
abbrev dktX8_readTakes_1 : List UInt8 := dkwX8_readTakes_1 ++ dktX8_readTakes_2
def dkwX8_readTakes_0 : List UInt8 := [42, 182, 0, 161, 42, 182, 0, 209, 154, 0, 5, 3, 172, 42, 180, 0, 158, 60, 42, 182, 0, 161, 42]
abbrev dktX8_readTakes_0 : List UInt8 := dkwX8_readTakes_0 ++ dktX8_readTakes_1
theorem dksX8_readTakes_0 : cX8_readTakes.data.toList.drop 0 = dktX8_readTakes_0 := by decide +kernel
theorem dksX8_readTakes_1 : cX8_readTakes.data.toList.drop 23 = dktX8_readTakes_1 := dk_seg dksX8_readTakes_0 23 rfl rfl
theorem dksX8_readTakes_2 : cX8_readTakes.data.toList.drop 45 = dktX8_readTakes_2 := dk_seg dksX8_readTakes_1 22 rfl rfl
theorem dksX8_readTakes_3 : cX8_readTakes.data.toList.drop 68 = dktX8_readTakes_3 := dk_seg dksX8_readTakes_2 23 rfl rfl
theorem dksX8_readTakes_4 : cX8_readTakes.data.toList.drop 92 = dktX8_readTakes_4 := dk_seg dksX8_readTakes_3 24 rfl rfl
theorem dX8_readTakes_0 : decode cX8_readTakes 0 = .ok (.aload_n 0, 1) := dk_42 (dk_at dksX8_readTakes_0 0 rfl rfl)
theorem dX8_readTakes_1 : decode cX8_readTakes 1 = .ok (.invokevirtual 161, 3) := dk_182 0 161 (dk_at dksX8_readTakes_0 1 rfl rfl)
theorem dX8_readTakes_4 : decode cX8_readTakes 4 = .ok (.aload_n 0, 1) := dk_42 (dk_at dksX8_readTakes_0 4 rfl rfl)
theorem dX8_readTakes_5 : decode cX8_readTakes 5 = .ok (.invokevirtual 209, 3) := dk_182 0 209 (dk_at dksX8_readTakes_0 5 rfl rfl)
theorem dX8_readTakes_8 : decode cX8_readTakes 8 = .ok (.ifCond .ne 5, 3) := dk_154 0 5 (dk_at dksX8_readTakes_0 8 rfl rfl)
theorem dX8_readTakes_11 : decode cX8_readTakes 11 = .ok (.iconst 0, 1) := dk_3 (dk_at dksX8_readTakes_0 11 rfl rfl)
theorem dX8_readTakes_12 : decode cX8_readTakes 12 = .ok (.ireturn, 1) := dk_172 (dk_at dksX8_readTakes_0 12 rfl rfl)
theorem dX8_readTakes_13 : decode cX8_readTakes 13 = .ok (.aload_n 0, 1) := dk_42 (dk_at dksX8_readTakes_0 13 rfl rfl)
theorem dX8_readTakes_14 : decode cX8_readTakes 14 = .ok (.getfield 158, 3) := dk_180 0 158 (dk_at dksX8_readTakes_0 14 rfl rfl)
theorem dX8_readTakes_17 : decode cX8_readTakes 17 = .ok (.istore_n 1, 1) := dk_60 (dk_at dksX8_readTakes_0 17 rfl rfl)
theorem dX8_readTakes_18 : decode cX8_readTakes 18 = .ok (.aload_n 0, 1) := dk_42 (dk_at dksX8_readTakes_0 18 rfl rfl)
theorem dX8_readTakes_19 : decode cX8_readTakes 19 = .ok (.invokevirtual 161, 3) := dk_182 0 161 (dk_at dksX8_readTakes_0 19 rfl rfl)
theorem dX8_readTakes_22 : decode cX8_readTakes 22 = .ok (.aload_n 0, 1) := dk_42 (dk_at dksX8_readTakes_0 22 rfl rfl)
theorem dX8_readTakes_23 : decode cX8_readTakes 23 = .ok (.invokevirtual 209, 3) := dk_182 0 209 (dk_at dksX8_readTakes_1 0 rfl rfl)
theorem dX8_readTakes_26 : decode cX8_readTakes 26 = .ok (.ifCond .ne 5, 3) := dk_154 0 5 (dk_at dksX8_readTakes_1 3 rfl rfl)
theorem dX8_readTakes_29 : decode cX8_readTakes 29 = .ok (.iconst 0, 1) := dk_3 (dk_at dksX8_readTakes_1 6 rfl rfl)
theorem dX8_readTakes_30 : decode cX8_readTakes 30 = .ok (.ireturn, 1) := dk_172 (dk_at dksX8_readTakes_1 7 rfl rfl)
theorem dX8_readTakes_31 : decode cX8_readTakes 31 = .ok (.bipush 44, 2) := dk_16 44 (dk_at dksX8_readTakes_1 8 rfl rfl)
theorem dX8_readTakes_33 : decode cX8_readTakes 33 = .ok (.bipush 8, 2) := dk_16 8 (dk_at dksX8_readTakes_1 10 rfl rfl)
theorem dX8_readTakes_35 : decode cX8_readTakes 35 = .ok (.iload_n 1, 1) := dk_27 (dk_at dksX8_readTakes_1 12 rfl rfl)
theorem dX8_readTakes_36 : decode cX8_readTakes 36 = .ok (.imul, 1) := dk_104 (dk_at dksX8_readTakes_1 13 rfl rfl)
theorem dX8_readTakes_37 : decode cX8_readTakes 37 = .ok (.iadd, 1) := dk_96 (dk_at dksX8_readTakes_1 14 rfl rfl)
theorem dX8_readTakes_38 : decode cX8_readTakes 38 = .ok (.aload_n 0, 1) := dk_42 (dk_at dksX8_readTakes_1 15 rfl rfl)
theorem dX8_readTakes_39 : decode cX8_readTakes 39 = .ok (.getfield 158, 3) := dk_180 0 158 (dk_at dksX8_readTakes_1 16 rfl rfl)
theorem dX8_readTakes_42 : decode cX8_readTakes 42 = .ok (.iadd, 1) := dk_96 (dk_at dksX8_readTakes_1 19 rfl rfl)
theorem dX8_readTakes_43 : decode cX8_readTakes 43 = .ok (.istore_n 2, 1) := dk_61 (dk_at dksX8_readTakes_1 20 rfl rfl)
theorem dX8_readTakes_44 : decode cX8_readTakes 44 = .ok (.aload_n 0, 1) := dk_42 (dk_at dksX8_readTakes_1 21 rfl rfl)
theorem dX8_readTakes_45 : decode cX8_readTakes 45 = .ok (.getfield 16, 3) := dk_180 0 16 (dk_at dksX8_readTakes_2 0 rfl rfl)
theorem dX8_readTakes_48 : decode cX8_readTakes 48 = .ok (.iload_n 2, 1) := dk_28 (dk_at dksX8_readTakes_2 3 rfl rfl)
theorem dX8_readTakes_49 : decode cX8_readTakes 49 = .ok (.iaload, 1) := dk_46 (dk_at dksX8_readTakes_2 4 rfl rfl)
theorem dX8_readTakes_50 : decode cX8_readTakes 50 = .ok (.ifCond .le 9, 3) := dk_158 0 9 (dk_at dksX8_readTakes_2 5 rfl rfl)
theorem dX8_readTakes_53 : decode cX8_readTakes 53 = .ok (.aload_n 0, 1) := dk_42 (dk_at dksX8_readTakes_2 8 rfl rfl)
theorem dX8_readTakes_54 : decode cX8_readTakes 54 = .ok (.iconst 3, 1) := dk_6 (dk_at dksX8_readTakes_2 9 rfl rfl)
theorem dX8_readTakes_55 : decode cX8_readTakes 55 = .ok (.invokevirtual 151, 3) := dk_182 0 151 (dk_at dksX8_readTakes_2 10 rfl rfl)
theorem dX8_readTakes_58 : decode cX8_readTakes 58 = .ok (.ireturn, 1) := dk_172 (dk_at dksX8_readTakes_2 13 rfl rfl)
theorem dX8_readTakes_59 : decode cX8_readTakes 59 = .ok (.aload_n 0, 1) := dk_42 (dk_at dksX8_readTakes_2 14 rfl rfl)
theorem dX8_readTakes_60 : decode cX8_readTakes 60 = .ok (.invokevirtual 161, 3) := dk_182 0 161 (dk_at dksX8_readTakes_2 15 rfl rfl)
theorem dX8_readTakes_63 : decode cX8_readTakes 63 = .ok (.aload_n 0, 1) := dk_42 (dk_at dksX8_readTakes_2 18 rfl rfl)
theorem dX8_readTakes_64 : decode cX8_readTakes 64 = .ok (.iconst 0, 1) := dk_3 (dk_at dksX8_readTakes_2 19 rfl rfl)
theorem dX8_readTakes_65 : decode cX8_readTakes 65 = .ok (.sipush 200, 3) := dk_17 0 200 (dk_at dksX8_readTakes_2 20 rfl rfl)
theorem dX8_readTakes_68 : decode cX8_readTakes 68 = .ok (.invokevirtual 205, 3) := dk_182 0 205 (dk_at dksX8_readTakes_3 0 rfl rfl)
theorem dX8_readTakes_71 : decode cX8_readTakes 71 = .ok (.ifCond .ne 5, 3) := dk_154 0 5 (dk_at dksX8_readTakes_3 3 rfl rfl)
theorem dX8_readTakes_74 : decode cX8_readTakes 74 = .ok (.iconst 0, 1) := dk_3 (dk_at dksX8_readTakes_3 6 rfl rfl)
theorem dX8_readTakes_75 : decode cX8_readTakes 75 = .ok (.ireturn, 1) := dk_172 (dk_at dksX8_readTakes_3 7 rfl rfl)
theorem dX8_readTakes_76 : decode cX8_readTakes 76 = .ok (.aload_n 0, 1) := dk_42 (dk_at dksX8_readTakes_3 8 rfl rfl)
theorem dX8_readTakes_77 : decode cX8_readTakes 77 = .ok (.getfield 16, 3) := dk_180 0 16 (dk_at dksX8_readTakes_3 9 rfl rfl)
theorem dX8_readTakes_80 : decode cX8_readTakes 80 = .ok (.iload_n 2, 1) := dk_28 (dk_at dksX8_readTakes_3 12 rfl rfl)
theorem dX8_readTakes_81 : decode cX8_readTakes 81 = .ok (.aload_n 0, 1) := dk_42 (dk_at dksX8_readTakes_3 13 rfl rfl)
theorem dX8_readTakes_82 : decode cX8_readTakes 82 = .ok (.getfield 158, 3) := dk_180 0 158 (dk_at dksX8_readTakes_3 14 rfl rfl)
theorem dX8_readTakes_85 : decode cX8_readTakes 85 = .ok (.iconst 1, 1) := dk_4 (dk_at dksX8_readTakes_3 17 rfl rfl)
theorem dX8_readTakes_86 : decode cX8_readTakes 86 = .ok (.iadd, 1) := dk_96 (dk_at dksX8_readTakes_3 18 rfl rfl)
theorem dX8_readTakes_87 : decode cX8_readTakes 87 = .ok (.iastore, 1) := dk_79 (dk_at dksX8_readTakes_3 19 rfl rfl)
theorem dX8_readTakes_88 : decode cX8_readTakes 88 = .ok (.aload_n 0, 1) := dk_42 (dk_at dksX8_readTakes_3 20 rfl rfl)
theorem dX8_readTakes_89 : decode cX8_readTakes 89 = .ok (.getfield 16, 3) := dk_180 0 16 (dk_at dksX8_readTakes_3 21 rfl rfl)
theorem dX8_readTakes_92 : decode cX8_readTakes 92 = .ok (.iconst 2, 1) := dk_5 (dk_at dksX8_readTakes_4 0 rfl rfl)
theorem dX8_readTakes_93 : decode cX8_readTakes 93 = .ok (.dup2, 1) := dk_92 (dk_at dksX8_readTakes_4 1 rfl rfl)
theorem dX8_readTakes_94 : decode cX8_readTakes 94 = .ok (.iaload, 1) := dk_46 (dk_at dksX8_readTakes_4 2 rfl rfl)
theorem dX8_readTakes_95 : decode cX8_readTakes 95 = .ok (.iconst 1, 1) := dk_4 (dk_at dksX8_readTakes_4 3 rfl rfl)
theorem dX8_readTakes_96 : decode cX8_readTakes 96 = .ok (.iadd, 1) := dk_96 (dk_at dksX8_readTakes_4 4 rfl rfl)
theorem dX8_readTakes_97 : decode cX8_readTakes 97 = .ok (.iastore, 1) := dk_79 (dk_at dksX8_readTakes_4 5 rfl rfl)
theorem dX8_readTakes_98 : decode cX8_readTakes 98 = .ok (.iconst 1, 1) := dk_4 (dk_at dksX8_readTakes_4 6 rfl rfl)
theorem dX8_readTakes_99 : decode cX8_readTakes 99 = .ok (.ireturn, 1) := dk_172 (dk_at dksX8_readTakes_4 7 rfl rfl)
abbrev cX8_readWhoTold : ByteArray := prog_18_method_39_code
def yX8_readWhoTold : MethodName := ⟨RX8, "readWhoTold", "()Z"⟩
def dkwX8_readWhoTold_2 : List UInt8 := [4, 167, 0, 4, 3, 172]
abbrev dktX8_readWhoTold_2 : List UInt8 := dkwX8_readWhoTold_2 ++ []
def dkwX8_readWhoTold_1 : List UInt8 := [3, 46, 182, 0, 195, 181, 0, 158, 42, 180, 0, 158, 2, 160, 0, 11, 42, 6, 182, 0, 151, 153, 0, 7]
abbrev dktX8_readWhoTold_1 : List UInt8 := dkwX8_readWhoTold_1 ++ dktX8_readWhoTold_2
def dkwX8_readWhoTold_0 : List UInt8 := [42, 182, 0, 191, 154, 0, 9, 42, 4, 182, 0, 151, 172, 42, 42, 42, 180, 0, 30, 3, 42, 180, 0, 16]
abbrev dktX8_readWhoTold_0 : List UInt8 := dkwX8_readWhoTold_0 ++ dktX8_readWhoTold_1
theorem dksX8_readWhoTold_0 : cX8_readWhoTold.data.toList.drop 0 = dktX8_readWhoTold_0 := by decide +kernel
theorem dksX8_readWhoTold_1 : cX8_readWhoTold.data.toList.drop 24 = dktX8_readWhoTold_1 := dk_seg dksX8_readWhoTold_0 24 rfl rfl
theorem dksX8_readWhoTold_2 : cX8_readWhoTold.data.toList.drop 48 = dktX8_readWhoTold_2 := dk_seg dksX8_readWhoTold_1 24 rfl rfl
theorem dX8_readWhoTold_0 : decode cX8_readWhoTold 0 = .ok (.aload_n 0, 1) := dk_42 (dk_at dksX8_readWhoTold_0 0 rfl rfl)
theorem dX8_readWhoTold_1 : decode cX8_readWhoTold 1 = .ok (.invokevirtual 191, 3) := dk_182 0 191 (dk_at dksX8_readWhoTold_0 1 rfl rfl)
theorem dX8_readWhoTold_4 : decode cX8_readWhoTold 4 = .ok (.ifCond .ne 9, 3) := dk_154 0 9 (dk_at dksX8_readWhoTold_0 4 rfl rfl)
theorem dX8_readWhoTold_7 : decode cX8_readWhoTold 7 = .ok (.aload_n 0, 1) := dk_42 (dk_at dksX8_readWhoTold_0 7 rfl rfl)
theorem dX8_readWhoTold_8 : decode cX8_readWhoTold 8 = .ok (.iconst 1, 1) := dk_4 (dk_at dksX8_readWhoTold_0 8 rfl rfl)
theorem dX8_readWhoTold_9 : decode cX8_readWhoTold 9 = .ok (.invokevirtual 151, 3) := dk_182 0 151 (dk_at dksX8_readWhoTold_0 9 rfl rfl)
theorem dX8_readWhoTold_12 : decode cX8_readWhoTold 12 = .ok (.ireturn, 1) := dk_172 (dk_at dksX8_readWhoTold_0 12 rfl rfl)
theorem dX8_readWhoTold_13 : decode cX8_readWhoTold 13 = .ok (.aload_n 0, 1) := dk_42 (dk_at dksX8_readWhoTold_0 13 rfl rfl)
theorem dX8_readWhoTold_14 : decode cX8_readWhoTold 14 = .ok (.aload_n 0, 1) := dk_42 (dk_at dksX8_readWhoTold_0 14 rfl rfl)
theorem dX8_readWhoTold_15 : decode cX8_readWhoTold 15 = .ok (.aload_n 0, 1) := dk_42 (dk_at dksX8_readWhoTold_0 15 rfl rfl)
theorem dX8_readWhoTold_16 : decode cX8_readWhoTold 16 = .ok (.getfield 30, 3) := dk_180 0 30 (dk_at dksX8_readWhoTold_0 16 rfl rfl)
theorem dX8_readWhoTold_19 : decode cX8_readWhoTold 19 = .ok (.iconst 0, 1) := dk_3 (dk_at dksX8_readWhoTold_0 19 rfl rfl)
theorem dX8_readWhoTold_20 : decode cX8_readWhoTold 20 = .ok (.aload_n 0, 1) := dk_42 (dk_at dksX8_readWhoTold_0 20 rfl rfl)
theorem dX8_readWhoTold_21 : decode cX8_readWhoTold 21 = .ok (.getfield 16, 3) := dk_180 0 16 (dk_at dksX8_readWhoTold_0 21 rfl rfl)
theorem dX8_readWhoTold_24 : decode cX8_readWhoTold 24 = .ok (.iconst 0, 1) := dk_3 (dk_at dksX8_readWhoTold_1 0 rfl rfl)
theorem dX8_readWhoTold_25 : decode cX8_readWhoTold 25 = .ok (.iaload, 1) := dk_46 (dk_at dksX8_readWhoTold_1 1 rfl rfl)
theorem dX8_readWhoTold_26 : decode cX8_readWhoTold 26 = .ok (.invokevirtual 195, 3) := dk_182 0 195 (dk_at dksX8_readWhoTold_1 2 rfl rfl)
theorem dX8_readWhoTold_29 : decode cX8_readWhoTold 29 = .ok (.putfield 158, 3) := dk_181 0 158 (dk_at dksX8_readWhoTold_1 5 rfl rfl)
theorem dX8_readWhoTold_32 : decode cX8_readWhoTold 32 = .ok (.aload_n 0, 1) := dk_42 (dk_at dksX8_readWhoTold_1 8 rfl rfl)
theorem dX8_readWhoTold_33 : decode cX8_readWhoTold 33 = .ok (.getfield 158, 3) := dk_180 0 158 (dk_at dksX8_readWhoTold_1 9 rfl rfl)
theorem dX8_readWhoTold_36 : decode cX8_readWhoTold 36 = .ok (.iconst (-1), 1) := dk_2 (dk_at dksX8_readWhoTold_1 12 rfl rfl)
theorem dX8_readWhoTold_37 : decode cX8_readWhoTold 37 = .ok (.if_icmp .ne 11, 3) := dk_160 0 11 (dk_at dksX8_readWhoTold_1 13 rfl rfl)
theorem dX8_readWhoTold_40 : decode cX8_readWhoTold 40 = .ok (.aload_n 0, 1) := dk_42 (dk_at dksX8_readWhoTold_1 16 rfl rfl)
theorem dX8_readWhoTold_41 : decode cX8_readWhoTold 41 = .ok (.iconst 3, 1) := dk_6 (dk_at dksX8_readWhoTold_1 17 rfl rfl)
theorem dX8_readWhoTold_42 : decode cX8_readWhoTold 42 = .ok (.invokevirtual 151, 3) := dk_182 0 151 (dk_at dksX8_readWhoTold_1 18 rfl rfl)
theorem dX8_readWhoTold_45 : decode cX8_readWhoTold 45 = .ok (.ifCond .eq 7, 3) := dk_153 0 7 (dk_at dksX8_readWhoTold_1 21 rfl rfl)
theorem dX8_readWhoTold_48 : decode cX8_readWhoTold 48 = .ok (.iconst 1, 1) := dk_4 (dk_at dksX8_readWhoTold_2 0 rfl rfl)
theorem dX8_readWhoTold_49 : decode cX8_readWhoTold 49 = .ok (.goto 4, 3) := dk_167 0 4 (dk_at dksX8_readWhoTold_2 1 rfl rfl)
theorem dX8_readWhoTold_52 : decode cX8_readWhoTold 52 = .ok (.iconst 0, 1) := dk_3 (dk_at dksX8_readWhoTold_2 4 rfl rfl)
theorem dX8_readWhoTold_53 : decode cX8_readWhoTold 53 = .ok (.ireturn, 1) := dk_172 (dk_at dksX8_readWhoTold_2 5 rfl rfl)
abbrev cX8_readOnce : ByteArray := prog_18_method_41_code
def yX8_readOnce : MethodName := ⟨RX8, "readOnce", "(IIII)Z"⟩
def dkwX8_readOnce_2 : List UInt8 := [180, 0, 16, 28, 42, 180, 0, 158, 79, 4, 172]
abbrev dktX8_readOnce_2 : List UInt8 := dkwX8_readOnce_2 ++ []
def dkwX8_readOnce_1 : List UInt8 := [120, 128, 181, 0, 212, 42, 182, 0, 161, 42, 29, 21, 4, 182, 0, 205, 154, 0, 5, 3, 172, 42]
abbrev dktX8_readOnce_1 : List UInt8 := dkwX8_readOnce_1 ++ dktX8_readOnce_2
def dkwX8_readOnce_0 : List UInt8 := [42, 180, 0, 212, 27, 184, 0, 215, 153, 0, 9, 42, 6, 182, 0, 151, 172, 42, 89, 180, 0, 212, 4, 27]
abbrev dktX8_readOnce_0 : List UInt8 := dkwX8_readOnce_0 ++ dktX8_readOnce_1
theorem dksX8_readOnce_0 : cX8_readOnce.data.toList.drop 0 = dktX8_readOnce_0 := by decide +kernel
theorem dksX8_readOnce_1 : cX8_readOnce.data.toList.drop 24 = dktX8_readOnce_1 := dk_seg dksX8_readOnce_0 24 rfl rfl
theorem dksX8_readOnce_2 : cX8_readOnce.data.toList.drop 46 = dktX8_readOnce_2 := dk_seg dksX8_readOnce_1 22 rfl rfl
theorem dX8_readOnce_0 : decode cX8_readOnce 0 = .ok (.aload_n 0, 1) := dk_42 (dk_at dksX8_readOnce_0 0 rfl rfl)
theorem dX8_readOnce_1 : decode cX8_readOnce 1 = .ok (.getfield 212, 3) := dk_180 0 212 (dk_at dksX8_readOnce_0 1 rfl rfl)
theorem dX8_readOnce_4 : decode cX8_readOnce 4 = .ok (.iload_n 1, 1) := dk_27 (dk_at dksX8_readOnce_0 4 rfl rfl)
theorem dX8_readOnce_5 : decode cX8_readOnce 5 = .ok (.invokestatic 215, 3) := dk_184 0 215 (dk_at dksX8_readOnce_0 5 rfl rfl)
theorem dX8_readOnce_8 : decode cX8_readOnce 8 = .ok (.ifCond .eq 9, 3) := dk_153 0 9 (dk_at dksX8_readOnce_0 8 rfl rfl)
theorem dX8_readOnce_11 : decode cX8_readOnce 11 = .ok (.aload_n 0, 1) := dk_42 (dk_at dksX8_readOnce_0 11 rfl rfl)
theorem dX8_readOnce_12 : decode cX8_readOnce 12 = .ok (.iconst 3, 1) := dk_6 (dk_at dksX8_readOnce_0 12 rfl rfl)
theorem dX8_readOnce_13 : decode cX8_readOnce 13 = .ok (.invokevirtual 151, 3) := dk_182 0 151 (dk_at dksX8_readOnce_0 13 rfl rfl)
theorem dX8_readOnce_16 : decode cX8_readOnce 16 = .ok (.ireturn, 1) := dk_172 (dk_at dksX8_readOnce_0 16 rfl rfl)
theorem dX8_readOnce_17 : decode cX8_readOnce 17 = .ok (.aload_n 0, 1) := dk_42 (dk_at dksX8_readOnce_0 17 rfl rfl)
theorem dX8_readOnce_18 : decode cX8_readOnce 18 = .ok (.dup, 1) := dk_89 (dk_at dksX8_readOnce_0 18 rfl rfl)
theorem dX8_readOnce_19 : decode cX8_readOnce 19 = .ok (.getfield 212, 3) := dk_180 0 212 (dk_at dksX8_readOnce_0 19 rfl rfl)
theorem dX8_readOnce_22 : decode cX8_readOnce 22 = .ok (.iconst 1, 1) := dk_4 (dk_at dksX8_readOnce_0 22 rfl rfl)
theorem dX8_readOnce_23 : decode cX8_readOnce 23 = .ok (.iload_n 1, 1) := dk_27 (dk_at dksX8_readOnce_0 23 rfl rfl)
theorem dX8_readOnce_24 : decode cX8_readOnce 24 = .ok (.ishl, 1) := dk_120 (dk_at dksX8_readOnce_1 0 rfl rfl)
theorem dX8_readOnce_25 : decode cX8_readOnce 25 = .ok (.ior, 1) := dk_128 (dk_at dksX8_readOnce_1 1 rfl rfl)
theorem dX8_readOnce_26 : decode cX8_readOnce 26 = .ok (.putfield 212, 3) := dk_181 0 212 (dk_at dksX8_readOnce_1 2 rfl rfl)
theorem dX8_readOnce_29 : decode cX8_readOnce 29 = .ok (.aload_n 0, 1) := dk_42 (dk_at dksX8_readOnce_1 5 rfl rfl)
theorem dX8_readOnce_30 : decode cX8_readOnce 30 = .ok (.invokevirtual 161, 3) := dk_182 0 161 (dk_at dksX8_readOnce_1 6 rfl rfl)
theorem dX8_readOnce_33 : decode cX8_readOnce 33 = .ok (.aload_n 0, 1) := dk_42 (dk_at dksX8_readOnce_1 9 rfl rfl)
theorem dX8_readOnce_34 : decode cX8_readOnce 34 = .ok (.iload_n 3, 1) := dk_29 (dk_at dksX8_readOnce_1 10 rfl rfl)
theorem dX8_readOnce_35 : decode cX8_readOnce 35 = .ok (.iload 4, 2) := dk_21 4 (dk_at dksX8_readOnce_1 11 rfl rfl)
theorem dX8_readOnce_37 : decode cX8_readOnce 37 = .ok (.invokevirtual 205, 3) := dk_182 0 205 (dk_at dksX8_readOnce_1 13 rfl rfl)
theorem dX8_readOnce_40 : decode cX8_readOnce 40 = .ok (.ifCond .ne 5, 3) := dk_154 0 5 (dk_at dksX8_readOnce_1 16 rfl rfl)
theorem dX8_readOnce_43 : decode cX8_readOnce 43 = .ok (.iconst 0, 1) := dk_3 (dk_at dksX8_readOnce_1 19 rfl rfl)
theorem dX8_readOnce_44 : decode cX8_readOnce 44 = .ok (.ireturn, 1) := dk_172 (dk_at dksX8_readOnce_1 20 rfl rfl)
theorem dX8_readOnce_45 : decode cX8_readOnce 45 = .ok (.aload_n 0, 1) := dk_42 (dk_at dksX8_readOnce_1 21 rfl rfl)
theorem dX8_readOnce_46 : decode cX8_readOnce 46 = .ok (.getfield 16, 3) := dk_180 0 16 (dk_at dksX8_readOnce_2 0 rfl rfl)
theorem dX8_readOnce_49 : decode cX8_readOnce 49 = .ok (.iload_n 2, 1) := dk_28 (dk_at dksX8_readOnce_2 3 rfl rfl)
theorem dX8_readOnce_50 : decode cX8_readOnce 50 = .ok (.aload_n 0, 1) := dk_42 (dk_at dksX8_readOnce_2 4 rfl rfl)
theorem dX8_readOnce_51 : decode cX8_readOnce 51 = .ok (.getfield 158, 3) := dk_180 0 158 (dk_at dksX8_readOnce_2 5 rfl rfl)
theorem dX8_readOnce_54 : decode cX8_readOnce 54 = .ok (.iastore, 1) := dk_79 (dk_at dksX8_readOnce_2 8 rfl rfl)
theorem dX8_readOnce_55 : decode cX8_readOnce 55 = .ok (.iconst 1, 1) := dk_4 (dk_at dksX8_readOnce_2 9 rfl rfl)
theorem dX8_readOnce_56 : decode cX8_readOnce 56 = .ok (.ireturn, 1) := dk_172 (dk_at dksX8_readOnce_2 10 rfl rfl)
abbrev cX8_has : ByteArray := prog_18_method_9_code
def yX8_has : MethodName := ⟨RX8, "has", "(II)Z"⟩
def dkwX8_has_0 : List UInt8 := [26, 27, 122, 4, 126, 4, 160, 0, 7, 4, 167, 0, 4, 3, 172]
abbrev dktX8_has_0 : List UInt8 := dkwX8_has_0 ++ []
theorem dksX8_has_0 : cX8_has.data.toList.drop 0 = dktX8_has_0 := by decide +kernel
theorem dX8_has_0 : decode cX8_has 0 = .ok (.iload_n 0, 1) := dk_26 (dk_at dksX8_has_0 0 rfl rfl)
theorem dX8_has_1 : decode cX8_has 1 = .ok (.iload_n 1, 1) := dk_27 (dk_at dksX8_has_0 1 rfl rfl)
theorem dX8_has_2 : decode cX8_has 2 = .ok (.ishr, 1) := dk_122 (dk_at dksX8_has_0 2 rfl rfl)
theorem dX8_has_3 : decode cX8_has 3 = .ok (.iconst 1, 1) := dk_4 (dk_at dksX8_has_0 3 rfl rfl)
theorem dX8_has_4 : decode cX8_has 4 = .ok (.iand, 1) := dk_126 (dk_at dksX8_has_0 4 rfl rfl)
theorem dX8_has_5 : decode cX8_has 5 = .ok (.iconst 1, 1) := dk_4 (dk_at dksX8_has_0 5 rfl rfl)
theorem dX8_has_6 : decode cX8_has 6 = .ok (.if_icmp .ne 7, 3) := dk_160 0 7 (dk_at dksX8_has_0 6 rfl rfl)
theorem dX8_has_9 : decode cX8_has 9 = .ok (.iconst 1, 1) := dk_4 (dk_at dksX8_has_0 9 rfl rfl)
theorem dX8_has_10 : decode cX8_has 10 = .ok (.goto 4, 3) := dk_167 0 4 (dk_at dksX8_has_0 10 rfl rfl)
theorem dX8_has_13 : decode cX8_has 13 = .ok (.iconst 0, 1) := dk_3 (dk_at dksX8_has_0 13 rfl rfl)
theorem dX8_has_14 : decode cX8_has 14 = .ok (.ireturn, 1) := dk_172 (dk_at dksX8_has_0 14 rfl rfl)
abbrev cX8_readEnd : ByteArray := prog_18_method_22_code
def yX8_readEnd : MethodName := ⟨RX8, "readEnd", "()Z"⟩
def dkwX8_readEnd_0 : List UInt8 := [42, 16, 59, 182, 0, 164, 154, 0, 9, 42, 4, 182, 0, 151, 172, 42, 182, 0, 161, 4, 172]
abbrev dktX8_readEnd_0 : List UInt8 := dkwX8_readEnd_0 ++ []
theorem dksX8_readEnd_0 : cX8_readEnd.data.toList.drop 0 = dktX8_readEnd_0 := by decide +kernel
theorem dX8_readEnd_0 : decode cX8_readEnd 0 = .ok (.aload_n 0, 1) := dk_42 (dk_at dksX8_readEnd_0 0 rfl rfl)
theorem dX8_readEnd_1 : decode cX8_readEnd 1 = .ok (.bipush 59, 2) := dk_16 59 (dk_at dksX8_readEnd_0 1 rfl rfl)
theorem dX8_readEnd_3 : decode cX8_readEnd 3 = .ok (.invokevirtual 164, 3) := dk_182 0 164 (dk_at dksX8_readEnd_0 3 rfl rfl)
theorem dX8_readEnd_6 : decode cX8_readEnd 6 = .ok (.ifCond .ne 9, 3) := dk_154 0 9 (dk_at dksX8_readEnd_0 6 rfl rfl)
theorem dX8_readEnd_9 : decode cX8_readEnd 9 = .ok (.aload_n 0, 1) := dk_42 (dk_at dksX8_readEnd_0 9 rfl rfl)
theorem dX8_readEnd_10 : decode cX8_readEnd 10 = .ok (.iconst 1, 1) := dk_4 (dk_at dksX8_readEnd_0 10 rfl rfl)
theorem dX8_readEnd_11 : decode cX8_readEnd 11 = .ok (.invokevirtual 151, 3) := dk_182 0 151 (dk_at dksX8_readEnd_0 11 rfl rfl)
theorem dX8_readEnd_14 : decode cX8_readEnd 14 = .ok (.ireturn, 1) := dk_172 (dk_at dksX8_readEnd_0 14 rfl rfl)
theorem dX8_readEnd_15 : decode cX8_readEnd 15 = .ok (.aload_n 0, 1) := dk_42 (dk_at dksX8_readEnd_0 15 rfl rfl)
theorem dX8_readEnd_16 : decode cX8_readEnd 16 = .ok (.invokevirtual 161, 3) := dk_182 0 161 (dk_at dksX8_readEnd_0 16 rfl rfl)
theorem dX8_readEnd_19 : decode cX8_readEnd 19 = .ok (.iconst 1, 1) := dk_4 (dk_at dksX8_readEnd_0 19 rfl rfl)
theorem dX8_readEnd_20 : decode cX8_readEnd 20 = .ok (.ireturn, 1) := dk_172 (dk_at dksX8_readEnd_0 20 rfl rfl)
abbrev cX8_isSign : ByteArray := prog_18_method_18_code
def yX8_isSign : MethodName := ⟨RX8, "isSign", "(I)Z"⟩
def dkwX8_isSign_0 : List UInt8 := [42, 180, 0, 105, 7, 160, 0, 15, 42, 180, 0, 115, 27, 160, 0, 7, 4, 167, 0, 4, 3, 172]
abbrev dktX8_isSign_0 : List UInt8 := dkwX8_isSign_0 ++ []
theorem dksX8_isSign_0 : cX8_isSign.data.toList.drop 0 = dktX8_isSign_0 := by decide +kernel
theorem dX8_isSign_0 : decode cX8_isSign 0 = .ok (.aload_n 0, 1) := dk_42 (dk_at dksX8_isSign_0 0 rfl rfl)
theorem dX8_isSign_1 : decode cX8_isSign 1 = .ok (.getfield 105, 3) := dk_180 0 105 (dk_at dksX8_isSign_0 1 rfl rfl)
theorem dX8_isSign_4 : decode cX8_isSign 4 = .ok (.iconst 4, 1) := dk_7 (dk_at dksX8_isSign_0 4 rfl rfl)
theorem dX8_isSign_5 : decode cX8_isSign 5 = .ok (.if_icmp .ne 15, 3) := dk_160 0 15 (dk_at dksX8_isSign_0 5 rfl rfl)
theorem dX8_isSign_8 : decode cX8_isSign 8 = .ok (.aload_n 0, 1) := dk_42 (dk_at dksX8_isSign_0 8 rfl rfl)
theorem dX8_isSign_9 : decode cX8_isSign 9 = .ok (.getfield 115, 3) := dk_180 0 115 (dk_at dksX8_isSign_0 9 rfl rfl)
theorem dX8_isSign_12 : decode cX8_isSign 12 = .ok (.iload_n 1, 1) := dk_27 (dk_at dksX8_isSign_0 12 rfl rfl)
theorem dX8_isSign_13 : decode cX8_isSign 13 = .ok (.if_icmp .ne 7, 3) := dk_160 0 7 (dk_at dksX8_isSign_0 13 rfl rfl)
theorem dX8_isSign_16 : decode cX8_isSign 16 = .ok (.iconst 1, 1) := dk_4 (dk_at dksX8_isSign_0 16 rfl rfl)
theorem dX8_isSign_17 : decode cX8_isSign 17 = .ok (.goto 4, 3) := dk_167 0 4 (dk_at dksX8_isSign_0 17 rfl rfl)
theorem dX8_isSign_20 : decode cX8_isSign 20 = .ok (.iconst 0, 1) := dk_3 (dk_at dksX8_isSign_0 20 rfl rfl)
theorem dX8_isSign_21 : decode cX8_isSign 21 = .ok (.ireturn, 1) := dk_172 (dk_at dksX8_isSign_0 21 rfl rfl)
abbrev cX8_fault : ByteArray := prog_18_method_44_code
def yX8_fault : MethodName := ⟨RX8, "fault", "()I"⟩
def dkwX8_fault_0 : List UInt8 := [42, 3, 181, 0, 83, 42, 180, 0, 145, 172]
abbrev dktX8_fault_0 : List UInt8 := dkwX8_fault_0 ++ []
theorem dksX8_fault_0 : cX8_fault.data.toList.drop 0 = dktX8_fault_0 := by decide +kernel
theorem dX8_fault_0 : decode cX8_fault 0 = .ok (.aload_n 0, 1) := dk_42 (dk_at dksX8_fault_0 0 rfl rfl)
theorem dX8_fault_1 : decode cX8_fault 1 = .ok (.iconst 0, 1) := dk_3 (dk_at dksX8_fault_0 1 rfl rfl)
theorem dX8_fault_2 : decode cX8_fault 2 = .ok (.putfield 83, 3) := dk_181 0 83 (dk_at dksX8_fault_0 2 rfl rfl)
theorem dX8_fault_5 : decode cX8_fault 5 = .ok (.aload_n 0, 1) := dk_42 (dk_at dksX8_fault_0 5 rfl rfl)
theorem dX8_fault_6 : decode cX8_fault 6 = .ok (.getfield 145, 3) := dk_180 0 145 (dk_at dksX8_fault_0 6 rfl rfl)
theorem dX8_fault_9 : decode cX8_fault 9 = .ok (.ireturn, 1) := dk_172 (dk_at dksX8_fault_0 9 rfl rfl)
abbrev cX8_who : ByteArray := prog_18_method_45_code
def yX8_who : MethodName := ⟨RX8, "who", "(II)I"⟩
def dkwX8_who_5 : List UInt8 := [167, 255, 188, 29, 172]
abbrev dktX8_who_5 : List UInt8 := dkwX8_who_5 ++ []
def dkwX8_who_4 : List UInt8 := [29, 28, 6, 160, 0, 7, 4, 167, 0, 10, 42, 21, 4, 3, 182, 1, 0, 96, 62, 132, 4, 1]
abbrev dktX8_who_4 : List UInt8 := dkwX8_who_4 ++ dktX8_who_5
def dkwX8_who_3 : List UInt8 := [160, 0, 7, 4, 167, 0, 4, 3, 96, 62, 167, 0, 33, 42, 21, 4, 4, 182, 1, 0, 27, 160, 0, 22]
abbrev dktX8_who_3 : List UInt8 := dkwX8_who_3 ++ dktX8_who_4
def dkwX8_who_2 : List UInt8 := [54, 4, 21, 4, 42, 182, 0, 188, 162, 0, 65, 28, 8, 160, 0, 24, 29, 42, 21, 4, 182, 0, 253, 27]
abbrev dktX8_who_2 : List UInt8 := dkwX8_who_2 ++ dktX8_who_3
def dkwX8_who_1 : List UInt8 := [182, 0, 246, 172, 42, 3, 181, 0, 83, 28, 6, 162, 0, 10, 42, 27, 28, 182, 0, 249, 172, 3, 62, 3]
abbrev dktX8_who_1 : List UInt8 := dkwX8_who_1 ++ dktX8_who_2
def dkwX8_who_0 : List UInt8 := [42, 182, 0, 167, 42, 27, 182, 0, 243, 153, 0, 12, 28, 3, 8, 184, 0, 154, 154, 0, 8, 42]
abbrev dktX8_who_0 : List UInt8 := dkwX8_who_0 ++ dktX8_who_1
theorem dksX8_who_0 : cX8_who.data.toList.drop 0 = dktX8_who_0 := by decide +kernel
theorem dksX8_who_1 : cX8_who.data.toList.drop 22 = dktX8_who_1 := dk_seg dksX8_who_0 22 rfl rfl
theorem dksX8_who_2 : cX8_who.data.toList.drop 46 = dktX8_who_2 := dk_seg dksX8_who_1 24 rfl rfl
theorem dksX8_who_3 : cX8_who.data.toList.drop 70 = dktX8_who_3 := dk_seg dksX8_who_2 24 rfl rfl
theorem dksX8_who_4 : cX8_who.data.toList.drop 94 = dktX8_who_4 := dk_seg dksX8_who_3 24 rfl rfl
theorem dksX8_who_5 : cX8_who.data.toList.drop 116 = dktX8_who_5 := dk_seg dksX8_who_4 22 rfl rfl
theorem dX8_who_0 : decode cX8_who 0 = .ok (.aload_n 0, 1) := dk_42 (dk_at dksX8_who_0 0 rfl rfl)
theorem dX8_who_1 : decode cX8_who 1 = .ok (.invokevirtual 167, 3) := dk_182 0 167 (dk_at dksX8_who_0 1 rfl rfl)
theorem dX8_who_4 : decode cX8_who 4 = .ok (.aload_n 0, 1) := dk_42 (dk_at dksX8_who_0 4 rfl rfl)
theorem dX8_who_5 : decode cX8_who 5 = .ok (.iload_n 1, 1) := dk_27 (dk_at dksX8_who_0 5 rfl rfl)
theorem dX8_who_6 : decode cX8_who 6 = .ok (.invokevirtual 243, 3) := dk_182 0 243 (dk_at dksX8_who_0 6 rfl rfl)
theorem dX8_who_9 : decode cX8_who 9 = .ok (.ifCond .eq 12, 3) := dk_153 0 12 (dk_at dksX8_who_0 9 rfl rfl)
theorem dX8_who_12 : decode cX8_who 12 = .ok (.iload_n 2, 1) := dk_28 (dk_at dksX8_who_0 12 rfl rfl)
theorem dX8_who_13 : decode cX8_who 13 = .ok (.iconst 0, 1) := dk_3 (dk_at dksX8_who_0 13 rfl rfl)
theorem dX8_who_14 : decode cX8_who 14 = .ok (.iconst 5, 1) := dk_8 (dk_at dksX8_who_0 14 rfl rfl)
theorem dX8_who_15 : decode cX8_who 15 = .ok (.invokestatic 154, 3) := dk_184 0 154 (dk_at dksX8_who_0 15 rfl rfl)
theorem dX8_who_18 : decode cX8_who 18 = .ok (.ifCond .ne 8, 3) := dk_154 0 8 (dk_at dksX8_who_0 18 rfl rfl)
theorem dX8_who_21 : decode cX8_who 21 = .ok (.aload_n 0, 1) := dk_42 (dk_at dksX8_who_0 21 rfl rfl)
theorem dX8_who_22 : decode cX8_who 22 = .ok (.invokevirtual 246, 3) := dk_182 0 246 (dk_at dksX8_who_1 0 rfl rfl)
theorem dX8_who_25 : decode cX8_who 25 = .ok (.ireturn, 1) := dk_172 (dk_at dksX8_who_1 3 rfl rfl)
theorem dX8_who_26 : decode cX8_who 26 = .ok (.aload_n 0, 1) := dk_42 (dk_at dksX8_who_1 4 rfl rfl)
theorem dX8_who_27 : decode cX8_who 27 = .ok (.iconst 0, 1) := dk_3 (dk_at dksX8_who_1 5 rfl rfl)
theorem dX8_who_28 : decode cX8_who 28 = .ok (.putfield 83, 3) := dk_181 0 83 (dk_at dksX8_who_1 6 rfl rfl)
theorem dX8_who_31 : decode cX8_who 31 = .ok (.iload_n 2, 1) := dk_28 (dk_at dksX8_who_1 9 rfl rfl)
theorem dX8_who_32 : decode cX8_who 32 = .ok (.iconst 3, 1) := dk_6 (dk_at dksX8_who_1 10 rfl rfl)
theorem dX8_who_33 : decode cX8_who 33 = .ok (.if_icmp .ge 10, 3) := dk_162 0 10 (dk_at dksX8_who_1 11 rfl rfl)
theorem dX8_who_36 : decode cX8_who 36 = .ok (.aload_n 0, 1) := dk_42 (dk_at dksX8_who_1 14 rfl rfl)
theorem dX8_who_37 : decode cX8_who 37 = .ok (.iload_n 1, 1) := dk_27 (dk_at dksX8_who_1 15 rfl rfl)
theorem dX8_who_38 : decode cX8_who 38 = .ok (.iload_n 2, 1) := dk_28 (dk_at dksX8_who_1 16 rfl rfl)
theorem dX8_who_39 : decode cX8_who 39 = .ok (.invokevirtual 249, 3) := dk_182 0 249 (dk_at dksX8_who_1 17 rfl rfl)
theorem dX8_who_42 : decode cX8_who 42 = .ok (.ireturn, 1) := dk_172 (dk_at dksX8_who_1 20 rfl rfl)
theorem dX8_who_43 : decode cX8_who 43 = .ok (.iconst 0, 1) := dk_3 (dk_at dksX8_who_1 21 rfl rfl)
theorem dX8_who_44 : decode cX8_who 44 = .ok (.istore_n 3, 1) := dk_62 (dk_at dksX8_who_1 22 rfl rfl)
theorem dX8_who_45 : decode cX8_who 45 = .ok (.iconst 0, 1) := dk_3 (dk_at dksX8_who_1 23 rfl rfl)
theorem dX8_who_46 : decode cX8_who 46 = .ok (.istore 4, 2) := dk_54 4 (dk_at dksX8_who_2 0 rfl rfl)
theorem dX8_who_48 : decode cX8_who 48 = .ok (.iload 4, 2) := dk_21 4 (dk_at dksX8_who_2 2 rfl rfl)
theorem dX8_who_50 : decode cX8_who 50 = .ok (.aload_n 0, 1) := dk_42 (dk_at dksX8_who_2 4 rfl rfl)
theorem dX8_who_51 : decode cX8_who 51 = .ok (.invokevirtual 188, 3) := dk_182 0 188 (dk_at dksX8_who_2 5 rfl rfl)
theorem dX8_who_54 : decode cX8_who 54 = .ok (.if_icmp .ge 65, 3) := dk_162 0 65 (dk_at dksX8_who_2 8 rfl rfl)
theorem dX8_who_57 : decode cX8_who 57 = .ok (.iload_n 2, 1) := dk_28 (dk_at dksX8_who_2 11 rfl rfl)
theorem dX8_who_58 : decode cX8_who 58 = .ok (.iconst 5, 1) := dk_8 (dk_at dksX8_who_2 12 rfl rfl)
theorem dX8_who_59 : decode cX8_who 59 = .ok (.if_icmp .ne 24, 3) := dk_160 0 24 (dk_at dksX8_who_2 13 rfl rfl)
theorem dX8_who_62 : decode cX8_who 62 = .ok (.iload_n 3, 1) := dk_29 (dk_at dksX8_who_2 16 rfl rfl)
theorem dX8_who_63 : decode cX8_who 63 = .ok (.aload_n 0, 1) := dk_42 (dk_at dksX8_who_2 17 rfl rfl)
theorem dX8_who_64 : decode cX8_who 64 = .ok (.iload 4, 2) := dk_21 4 (dk_at dksX8_who_2 18 rfl rfl)
theorem dX8_who_66 : decode cX8_who 66 = .ok (.invokevirtual 253, 3) := dk_182 0 253 (dk_at dksX8_who_2 20 rfl rfl)
theorem dX8_who_69 : decode cX8_who 69 = .ok (.iload_n 1, 1) := dk_27 (dk_at dksX8_who_2 23 rfl rfl)
theorem dX8_who_70 : decode cX8_who 70 = .ok (.if_icmp .ne 7, 3) := dk_160 0 7 (dk_at dksX8_who_3 0 rfl rfl)
theorem dX8_who_73 : decode cX8_who 73 = .ok (.iconst 1, 1) := dk_4 (dk_at dksX8_who_3 3 rfl rfl)
theorem dX8_who_74 : decode cX8_who 74 = .ok (.goto 4, 3) := dk_167 0 4 (dk_at dksX8_who_3 4 rfl rfl)
theorem dX8_who_77 : decode cX8_who 77 = .ok (.iconst 0, 1) := dk_3 (dk_at dksX8_who_3 7 rfl rfl)
theorem dX8_who_78 : decode cX8_who 78 = .ok (.iadd, 1) := dk_96 (dk_at dksX8_who_3 8 rfl rfl)
theorem dX8_who_79 : decode cX8_who 79 = .ok (.istore_n 3, 1) := dk_62 (dk_at dksX8_who_3 9 rfl rfl)
theorem dX8_who_80 : decode cX8_who 80 = .ok (.goto 33, 3) := dk_167 0 33 (dk_at dksX8_who_3 10 rfl rfl)
theorem dX8_who_83 : decode cX8_who 83 = .ok (.aload_n 0, 1) := dk_42 (dk_at dksX8_who_3 13 rfl rfl)
theorem dX8_who_84 : decode cX8_who 84 = .ok (.iload 4, 2) := dk_21 4 (dk_at dksX8_who_3 14 rfl rfl)
theorem dX8_who_86 : decode cX8_who 86 = .ok (.iconst 1, 1) := dk_4 (dk_at dksX8_who_3 16 rfl rfl)
theorem dX8_who_87 : decode cX8_who 87 = .ok (.invokevirtual 256, 3) := dk_182 1 0 (dk_at dksX8_who_3 17 rfl rfl)
theorem dX8_who_90 : decode cX8_who 90 = .ok (.iload_n 1, 1) := dk_27 (dk_at dksX8_who_3 20 rfl rfl)
theorem dX8_who_91 : decode cX8_who 91 = .ok (.if_icmp .ne 22, 3) := dk_160 0 22 (dk_at dksX8_who_3 21 rfl rfl)
theorem dX8_who_94 : decode cX8_who 94 = .ok (.iload_n 3, 1) := dk_29 (dk_at dksX8_who_4 0 rfl rfl)
theorem dX8_who_95 : decode cX8_who 95 = .ok (.iload_n 2, 1) := dk_28 (dk_at dksX8_who_4 1 rfl rfl)
theorem dX8_who_96 : decode cX8_who 96 = .ok (.iconst 3, 1) := dk_6 (dk_at dksX8_who_4 2 rfl rfl)
theorem dX8_who_97 : decode cX8_who 97 = .ok (.if_icmp .ne 7, 3) := dk_160 0 7 (dk_at dksX8_who_4 3 rfl rfl)
theorem dX8_who_100 : decode cX8_who 100 = .ok (.iconst 1, 1) := dk_4 (dk_at dksX8_who_4 6 rfl rfl)
theorem dX8_who_101 : decode cX8_who 101 = .ok (.goto 10, 3) := dk_167 0 10 (dk_at dksX8_who_4 7 rfl rfl)
theorem dX8_who_104 : decode cX8_who 104 = .ok (.aload_n 0, 1) := dk_42 (dk_at dksX8_who_4 10 rfl rfl)
theorem dX8_who_105 : decode cX8_who 105 = .ok (.iload 4, 2) := dk_21 4 (dk_at dksX8_who_4 11 rfl rfl)
theorem dX8_who_107 : decode cX8_who 107 = .ok (.iconst 0, 1) := dk_3 (dk_at dksX8_who_4 13 rfl rfl)
theorem dX8_who_108 : decode cX8_who 108 = .ok (.invokevirtual 256, 3) := dk_182 1 0 (dk_at dksX8_who_4 14 rfl rfl)
theorem dX8_who_111 : decode cX8_who 111 = .ok (.iadd, 1) := dk_96 (dk_at dksX8_who_4 17 rfl rfl)
theorem dX8_who_112 : decode cX8_who 112 = .ok (.istore_n 3, 1) := dk_62 (dk_at dksX8_who_4 18 rfl rfl)
theorem dX8_who_113 : decode cX8_who 113 = .ok (.iinc 4 1, 3) := dk_132 4 1 (dk_at dksX8_who_4 19 rfl rfl)
theorem dX8_who_116 : decode cX8_who 116 = .ok (.goto (-68), 3) := dk_167 255 188 (dk_at dksX8_who_5 0 rfl rfl)
theorem dX8_who_119 : decode cX8_who 119 = .ok (.iload_n 3, 1) := dk_29 (dk_at dksX8_who_5 3 rfl rfl)
theorem dX8_who_120 : decode cX8_who 120 = .ok (.ireturn, 1) := dk_172 (dk_at dksX8_who_5 4 rfl rfl)
abbrev cX8_isWho : ByteArray := prog_18_method_29_code
def yX8_isWho : MethodName := ⟨RX8, "isWho", "(I)Z"⟩
def dkwX8_isWho_0 : List UInt8 := [27, 155, 0, 15, 27, 42, 182, 0, 182, 162, 0, 7, 4, 167, 0, 4, 3, 172]
abbrev dktX8_isWho_0 : List UInt8 := dkwX8_isWho_0 ++ []
theorem dksX8_isWho_0 : cX8_isWho.data.toList.drop 0 = dktX8_isWho_0 := by decide +kernel
theorem dX8_isWho_0 : decode cX8_isWho 0 = .ok (.iload_n 1, 1) := dk_27 (dk_at dksX8_isWho_0 0 rfl rfl)
theorem dX8_isWho_1 : decode cX8_isWho 1 = .ok (.ifCond .lt 15, 3) := dk_155 0 15 (dk_at dksX8_isWho_0 1 rfl rfl)
theorem dX8_isWho_4 : decode cX8_isWho 4 = .ok (.iload_n 1, 1) := dk_27 (dk_at dksX8_isWho_0 4 rfl rfl)
theorem dX8_isWho_5 : decode cX8_isWho 5 = .ok (.aload_n 0, 1) := dk_42 (dk_at dksX8_isWho_0 5 rfl rfl)
theorem dX8_isWho_6 : decode cX8_isWho 6 = .ok (.invokevirtual 182, 3) := dk_182 0 182 (dk_at dksX8_isWho_0 6 rfl rfl)
theorem dX8_isWho_9 : decode cX8_isWho 9 = .ok (.if_icmp .ge 7, 3) := dk_162 0 7 (dk_at dksX8_isWho_0 9 rfl rfl)
theorem dX8_isWho_12 : decode cX8_isWho 12 = .ok (.iconst 1, 1) := dk_4 (dk_at dksX8_isWho_0 12 rfl rfl)
theorem dX8_isWho_13 : decode cX8_isWho 13 = .ok (.goto 4, 3) := dk_167 0 4 (dk_at dksX8_isWho_0 13 rfl rfl)
theorem dX8_isWho_16 : decode cX8_isWho 16 = .ok (.iconst 0, 1) := dk_3 (dk_at dksX8_isWho_0 16 rfl rfl)
theorem dX8_isWho_17 : decode cX8_isWho 17 = .ok (.ireturn, 1) := dk_172 (dk_at dksX8_isWho_0 17 rfl rfl)
abbrev cX8_people : ByteArray := prog_18_method_26_code
def yX8_people : MethodName := ⟨RX8, "people", "()I"⟩
def dkwX8_people_0 : List UInt8 := [42, 180, 0, 13, 3, 46, 172]
abbrev dktX8_people_0 : List UInt8 := dkwX8_people_0 ++ []
theorem dksX8_people_0 : cX8_people.data.toList.drop 0 = dktX8_people_0 := by decide +kernel
theorem dX8_people_0 : decode cX8_people 0 = .ok (.aload_n 0, 1) := dk_42 (dk_at dksX8_people_0 0 rfl rfl)
theorem dX8_people_1 : decode cX8_people 1 = .ok (.getfield 13, 3) := dk_180 0 13 (dk_at dksX8_people_0 1 rfl rfl)
theorem dX8_people_4 : decode cX8_people 4 = .ok (.iconst 0, 1) := dk_3 (dk_at dksX8_people_0 4 rfl rfl)
theorem dX8_people_5 : decode cX8_people 5 = .ok (.iaload, 1) := dk_46 (dk_at dksX8_people_0 5 rfl rfl)
theorem dX8_people_6 : decode cX8_people 6 = .ok (.ireturn, 1) := dk_172 (dk_at dksX8_people_0 6 rfl rfl)
abbrev cX8_refuse : ByteArray := prog_18_method_3_code
def yX8_refuse : MethodName := ⟨RX8, "refuse", "()I"⟩
def dkwX8_refuse_0 : List UInt8 := [42, 4, 181, 0, 83, 3, 172]
abbrev dktX8_refuse_0 : List UInt8 := dkwX8_refuse_0 ++ []
theorem dksX8_refuse_0 : cX8_refuse.data.toList.drop 0 = dktX8_refuse_0 := by decide +kernel
theorem dX8_refuse_0 : decode cX8_refuse 0 = .ok (.aload_n 0, 1) := dk_42 (dk_at dksX8_refuse_0 0 rfl rfl)
theorem dX8_refuse_1 : decode cX8_refuse 1 = .ok (.iconst 1, 1) := dk_4 (dk_at dksX8_refuse_0 1 rfl rfl)
theorem dX8_refuse_2 : decode cX8_refuse 2 = .ok (.putfield 83, 3) := dk_181 0 83 (dk_at dksX8_refuse_0 2 rfl rfl)
theorem dX8_refuse_5 : decode cX8_refuse 5 = .ok (.iconst 0, 1) := dk_3 (dk_at dksX8_refuse_0 5 rfl rfl)
theorem dX8_refuse_6 : decode cX8_refuse 6 = .ok (.ireturn, 1) := dk_172 (dk_at dksX8_refuse_0 6 rfl rfl)
abbrev cX8_ofWho : ByteArray := prog_18_method_32_code
def yX8_ofWho : MethodName := ⟨RX8, "ofWho", "(II)I"⟩
def dkwX8_ofWho_0 : List UInt8 := [42, 180, 0, 13, 16, 8, 6, 27, 104, 96, 28, 96, 46, 172]
abbrev dktX8_ofWho_0 : List UInt8 := dkwX8_ofWho_0 ++ []
theorem dksX8_ofWho_0 : cX8_ofWho.data.toList.drop 0 = dktX8_ofWho_0 := by decide +kernel
theorem dX8_ofWho_0 : decode cX8_ofWho 0 = .ok (.aload_n 0, 1) := dk_42 (dk_at dksX8_ofWho_0 0 rfl rfl)
theorem dX8_ofWho_1 : decode cX8_ofWho 1 = .ok (.getfield 13, 3) := dk_180 0 13 (dk_at dksX8_ofWho_0 1 rfl rfl)
theorem dX8_ofWho_4 : decode cX8_ofWho 4 = .ok (.bipush 8, 2) := dk_16 8 (dk_at dksX8_ofWho_0 4 rfl rfl)
theorem dX8_ofWho_6 : decode cX8_ofWho 6 = .ok (.iconst 3, 1) := dk_6 (dk_at dksX8_ofWho_0 6 rfl rfl)
theorem dX8_ofWho_7 : decode cX8_ofWho 7 = .ok (.iload_n 1, 1) := dk_27 (dk_at dksX8_ofWho_0 7 rfl rfl)
theorem dX8_ofWho_8 : decode cX8_ofWho 8 = .ok (.imul, 1) := dk_104 (dk_at dksX8_ofWho_0 8 rfl rfl)
theorem dX8_ofWho_9 : decode cX8_ofWho 9 = .ok (.iadd, 1) := dk_96 (dk_at dksX8_ofWho_0 9 rfl rfl)
theorem dX8_ofWho_10 : decode cX8_ofWho 10 = .ok (.iload_n 2, 1) := dk_28 (dk_at dksX8_ofWho_0 10 rfl rfl)
theorem dX8_ofWho_11 : decode cX8_ofWho 11 = .ok (.iadd, 1) := dk_96 (dk_at dksX8_ofWho_0 11 rfl rfl)
theorem dX8_ofWho_12 : decode cX8_ofWho 12 = .ok (.iaload, 1) := dk_46 (dk_at dksX8_ofWho_0 12 rfl rfl)
theorem dX8_ofWho_13 : decode cX8_ofWho 13 = .ok (.ireturn, 1) := dk_172 (dk_at dksX8_ofWho_0 13 rfl rfl)
abbrev cX8_coins : ByteArray := prog_18_method_28_code
def yX8_coins : MethodName := ⟨RX8, "coins", "()I"⟩
def dkwX8_coins_0 : List UInt8 := [42, 180, 0, 13, 16, 108, 46, 172]
abbrev dktX8_coins_0 : List UInt8 := dkwX8_coins_0 ++ []
theorem dksX8_coins_0 : cX8_coins.data.toList.drop 0 = dktX8_coins_0 := by decide +kernel
theorem dX8_coins_0 : decode cX8_coins 0 = .ok (.aload_n 0, 1) := dk_42 (dk_at dksX8_coins_0 0 rfl rfl)
theorem dX8_coins_1 : decode cX8_coins 1 = .ok (.getfield 13, 3) := dk_180 0 13 (dk_at dksX8_coins_0 1 rfl rfl)
theorem dX8_coins_4 : decode cX8_coins 4 = .ok (.bipush 108, 2) := dk_16 108 (dk_at dksX8_coins_0 4 rfl rfl)
theorem dX8_coins_6 : decode cX8_coins 6 = .ok (.iaload, 1) := dk_46 (dk_at dksX8_coins_0 6 rfl rfl)
theorem dX8_coins_7 : decode cX8_coins 7 = .ok (.ireturn, 1) := dk_172 (dk_at dksX8_coins_0 7 rfl rfl)
abbrev cX8_topOf : ByteArray := prog_18_method_47_code
def yX8_topOf : MethodName := ⟨RX8, "topOf", "(I)I"⟩
def dkwX8_topOf_0 : List UInt8 := [42, 27, 7, 182, 1, 0, 172]
abbrev dktX8_topOf_0 : List UInt8 := dkwX8_topOf_0 ++ []
theorem dksX8_topOf_0 : cX8_topOf.data.toList.drop 0 = dktX8_topOf_0 := by decide +kernel
theorem dX8_topOf_0 : decode cX8_topOf 0 = .ok (.aload_n 0, 1) := dk_42 (dk_at dksX8_topOf_0 0 rfl rfl)
theorem dX8_topOf_1 : decode cX8_topOf 1 = .ok (.iload_n 1, 1) := dk_27 (dk_at dksX8_topOf_0 1 rfl rfl)
theorem dX8_topOf_2 : decode cX8_topOf 2 = .ok (.iconst 4, 1) := dk_7 (dk_at dksX8_topOf_0 2 rfl rfl)
theorem dX8_topOf_3 : decode cX8_topOf 3 = .ok (.invokevirtual 256, 3) := dk_182 1 0 (dk_at dksX8_topOf_0 3 rfl rfl)
theorem dX8_topOf_6 : decode cX8_topOf 6 = .ok (.ireturn, 1) := dk_172 (dk_at dksX8_topOf_0 6 rfl rfl)
abbrev cX8_ofCoin : ByteArray := prog_18_method_34_code
def yX8_ofCoin : MethodName := ⟨RX8, "ofCoin", "(II)I"⟩
def dkwX8_ofCoin_0 : List UInt8 := [42, 180, 0, 13, 16, 120, 16, 32, 27, 104, 96, 28, 96, 46, 172]
abbrev dktX8_ofCoin_0 : List UInt8 := dkwX8_ofCoin_0 ++ []
theorem dksX8_ofCoin_0 : cX8_ofCoin.data.toList.drop 0 = dktX8_ofCoin_0 := by decide +kernel
theorem dX8_ofCoin_0 : decode cX8_ofCoin 0 = .ok (.aload_n 0, 1) := dk_42 (dk_at dksX8_ofCoin_0 0 rfl rfl)
theorem dX8_ofCoin_1 : decode cX8_ofCoin 1 = .ok (.getfield 13, 3) := dk_180 0 13 (dk_at dksX8_ofCoin_0 1 rfl rfl)
theorem dX8_ofCoin_4 : decode cX8_ofCoin 4 = .ok (.bipush 120, 2) := dk_16 120 (dk_at dksX8_ofCoin_0 4 rfl rfl)
theorem dX8_ofCoin_6 : decode cX8_ofCoin 6 = .ok (.bipush 32, 2) := dk_16 32 (dk_at dksX8_ofCoin_0 6 rfl rfl)
theorem dX8_ofCoin_8 : decode cX8_ofCoin 8 = .ok (.iload_n 1, 1) := dk_27 (dk_at dksX8_ofCoin_0 8 rfl rfl)
theorem dX8_ofCoin_9 : decode cX8_ofCoin 9 = .ok (.imul, 1) := dk_104 (dk_at dksX8_ofCoin_0 9 rfl rfl)
theorem dX8_ofCoin_10 : decode cX8_ofCoin 10 = .ok (.iadd, 1) := dk_96 (dk_at dksX8_ofCoin_0 10 rfl rfl)
theorem dX8_ofCoin_11 : decode cX8_ofCoin 11 = .ok (.iload_n 2, 1) := dk_28 (dk_at dksX8_ofCoin_0 11 rfl rfl)
theorem dX8_ofCoin_12 : decode cX8_ofCoin 12 = .ok (.iadd, 1) := dk_96 (dk_at dksX8_ofCoin_0 12 rfl rfl)
theorem dX8_ofCoin_13 : decode cX8_ofCoin 13 = .ok (.iaload, 1) := dk_46 (dk_at dksX8_ofCoin_0 13 rfl rfl)
theorem dX8_ofCoin_14 : decode cX8_ofCoin 14 = .ok (.ireturn, 1) := dk_172 (dk_at dksX8_ofCoin_0 14 rfl rfl)
abbrev cX8_mint : ByteArray := prog_18_method_46_code
def yX8_mint : MethodName := ⟨RX8, "mint", "(II)I"⟩
def dkwX8_mint_3 : List UInt8 := [21, 4, 104, 96, 5, 96, 46, 27, 160, 0, 6, 132, 3, 1, 132, 4, 1, 167, 255, 218, 29, 172]
abbrev dktX8_mint_3 : List UInt8 := dkwX8_mint_3 ++ []
def dkwX8_mint_2 : List UInt8 := [54, 4, 21, 4, 42, 180, 0, 13, 16, 112, 46, 162, 0, 32, 42, 180, 0, 13, 17, 5, 120, 16, 6]
abbrev dktX8_mint_2 : List UInt8 := dkwX8_mint_2 ++ dktX8_mint_3
def dkwX8_mint_1 : List UInt8 := [182, 0, 246, 172, 42, 3, 181, 0, 83, 28, 6, 162, 0, 10, 42, 27, 28, 182, 1, 6, 172, 3, 62, 3]
abbrev dktX8_mint_1 : List UInt8 := dkwX8_mint_1 ++ dktX8_mint_2
def dkwX8_mint_0 : List UInt8 := [42, 182, 0, 167, 42, 27, 182, 1, 3, 153, 0, 12, 28, 3, 6, 184, 0, 154, 154, 0, 8, 42]
abbrev dktX8_mint_0 : List UInt8 := dkwX8_mint_0 ++ dktX8_mint_1
theorem dksX8_mint_0 : cX8_mint.data.toList.drop 0 = dktX8_mint_0 := by decide +kernel
theorem dksX8_mint_1 : cX8_mint.data.toList.drop 22 = dktX8_mint_1 := dk_seg dksX8_mint_0 22 rfl rfl
theorem dksX8_mint_2 : cX8_mint.data.toList.drop 46 = dktX8_mint_2 := dk_seg dksX8_mint_1 24 rfl rfl
theorem dksX8_mint_3 : cX8_mint.data.toList.drop 69 = dktX8_mint_3 := dk_seg dksX8_mint_2 23 rfl rfl
theorem dX8_mint_0 : decode cX8_mint 0 = .ok (.aload_n 0, 1) := dk_42 (dk_at dksX8_mint_0 0 rfl rfl)
theorem dX8_mint_1 : decode cX8_mint 1 = .ok (.invokevirtual 167, 3) := dk_182 0 167 (dk_at dksX8_mint_0 1 rfl rfl)
theorem dX8_mint_4 : decode cX8_mint 4 = .ok (.aload_n 0, 1) := dk_42 (dk_at dksX8_mint_0 4 rfl rfl)
theorem dX8_mint_5 : decode cX8_mint 5 = .ok (.iload_n 1, 1) := dk_27 (dk_at dksX8_mint_0 5 rfl rfl)
theorem dX8_mint_6 : decode cX8_mint 6 = .ok (.invokevirtual 259, 3) := dk_182 1 3 (dk_at dksX8_mint_0 6 rfl rfl)
theorem dX8_mint_9 : decode cX8_mint 9 = .ok (.ifCond .eq 12, 3) := dk_153 0 12 (dk_at dksX8_mint_0 9 rfl rfl)
theorem dX8_mint_12 : decode cX8_mint 12 = .ok (.iload_n 2, 1) := dk_28 (dk_at dksX8_mint_0 12 rfl rfl)
theorem dX8_mint_13 : decode cX8_mint 13 = .ok (.iconst 0, 1) := dk_3 (dk_at dksX8_mint_0 13 rfl rfl)
theorem dX8_mint_14 : decode cX8_mint 14 = .ok (.iconst 3, 1) := dk_6 (dk_at dksX8_mint_0 14 rfl rfl)
theorem dX8_mint_15 : decode cX8_mint 15 = .ok (.invokestatic 154, 3) := dk_184 0 154 (dk_at dksX8_mint_0 15 rfl rfl)
theorem dX8_mint_18 : decode cX8_mint 18 = .ok (.ifCond .ne 8, 3) := dk_154 0 8 (dk_at dksX8_mint_0 18 rfl rfl)
theorem dX8_mint_21 : decode cX8_mint 21 = .ok (.aload_n 0, 1) := dk_42 (dk_at dksX8_mint_0 21 rfl rfl)
theorem dX8_mint_22 : decode cX8_mint 22 = .ok (.invokevirtual 246, 3) := dk_182 0 246 (dk_at dksX8_mint_1 0 rfl rfl)
theorem dX8_mint_25 : decode cX8_mint 25 = .ok (.ireturn, 1) := dk_172 (dk_at dksX8_mint_1 3 rfl rfl)
theorem dX8_mint_26 : decode cX8_mint 26 = .ok (.aload_n 0, 1) := dk_42 (dk_at dksX8_mint_1 4 rfl rfl)
theorem dX8_mint_27 : decode cX8_mint 27 = .ok (.iconst 0, 1) := dk_3 (dk_at dksX8_mint_1 5 rfl rfl)
theorem dX8_mint_28 : decode cX8_mint 28 = .ok (.putfield 83, 3) := dk_181 0 83 (dk_at dksX8_mint_1 6 rfl rfl)
theorem dX8_mint_31 : decode cX8_mint 31 = .ok (.iload_n 2, 1) := dk_28 (dk_at dksX8_mint_1 9 rfl rfl)
theorem dX8_mint_32 : decode cX8_mint 32 = .ok (.iconst 3, 1) := dk_6 (dk_at dksX8_mint_1 10 rfl rfl)
theorem dX8_mint_33 : decode cX8_mint 33 = .ok (.if_icmp .ge 10, 3) := dk_162 0 10 (dk_at dksX8_mint_1 11 rfl rfl)
theorem dX8_mint_36 : decode cX8_mint 36 = .ok (.aload_n 0, 1) := dk_42 (dk_at dksX8_mint_1 14 rfl rfl)
theorem dX8_mint_37 : decode cX8_mint 37 = .ok (.iload_n 1, 1) := dk_27 (dk_at dksX8_mint_1 15 rfl rfl)
theorem dX8_mint_38 : decode cX8_mint 38 = .ok (.iload_n 2, 1) := dk_28 (dk_at dksX8_mint_1 16 rfl rfl)
theorem dX8_mint_39 : decode cX8_mint 39 = .ok (.invokevirtual 262, 3) := dk_182 1 6 (dk_at dksX8_mint_1 17 rfl rfl)
theorem dX8_mint_42 : decode cX8_mint 42 = .ok (.ireturn, 1) := dk_172 (dk_at dksX8_mint_1 20 rfl rfl)
theorem dX8_mint_43 : decode cX8_mint 43 = .ok (.iconst 0, 1) := dk_3 (dk_at dksX8_mint_1 21 rfl rfl)
theorem dX8_mint_44 : decode cX8_mint 44 = .ok (.istore_n 3, 1) := dk_62 (dk_at dksX8_mint_1 22 rfl rfl)
theorem dX8_mint_45 : decode cX8_mint 45 = .ok (.iconst 0, 1) := dk_3 (dk_at dksX8_mint_1 23 rfl rfl)
theorem dX8_mint_46 : decode cX8_mint 46 = .ok (.istore 4, 2) := dk_54 4 (dk_at dksX8_mint_2 0 rfl rfl)
theorem dX8_mint_48 : decode cX8_mint 48 = .ok (.iload 4, 2) := dk_21 4 (dk_at dksX8_mint_2 2 rfl rfl)
theorem dX8_mint_50 : decode cX8_mint 50 = .ok (.aload_n 0, 1) := dk_42 (dk_at dksX8_mint_2 4 rfl rfl)
theorem dX8_mint_51 : decode cX8_mint 51 = .ok (.getfield 13, 3) := dk_180 0 13 (dk_at dksX8_mint_2 5 rfl rfl)
theorem dX8_mint_54 : decode cX8_mint 54 = .ok (.bipush 112, 2) := dk_16 112 (dk_at dksX8_mint_2 8 rfl rfl)
theorem dX8_mint_56 : decode cX8_mint 56 = .ok (.iaload, 1) := dk_46 (dk_at dksX8_mint_2 10 rfl rfl)
theorem dX8_mint_57 : decode cX8_mint 57 = .ok (.if_icmp .ge 32, 3) := dk_162 0 32 (dk_at dksX8_mint_2 11 rfl rfl)
theorem dX8_mint_60 : decode cX8_mint 60 = .ok (.aload_n 0, 1) := dk_42 (dk_at dksX8_mint_2 14 rfl rfl)
theorem dX8_mint_61 : decode cX8_mint 61 = .ok (.getfield 13, 3) := dk_180 0 13 (dk_at dksX8_mint_2 15 rfl rfl)
theorem dX8_mint_64 : decode cX8_mint 64 = .ok (.sipush 1400, 3) := dk_17 5 120 (dk_at dksX8_mint_2 18 rfl rfl)
theorem dX8_mint_67 : decode cX8_mint 67 = .ok (.bipush 6, 2) := dk_16 6 (dk_at dksX8_mint_2 21 rfl rfl)
theorem dX8_mint_69 : decode cX8_mint 69 = .ok (.iload 4, 2) := dk_21 4 (dk_at dksX8_mint_3 0 rfl rfl)
theorem dX8_mint_71 : decode cX8_mint 71 = .ok (.imul, 1) := dk_104 (dk_at dksX8_mint_3 2 rfl rfl)
theorem dX8_mint_72 : decode cX8_mint 72 = .ok (.iadd, 1) := dk_96 (dk_at dksX8_mint_3 3 rfl rfl)
theorem dX8_mint_73 : decode cX8_mint 73 = .ok (.iconst 2, 1) := dk_5 (dk_at dksX8_mint_3 4 rfl rfl)
theorem dX8_mint_74 : decode cX8_mint 74 = .ok (.iadd, 1) := dk_96 (dk_at dksX8_mint_3 5 rfl rfl)
theorem dX8_mint_75 : decode cX8_mint 75 = .ok (.iaload, 1) := dk_46 (dk_at dksX8_mint_3 6 rfl rfl)
theorem dX8_mint_76 : decode cX8_mint 76 = .ok (.iload_n 1, 1) := dk_27 (dk_at dksX8_mint_3 7 rfl rfl)
theorem dX8_mint_77 : decode cX8_mint 77 = .ok (.if_icmp .ne 6, 3) := dk_160 0 6 (dk_at dksX8_mint_3 8 rfl rfl)
theorem dX8_mint_80 : decode cX8_mint 80 = .ok (.iinc 3 1, 3) := dk_132 3 1 (dk_at dksX8_mint_3 11 rfl rfl)
theorem dX8_mint_83 : decode cX8_mint 83 = .ok (.iinc 4 1, 3) := dk_132 4 1 (dk_at dksX8_mint_3 14 rfl rfl)
theorem dX8_mint_86 : decode cX8_mint 86 = .ok (.goto (-38), 3) := dk_167 255 218 (dk_at dksX8_mint_3 17 rfl rfl)
theorem dX8_mint_89 : decode cX8_mint 89 = .ok (.iload_n 3, 1) := dk_29 (dk_at dksX8_mint_3 20 rfl rfl)
theorem dX8_mint_90 : decode cX8_mint 90 = .ok (.ireturn, 1) := dk_172 (dk_at dksX8_mint_3 21 rfl rfl)
abbrev cX8_isMint : ByteArray := prog_18_method_30_code
def yX8_isMint : MethodName := ⟨RX8, "isMint", "(I)Z"⟩
def dkwX8_isMint_0 : List UInt8 := [27, 155, 0, 15, 27, 42, 182, 0, 185, 162, 0, 7, 4, 167, 0, 4, 3, 172]
abbrev dktX8_isMint_0 : List UInt8 := dkwX8_isMint_0 ++ []
theorem dksX8_isMint_0 : cX8_isMint.data.toList.drop 0 = dktX8_isMint_0 := by decide +kernel
theorem dX8_isMint_0 : decode cX8_isMint 0 = .ok (.iload_n 1, 1) := dk_27 (dk_at dksX8_isMint_0 0 rfl rfl)
theorem dX8_isMint_1 : decode cX8_isMint 1 = .ok (.ifCond .lt 15, 3) := dk_155 0 15 (dk_at dksX8_isMint_0 1 rfl rfl)
theorem dX8_isMint_4 : decode cX8_isMint 4 = .ok (.iload_n 1, 1) := dk_27 (dk_at dksX8_isMint_0 4 rfl rfl)
theorem dX8_isMint_5 : decode cX8_isMint 5 = .ok (.aload_n 0, 1) := dk_42 (dk_at dksX8_isMint_0 5 rfl rfl)
theorem dX8_isMint_6 : decode cX8_isMint 6 = .ok (.invokevirtual 185, 3) := dk_182 0 185 (dk_at dksX8_isMint_0 6 rfl rfl)
theorem dX8_isMint_9 : decode cX8_isMint 9 = .ok (.if_icmp .ge 7, 3) := dk_162 0 7 (dk_at dksX8_isMint_0 9 rfl rfl)
theorem dX8_isMint_12 : decode cX8_isMint 12 = .ok (.iconst 1, 1) := dk_4 (dk_at dksX8_isMint_0 12 rfl rfl)
theorem dX8_isMint_13 : decode cX8_isMint 13 = .ok (.goto 4, 3) := dk_167 0 4 (dk_at dksX8_isMint_0 13 rfl rfl)
theorem dX8_isMint_16 : decode cX8_isMint 16 = .ok (.iconst 0, 1) := dk_3 (dk_at dksX8_isMint_0 16 rfl rfl)
theorem dX8_isMint_17 : decode cX8_isMint 17 = .ok (.ireturn, 1) := dk_172 (dk_at dksX8_isMint_0 17 rfl rfl)
abbrev cX8_mints : ByteArray := prog_18_method_27_code
def yX8_mints : MethodName := ⟨RX8, "mints", "()I"⟩
def dkwX8_mints_0 : List UInt8 := [42, 180, 0, 13, 4, 46, 172]
abbrev dktX8_mints_0 : List UInt8 := dkwX8_mints_0 ++ []
theorem dksX8_mints_0 : cX8_mints.data.toList.drop 0 = dktX8_mints_0 := by decide +kernel
theorem dX8_mints_0 : decode cX8_mints 0 = .ok (.aload_n 0, 1) := dk_42 (dk_at dksX8_mints_0 0 rfl rfl)
theorem dX8_mints_1 : decode cX8_mints 1 = .ok (.getfield 13, 3) := dk_180 0 13 (dk_at dksX8_mints_0 1 rfl rfl)
theorem dX8_mints_4 : decode cX8_mints 4 = .ok (.iconst 1, 1) := dk_4 (dk_at dksX8_mints_0 4 rfl rfl)
theorem dX8_mints_5 : decode cX8_mints 5 = .ok (.iaload, 1) := dk_46 (dk_at dksX8_mints_0 5 rfl rfl)
theorem dX8_mints_6 : decode cX8_mints 6 = .ok (.ireturn, 1) := dk_172 (dk_at dksX8_mints_0 6 rfl rfl)
abbrev cX8_ofMint : ByteArray := prog_18_method_33_code
def yX8_ofMint : MethodName := ⟨RX8, "ofMint", "(II)I"⟩
def dkwX8_ofMint_0 : List UInt8 := [42, 180, 0, 13, 16, 32, 6, 27, 104, 96, 28, 96, 46, 172]
abbrev dktX8_ofMint_0 : List UInt8 := dkwX8_ofMint_0 ++ []
theorem dksX8_ofMint_0 : cX8_ofMint.data.toList.drop 0 = dktX8_ofMint_0 := by decide +kernel
theorem dX8_ofMint_0 : decode cX8_ofMint 0 = .ok (.aload_n 0, 1) := dk_42 (dk_at dksX8_ofMint_0 0 rfl rfl)
theorem dX8_ofMint_1 : decode cX8_ofMint 1 = .ok (.getfield 13, 3) := dk_180 0 13 (dk_at dksX8_ofMint_0 1 rfl rfl)
theorem dX8_ofMint_4 : decode cX8_ofMint 4 = .ok (.bipush 32, 2) := dk_16 32 (dk_at dksX8_ofMint_0 4 rfl rfl)
theorem dX8_ofMint_6 : decode cX8_ofMint 6 = .ok (.iconst 3, 1) := dk_6 (dk_at dksX8_ofMint_0 6 rfl rfl)
theorem dX8_ofMint_7 : decode cX8_ofMint 7 = .ok (.iload_n 1, 1) := dk_27 (dk_at dksX8_ofMint_0 7 rfl rfl)
theorem dX8_ofMint_8 : decode cX8_ofMint 8 = .ok (.imul, 1) := dk_104 (dk_at dksX8_ofMint_0 8 rfl rfl)
theorem dX8_ofMint_9 : decode cX8_ofMint 9 = .ok (.iadd, 1) := dk_96 (dk_at dksX8_ofMint_0 9 rfl rfl)
theorem dX8_ofMint_10 : decode cX8_ofMint 10 = .ok (.iload_n 2, 1) := dk_28 (dk_at dksX8_ofMint_0 10 rfl rfl)
theorem dX8_ofMint_11 : decode cX8_ofMint 11 = .ok (.iadd, 1) := dk_96 (dk_at dksX8_ofMint_0 11 rfl rfl)
theorem dX8_ofMint_12 : decode cX8_ofMint 12 = .ok (.iaload, 1) := dk_46 (dk_at dksX8_ofMint_0 12 rfl rfl)
theorem dX8_ofMint_13 : decode cX8_ofMint 13 = .ok (.ireturn, 1) := dk_172 (dk_at dksX8_ofMint_0 13 rfl rfl)
abbrev cX8_coin : ByteArray := prog_18_method_53_code
def yX8_coin : MethodName := ⟨RX8, "coin", "(III)I"⟩
def dkwX8_coin_7 : List UInt8 := [42, 21, 4, 27, 29, 2, 3, 182, 1, 19, 21, 4, 172]
abbrev dktX8_coin_7 : List UInt8 := dkwX8_coin_7 ++ []
def dkwX8_coin_6 : List UInt8 := [27, 79, 42, 180, 0, 13, 16, 108, 92, 46, 4, 96, 79, 42, 180, 0, 13, 16, 114, 92, 46, 28, 96, 79]
abbrev dktX8_coin_6 : List UInt8 := dkwX8_coin_6 ++ dktX8_coin_7
def dkwX8_coin_5 : List UInt8 := [132, 6, 1, 167, 255, 235, 42, 180, 0, 13, 21, 5, 3, 96, 28, 79, 42, 180, 0, 13, 21, 5, 4, 96]
abbrev dktX8_coin_5 : List UInt8 := dkwX8_coin_5 ++ dktX8_coin_6
def dkwX8_coin_4 : List UInt8 := [54, 5, 3, 54, 6, 21, 6, 16, 32, 162, 0, 20, 42, 180, 0, 13, 21, 5, 21, 6, 96, 3, 79]
abbrev dktX8_coin_4 : List UInt8 := dkwX8_coin_4 ++ dktX8_coin_5
def dkwX8_coin_3 : List UInt8 := [153, 0, 5, 2, 172, 42, 182, 1, 16, 42, 182, 0, 188, 54, 4, 16, 120, 16, 32, 21, 4, 104, 96]
abbrev dktX8_coin_3 : List UInt8 := dkwX8_coin_3 ++ dktX8_coin_4
def dkwX8_coin_2 : List UInt8 := [182, 0, 188, 16, 40, 159, 0, 21, 42, 4, 182, 1, 13, 154, 0, 13, 42, 28, 3, 29, 182, 1, 9]
abbrev dktX8_coin_2 : List UInt8 := dkwX8_coin_2 ++ dktX8_coin_3
def dkwX8_coin_1 : List UInt8 := [157, 0, 49, 28, 4, 17, 39, 15, 184, 0, 154, 153, 0, 38, 42, 29, 182, 1, 3, 153, 0, 30, 42]
abbrev dktX8_coin_1 : List UInt8 := dkwX8_coin_1 ++ dktX8_coin_2
def dkwX8_coin_0 : List UInt8 := [42, 3, 181, 0, 83, 42, 182, 0, 167, 42, 27, 182, 0, 243, 153, 0, 58, 42, 27, 5, 182, 0, 249]
abbrev dktX8_coin_0 : List UInt8 := dkwX8_coin_0 ++ dktX8_coin_1
theorem dksX8_coin_0 : cX8_coin.data.toList.drop 0 = dktX8_coin_0 := by decide +kernel
theorem dksX8_coin_1 : cX8_coin.data.toList.drop 23 = dktX8_coin_1 := dk_seg dksX8_coin_0 23 rfl rfl
theorem dksX8_coin_2 : cX8_coin.data.toList.drop 46 = dktX8_coin_2 := dk_seg dksX8_coin_1 23 rfl rfl
theorem dksX8_coin_3 : cX8_coin.data.toList.drop 69 = dktX8_coin_3 := dk_seg dksX8_coin_2 23 rfl rfl
theorem dksX8_coin_4 : cX8_coin.data.toList.drop 92 = dktX8_coin_4 := dk_seg dksX8_coin_3 23 rfl rfl
theorem dksX8_coin_5 : cX8_coin.data.toList.drop 115 = dktX8_coin_5 := dk_seg dksX8_coin_4 23 rfl rfl
theorem dksX8_coin_6 : cX8_coin.data.toList.drop 139 = dktX8_coin_6 := dk_seg dksX8_coin_5 24 rfl rfl
theorem dksX8_coin_7 : cX8_coin.data.toList.drop 163 = dktX8_coin_7 := dk_seg dksX8_coin_6 24 rfl rfl
theorem dX8_coin_0 : decode cX8_coin 0 = .ok (.aload_n 0, 1) := dk_42 (dk_at dksX8_coin_0 0 rfl rfl)
theorem dX8_coin_1 : decode cX8_coin 1 = .ok (.iconst 0, 1) := dk_3 (dk_at dksX8_coin_0 1 rfl rfl)
theorem dX8_coin_2 : decode cX8_coin 2 = .ok (.putfield 83, 3) := dk_181 0 83 (dk_at dksX8_coin_0 2 rfl rfl)
theorem dX8_coin_5 : decode cX8_coin 5 = .ok (.aload_n 0, 1) := dk_42 (dk_at dksX8_coin_0 5 rfl rfl)
theorem dX8_coin_6 : decode cX8_coin 6 = .ok (.invokevirtual 167, 3) := dk_182 0 167 (dk_at dksX8_coin_0 6 rfl rfl)
theorem dX8_coin_9 : decode cX8_coin 9 = .ok (.aload_n 0, 1) := dk_42 (dk_at dksX8_coin_0 9 rfl rfl)
theorem dX8_coin_10 : decode cX8_coin 10 = .ok (.iload_n 1, 1) := dk_27 (dk_at dksX8_coin_0 10 rfl rfl)
theorem dX8_coin_11 : decode cX8_coin 11 = .ok (.invokevirtual 243, 3) := dk_182 0 243 (dk_at dksX8_coin_0 11 rfl rfl)
theorem dX8_coin_14 : decode cX8_coin 14 = .ok (.ifCond .eq 58, 3) := dk_153 0 58 (dk_at dksX8_coin_0 14 rfl rfl)
theorem dX8_coin_17 : decode cX8_coin 17 = .ok (.aload_n 0, 1) := dk_42 (dk_at dksX8_coin_0 17 rfl rfl)
theorem dX8_coin_18 : decode cX8_coin 18 = .ok (.iload_n 1, 1) := dk_27 (dk_at dksX8_coin_0 18 rfl rfl)
theorem dX8_coin_19 : decode cX8_coin 19 = .ok (.iconst 2, 1) := dk_5 (dk_at dksX8_coin_0 19 rfl rfl)
theorem dX8_coin_20 : decode cX8_coin 20 = .ok (.invokevirtual 249, 3) := dk_182 0 249 (dk_at dksX8_coin_0 20 rfl rfl)
theorem dX8_coin_23 : decode cX8_coin 23 = .ok (.ifCond .gt 49, 3) := dk_157 0 49 (dk_at dksX8_coin_1 0 rfl rfl)
theorem dX8_coin_26 : decode cX8_coin 26 = .ok (.iload_n 2, 1) := dk_28 (dk_at dksX8_coin_1 3 rfl rfl)
theorem dX8_coin_27 : decode cX8_coin 27 = .ok (.iconst 1, 1) := dk_4 (dk_at dksX8_coin_1 4 rfl rfl)
theorem dX8_coin_28 : decode cX8_coin 28 = .ok (.sipush 9999, 3) := dk_17 39 15 (dk_at dksX8_coin_1 5 rfl rfl)
theorem dX8_coin_31 : decode cX8_coin 31 = .ok (.invokestatic 154, 3) := dk_184 0 154 (dk_at dksX8_coin_1 8 rfl rfl)
theorem dX8_coin_34 : decode cX8_coin 34 = .ok (.ifCond .eq 38, 3) := dk_153 0 38 (dk_at dksX8_coin_1 11 rfl rfl)
theorem dX8_coin_37 : decode cX8_coin 37 = .ok (.aload_n 0, 1) := dk_42 (dk_at dksX8_coin_1 14 rfl rfl)
theorem dX8_coin_38 : decode cX8_coin 38 = .ok (.iload_n 3, 1) := dk_29 (dk_at dksX8_coin_1 15 rfl rfl)
theorem dX8_coin_39 : decode cX8_coin 39 = .ok (.invokevirtual 259, 3) := dk_182 1 3 (dk_at dksX8_coin_1 16 rfl rfl)
theorem dX8_coin_42 : decode cX8_coin 42 = .ok (.ifCond .eq 30, 3) := dk_153 0 30 (dk_at dksX8_coin_1 19 rfl rfl)
theorem dX8_coin_45 : decode cX8_coin 45 = .ok (.aload_n 0, 1) := dk_42 (dk_at dksX8_coin_1 22 rfl rfl)
theorem dX8_coin_46 : decode cX8_coin 46 = .ok (.invokevirtual 188, 3) := dk_182 0 188 (dk_at dksX8_coin_2 0 rfl rfl)
theorem dX8_coin_49 : decode cX8_coin 49 = .ok (.bipush 40, 2) := dk_16 40 (dk_at dksX8_coin_2 3 rfl rfl)
theorem dX8_coin_51 : decode cX8_coin 51 = .ok (.if_icmp .eq 21, 3) := dk_159 0 21 (dk_at dksX8_coin_2 5 rfl rfl)
theorem dX8_coin_54 : decode cX8_coin 54 = .ok (.aload_n 0, 1) := dk_42 (dk_at dksX8_coin_2 8 rfl rfl)
theorem dX8_coin_55 : decode cX8_coin 55 = .ok (.iconst 1, 1) := dk_4 (dk_at dksX8_coin_2 9 rfl rfl)
theorem dX8_coin_56 : decode cX8_coin 56 = .ok (.invokevirtual 269, 3) := dk_182 1 13 (dk_at dksX8_coin_2 10 rfl rfl)
theorem dX8_coin_59 : decode cX8_coin 59 = .ok (.ifCond .ne 13, 3) := dk_154 0 13 (dk_at dksX8_coin_2 13 rfl rfl)
theorem dX8_coin_62 : decode cX8_coin 62 = .ok (.aload_n 0, 1) := dk_42 (dk_at dksX8_coin_2 16 rfl rfl)
theorem dX8_coin_63 : decode cX8_coin 63 = .ok (.iload_n 2, 1) := dk_28 (dk_at dksX8_coin_2 17 rfl rfl)
theorem dX8_coin_64 : decode cX8_coin 64 = .ok (.iconst 0, 1) := dk_3 (dk_at dksX8_coin_2 18 rfl rfl)
theorem dX8_coin_65 : decode cX8_coin 65 = .ok (.iload_n 3, 1) := dk_29 (dk_at dksX8_coin_2 19 rfl rfl)
theorem dX8_coin_66 : decode cX8_coin 66 = .ok (.invokevirtual 265, 3) := dk_182 1 9 (dk_at dksX8_coin_2 20 rfl rfl)
theorem dX8_coin_69 : decode cX8_coin 69 = .ok (.ifCond .eq 5, 3) := dk_153 0 5 (dk_at dksX8_coin_3 0 rfl rfl)
theorem dX8_coin_72 : decode cX8_coin 72 = .ok (.iconst (-1), 1) := dk_2 (dk_at dksX8_coin_3 3 rfl rfl)
theorem dX8_coin_73 : decode cX8_coin 73 = .ok (.ireturn, 1) := dk_172 (dk_at dksX8_coin_3 4 rfl rfl)
theorem dX8_coin_74 : decode cX8_coin 74 = .ok (.aload_n 0, 1) := dk_42 (dk_at dksX8_coin_3 5 rfl rfl)
theorem dX8_coin_75 : decode cX8_coin 75 = .ok (.invokevirtual 272, 3) := dk_182 1 16 (dk_at dksX8_coin_3 6 rfl rfl)
theorem dX8_coin_78 : decode cX8_coin 78 = .ok (.aload_n 0, 1) := dk_42 (dk_at dksX8_coin_3 9 rfl rfl)
theorem dX8_coin_79 : decode cX8_coin 79 = .ok (.invokevirtual 188, 3) := dk_182 0 188 (dk_at dksX8_coin_3 10 rfl rfl)
theorem dX8_coin_82 : decode cX8_coin 82 = .ok (.istore 4, 2) := dk_54 4 (dk_at dksX8_coin_3 13 rfl rfl)
theorem dX8_coin_84 : decode cX8_coin 84 = .ok (.bipush 120, 2) := dk_16 120 (dk_at dksX8_coin_3 15 rfl rfl)
theorem dX8_coin_86 : decode cX8_coin 86 = .ok (.bipush 32, 2) := dk_16 32 (dk_at dksX8_coin_3 17 rfl rfl)
theorem dX8_coin_88 : decode cX8_coin 88 = .ok (.iload 4, 2) := dk_21 4 (dk_at dksX8_coin_3 19 rfl rfl)
theorem dX8_coin_90 : decode cX8_coin 90 = .ok (.imul, 1) := dk_104 (dk_at dksX8_coin_3 21 rfl rfl)
theorem dX8_coin_91 : decode cX8_coin 91 = .ok (.iadd, 1) := dk_96 (dk_at dksX8_coin_3 22 rfl rfl)
theorem dX8_coin_92 : decode cX8_coin 92 = .ok (.istore 5, 2) := dk_54 5 (dk_at dksX8_coin_4 0 rfl rfl)
theorem dX8_coin_94 : decode cX8_coin 94 = .ok (.iconst 0, 1) := dk_3 (dk_at dksX8_coin_4 2 rfl rfl)
theorem dX8_coin_95 : decode cX8_coin 95 = .ok (.istore 6, 2) := dk_54 6 (dk_at dksX8_coin_4 3 rfl rfl)
theorem dX8_coin_97 : decode cX8_coin 97 = .ok (.iload 6, 2) := dk_21 6 (dk_at dksX8_coin_4 5 rfl rfl)
theorem dX8_coin_99 : decode cX8_coin 99 = .ok (.bipush 32, 2) := dk_16 32 (dk_at dksX8_coin_4 7 rfl rfl)
theorem dX8_coin_101 : decode cX8_coin 101 = .ok (.if_icmp .ge 20, 3) := dk_162 0 20 (dk_at dksX8_coin_4 9 rfl rfl)
theorem dX8_coin_104 : decode cX8_coin 104 = .ok (.aload_n 0, 1) := dk_42 (dk_at dksX8_coin_4 12 rfl rfl)
theorem dX8_coin_105 : decode cX8_coin 105 = .ok (.getfield 13, 3) := dk_180 0 13 (dk_at dksX8_coin_4 13 rfl rfl)
theorem dX8_coin_108 : decode cX8_coin 108 = .ok (.iload 5, 2) := dk_21 5 (dk_at dksX8_coin_4 16 rfl rfl)
theorem dX8_coin_110 : decode cX8_coin 110 = .ok (.iload 6, 2) := dk_21 6 (dk_at dksX8_coin_4 18 rfl rfl)
theorem dX8_coin_112 : decode cX8_coin 112 = .ok (.iadd, 1) := dk_96 (dk_at dksX8_coin_4 20 rfl rfl)
theorem dX8_coin_113 : decode cX8_coin 113 = .ok (.iconst 0, 1) := dk_3 (dk_at dksX8_coin_4 21 rfl rfl)
theorem dX8_coin_114 : decode cX8_coin 114 = .ok (.iastore, 1) := dk_79 (dk_at dksX8_coin_4 22 rfl rfl)
theorem dX8_coin_115 : decode cX8_coin 115 = .ok (.iinc 6 1, 3) := dk_132 6 1 (dk_at dksX8_coin_5 0 rfl rfl)
theorem dX8_coin_118 : decode cX8_coin 118 = .ok (.goto (-21), 3) := dk_167 255 235 (dk_at dksX8_coin_5 3 rfl rfl)
theorem dX8_coin_121 : decode cX8_coin 121 = .ok (.aload_n 0, 1) := dk_42 (dk_at dksX8_coin_5 6 rfl rfl)
theorem dX8_coin_122 : decode cX8_coin 122 = .ok (.getfield 13, 3) := dk_180 0 13 (dk_at dksX8_coin_5 7 rfl rfl)
theorem dX8_coin_125 : decode cX8_coin 125 = .ok (.iload 5, 2) := dk_21 5 (dk_at dksX8_coin_5 10 rfl rfl)
theorem dX8_coin_127 : decode cX8_coin 127 = .ok (.iconst 0, 1) := dk_3 (dk_at dksX8_coin_5 12 rfl rfl)
theorem dX8_coin_128 : decode cX8_coin 128 = .ok (.iadd, 1) := dk_96 (dk_at dksX8_coin_5 13 rfl rfl)
theorem dX8_coin_129 : decode cX8_coin 129 = .ok (.iload_n 2, 1) := dk_28 (dk_at dksX8_coin_5 14 rfl rfl)
theorem dX8_coin_130 : decode cX8_coin 130 = .ok (.iastore, 1) := dk_79 (dk_at dksX8_coin_5 15 rfl rfl)
theorem dX8_coin_131 : decode cX8_coin 131 = .ok (.aload_n 0, 1) := dk_42 (dk_at dksX8_coin_5 16 rfl rfl)
theorem dX8_coin_132 : decode cX8_coin 132 = .ok (.getfield 13, 3) := dk_180 0 13 (dk_at dksX8_coin_5 17 rfl rfl)
theorem dX8_coin_135 : decode cX8_coin 135 = .ok (.iload 5, 2) := dk_21 5 (dk_at dksX8_coin_5 20 rfl rfl)
theorem dX8_coin_137 : decode cX8_coin 137 = .ok (.iconst 1, 1) := dk_4 (dk_at dksX8_coin_5 22 rfl rfl)
theorem dX8_coin_138 : decode cX8_coin 138 = .ok (.iadd, 1) := dk_96 (dk_at dksX8_coin_5 23 rfl rfl)
theorem dX8_coin_139 : decode cX8_coin 139 = .ok (.iload_n 1, 1) := dk_27 (dk_at dksX8_coin_6 0 rfl rfl)
theorem dX8_coin_140 : decode cX8_coin 140 = .ok (.iastore, 1) := dk_79 (dk_at dksX8_coin_6 1 rfl rfl)
theorem dX8_coin_141 : decode cX8_coin 141 = .ok (.aload_n 0, 1) := dk_42 (dk_at dksX8_coin_6 2 rfl rfl)
theorem dX8_coin_142 : decode cX8_coin 142 = .ok (.getfield 13, 3) := dk_180 0 13 (dk_at dksX8_coin_6 3 rfl rfl)
theorem dX8_coin_145 : decode cX8_coin 145 = .ok (.bipush 108, 2) := dk_16 108 (dk_at dksX8_coin_6 6 rfl rfl)
theorem dX8_coin_147 : decode cX8_coin 147 = .ok (.dup2, 1) := dk_92 (dk_at dksX8_coin_6 8 rfl rfl)
theorem dX8_coin_148 : decode cX8_coin 148 = .ok (.iaload, 1) := dk_46 (dk_at dksX8_coin_6 9 rfl rfl)
theorem dX8_coin_149 : decode cX8_coin 149 = .ok (.iconst 1, 1) := dk_4 (dk_at dksX8_coin_6 10 rfl rfl)
theorem dX8_coin_150 : decode cX8_coin 150 = .ok (.iadd, 1) := dk_96 (dk_at dksX8_coin_6 11 rfl rfl)
theorem dX8_coin_151 : decode cX8_coin 151 = .ok (.iastore, 1) := dk_79 (dk_at dksX8_coin_6 12 rfl rfl)
theorem dX8_coin_152 : decode cX8_coin 152 = .ok (.aload_n 0, 1) := dk_42 (dk_at dksX8_coin_6 13 rfl rfl)
theorem dX8_coin_153 : decode cX8_coin 153 = .ok (.getfield 13, 3) := dk_180 0 13 (dk_at dksX8_coin_6 14 rfl rfl)
theorem dX8_coin_156 : decode cX8_coin 156 = .ok (.bipush 114, 2) := dk_16 114 (dk_at dksX8_coin_6 17 rfl rfl)
theorem dX8_coin_158 : decode cX8_coin 158 = .ok (.dup2, 1) := dk_92 (dk_at dksX8_coin_6 19 rfl rfl)
theorem dX8_coin_159 : decode cX8_coin 159 = .ok (.iaload, 1) := dk_46 (dk_at dksX8_coin_6 20 rfl rfl)
theorem dX8_coin_160 : decode cX8_coin 160 = .ok (.iload_n 2, 1) := dk_28 (dk_at dksX8_coin_6 21 rfl rfl)
theorem dX8_coin_161 : decode cX8_coin 161 = .ok (.iadd, 1) := dk_96 (dk_at dksX8_coin_6 22 rfl rfl)
theorem dX8_coin_162 : decode cX8_coin 162 = .ok (.iastore, 1) := dk_79 (dk_at dksX8_coin_6 23 rfl rfl)
theorem dX8_coin_163 : decode cX8_coin 163 = .ok (.aload_n 0, 1) := dk_42 (dk_at dksX8_coin_7 0 rfl rfl)
theorem dX8_coin_164 : decode cX8_coin 164 = .ok (.iload 4, 2) := dk_21 4 (dk_at dksX8_coin_7 1 rfl rfl)
theorem dX8_coin_166 : decode cX8_coin 166 = .ok (.iload_n 1, 1) := dk_27 (dk_at dksX8_coin_7 3 rfl rfl)
theorem dX8_coin_167 : decode cX8_coin 167 = .ok (.iload_n 3, 1) := dk_29 (dk_at dksX8_coin_7 4 rfl rfl)
theorem dX8_coin_168 : decode cX8_coin 168 = .ok (.iconst (-1), 1) := dk_2 (dk_at dksX8_coin_7 5 rfl rfl)
theorem dX8_coin_169 : decode cX8_coin 169 = .ok (.iconst 0, 1) := dk_3 (dk_at dksX8_coin_7 6 rfl rfl)
theorem dX8_coin_170 : decode cX8_coin 170 = .ok (.invokevirtual 275, 3) := dk_182 1 19 (dk_at dksX8_coin_7 7 rfl rfl)
theorem dX8_coin_173 : decode cX8_coin 173 = .ok (.iload 4, 2) := dk_21 4 (dk_at dksX8_coin_7 10 rfl rfl)
theorem dX8_coin_175 : decode cX8_coin 175 = .ok (.ireturn, 1) := dk_172 (dk_at dksX8_coin_7 12 rfl rfl)
abbrev cX8_isFull : ByteArray := prog_18_method_52_code
def yX8_isFull : MethodName := ⟨RX8, "isFull", "(I)Z"⟩
def dkwX8_isFull_0 : List UInt8 := [42, 180, 0, 13, 16, 112, 46, 27, 96, 17, 1, 244, 164, 0, 7, 4, 167, 0, 4, 3, 172]
abbrev dktX8_isFull_0 : List UInt8 := dkwX8_isFull_0 ++ []
theorem dksX8_isFull_0 : cX8_isFull.data.toList.drop 0 = dktX8_isFull_0 := by decide +kernel
theorem dX8_isFull_0 : decode cX8_isFull 0 = .ok (.aload_n 0, 1) := dk_42 (dk_at dksX8_isFull_0 0 rfl rfl)
theorem dX8_isFull_1 : decode cX8_isFull 1 = .ok (.getfield 13, 3) := dk_180 0 13 (dk_at dksX8_isFull_0 1 rfl rfl)
theorem dX8_isFull_4 : decode cX8_isFull 4 = .ok (.bipush 112, 2) := dk_16 112 (dk_at dksX8_isFull_0 4 rfl rfl)
theorem dX8_isFull_6 : decode cX8_isFull 6 = .ok (.iaload, 1) := dk_46 (dk_at dksX8_isFull_0 6 rfl rfl)
theorem dX8_isFull_7 : decode cX8_isFull 7 = .ok (.iload_n 1, 1) := dk_27 (dk_at dksX8_isFull_0 7 rfl rfl)
theorem dX8_isFull_8 : decode cX8_isFull 8 = .ok (.iadd, 1) := dk_96 (dk_at dksX8_isFull_0 8 rfl rfl)
theorem dX8_isFull_9 : decode cX8_isFull 9 = .ok (.sipush 500, 3) := dk_17 1 244 (dk_at dksX8_isFull_0 9 rfl rfl)
theorem dX8_isFull_12 : decode cX8_isFull 12 = .ok (.if_icmp .le 7, 3) := dk_164 0 7 (dk_at dksX8_isFull_0 12 rfl rfl)
theorem dX8_isFull_15 : decode cX8_isFull 15 = .ok (.iconst 1, 1) := dk_4 (dk_at dksX8_isFull_0 15 rfl rfl)
theorem dX8_isFull_16 : decode cX8_isFull 16 = .ok (.goto 4, 3) := dk_167 0 4 (dk_at dksX8_isFull_0 16 rfl rfl)
theorem dX8_isFull_19 : decode cX8_isFull 19 = .ok (.iconst 0, 1) := dk_3 (dk_at dksX8_isFull_0 19 rfl rfl)
theorem dX8_isFull_20 : decode cX8_isFull 20 = .ok (.ireturn, 1) := dk_172 (dk_at dksX8_isFull_0 20 rfl rfl)
abbrev cX8_wrongStroke : ByteArray := prog_18_method_48_code
def yX8_wrongStroke : MethodName := ⟨RX8, "wrongStroke", "(III)I"⟩
def dkwX8_wrongStroke_2 : List UInt8 := [16, 6, 167, 0, 4, 3, 172]
abbrev dktX8_wrongStroke_2 : List UInt8 := dkwX8_wrongStroke_2 ++ []
def dkwX8_wrongStroke_1 : List UInt8 := [180, 0, 13, 8, 46, 162, 0, 7, 8, 167, 0, 20, 28, 42, 180, 0, 13, 16, 6, 46, 161, 0, 8]
abbrev dktX8_wrongStroke_1 : List UInt8 := dkwX8_wrongStroke_1 ++ dktX8_wrongStroke_2
def dkwX8_wrongStroke_0 : List UInt8 := [42, 29, 5, 182, 1, 6, 158, 0, 7, 7, 167, 0, 41, 27, 42, 29, 3, 182, 1, 6, 100, 42]
abbrev dktX8_wrongStroke_0 : List UInt8 := dkwX8_wrongStroke_0 ++ dktX8_wrongStroke_1
theorem dksX8_wrongStroke_0 : cX8_wrongStroke.data.toList.drop 0 = dktX8_wrongStroke_0 := by decide +kernel
theorem dksX8_wrongStroke_1 : cX8_wrongStroke.data.toList.drop 22 = dktX8_wrongStroke_1 := dk_seg dksX8_wrongStroke_0 22 rfl rfl
theorem dksX8_wrongStroke_2 : cX8_wrongStroke.data.toList.drop 45 = dktX8_wrongStroke_2 := dk_seg dksX8_wrongStroke_1 23 rfl rfl
theorem dX8_wrongStroke_0 : decode cX8_wrongStroke 0 = .ok (.aload_n 0, 1) := dk_42 (dk_at dksX8_wrongStroke_0 0 rfl rfl)
theorem dX8_wrongStroke_1 : decode cX8_wrongStroke 1 = .ok (.iload_n 3, 1) := dk_29 (dk_at dksX8_wrongStroke_0 1 rfl rfl)
theorem dX8_wrongStroke_2 : decode cX8_wrongStroke 2 = .ok (.iconst 2, 1) := dk_5 (dk_at dksX8_wrongStroke_0 2 rfl rfl)
theorem dX8_wrongStroke_3 : decode cX8_wrongStroke 3 = .ok (.invokevirtual 262, 3) := dk_182 1 6 (dk_at dksX8_wrongStroke_0 3 rfl rfl)
theorem dX8_wrongStroke_6 : decode cX8_wrongStroke 6 = .ok (.ifCond .le 7, 3) := dk_158 0 7 (dk_at dksX8_wrongStroke_0 6 rfl rfl)
theorem dX8_wrongStroke_9 : decode cX8_wrongStroke 9 = .ok (.iconst 4, 1) := dk_7 (dk_at dksX8_wrongStroke_0 9 rfl rfl)
theorem dX8_wrongStroke_10 : decode cX8_wrongStroke 10 = .ok (.goto 41, 3) := dk_167 0 41 (dk_at dksX8_wrongStroke_0 10 rfl rfl)
theorem dX8_wrongStroke_13 : decode cX8_wrongStroke 13 = .ok (.iload_n 1, 1) := dk_27 (dk_at dksX8_wrongStroke_0 13 rfl rfl)
theorem dX8_wrongStroke_14 : decode cX8_wrongStroke 14 = .ok (.aload_n 0, 1) := dk_42 (dk_at dksX8_wrongStroke_0 14 rfl rfl)
theorem dX8_wrongStroke_15 : decode cX8_wrongStroke 15 = .ok (.iload_n 3, 1) := dk_29 (dk_at dksX8_wrongStroke_0 15 rfl rfl)
theorem dX8_wrongStroke_16 : decode cX8_wrongStroke 16 = .ok (.iconst 0, 1) := dk_3 (dk_at dksX8_wrongStroke_0 16 rfl rfl)
theorem dX8_wrongStroke_17 : decode cX8_wrongStroke 17 = .ok (.invokevirtual 262, 3) := dk_182 1 6 (dk_at dksX8_wrongStroke_0 17 rfl rfl)
theorem dX8_wrongStroke_20 : decode cX8_wrongStroke 20 = .ok (.isub, 1) := dk_100 (dk_at dksX8_wrongStroke_0 20 rfl rfl)
theorem dX8_wrongStroke_21 : decode cX8_wrongStroke 21 = .ok (.aload_n 0, 1) := dk_42 (dk_at dksX8_wrongStroke_0 21 rfl rfl)
theorem dX8_wrongStroke_22 : decode cX8_wrongStroke 22 = .ok (.getfield 13, 3) := dk_180 0 13 (dk_at dksX8_wrongStroke_1 0 rfl rfl)
theorem dX8_wrongStroke_25 : decode cX8_wrongStroke 25 = .ok (.iconst 5, 1) := dk_8 (dk_at dksX8_wrongStroke_1 3 rfl rfl)
theorem dX8_wrongStroke_26 : decode cX8_wrongStroke 26 = .ok (.iaload, 1) := dk_46 (dk_at dksX8_wrongStroke_1 4 rfl rfl)
theorem dX8_wrongStroke_27 : decode cX8_wrongStroke 27 = .ok (.if_icmp .ge 7, 3) := dk_162 0 7 (dk_at dksX8_wrongStroke_1 5 rfl rfl)
theorem dX8_wrongStroke_30 : decode cX8_wrongStroke 30 = .ok (.iconst 5, 1) := dk_8 (dk_at dksX8_wrongStroke_1 8 rfl rfl)
theorem dX8_wrongStroke_31 : decode cX8_wrongStroke 31 = .ok (.goto 20, 3) := dk_167 0 20 (dk_at dksX8_wrongStroke_1 9 rfl rfl)
theorem dX8_wrongStroke_34 : decode cX8_wrongStroke 34 = .ok (.iload_n 2, 1) := dk_28 (dk_at dksX8_wrongStroke_1 12 rfl rfl)
theorem dX8_wrongStroke_35 : decode cX8_wrongStroke 35 = .ok (.aload_n 0, 1) := dk_42 (dk_at dksX8_wrongStroke_1 13 rfl rfl)
theorem dX8_wrongStroke_36 : decode cX8_wrongStroke 36 = .ok (.getfield 13, 3) := dk_180 0 13 (dk_at dksX8_wrongStroke_1 14 rfl rfl)
theorem dX8_wrongStroke_39 : decode cX8_wrongStroke 39 = .ok (.bipush 6, 2) := dk_16 6 (dk_at dksX8_wrongStroke_1 17 rfl rfl)
theorem dX8_wrongStroke_41 : decode cX8_wrongStroke 41 = .ok (.iaload, 1) := dk_46 (dk_at dksX8_wrongStroke_1 19 rfl rfl)
theorem dX8_wrongStroke_42 : decode cX8_wrongStroke 42 = .ok (.if_icmp .lt 8, 3) := dk_161 0 8 (dk_at dksX8_wrongStroke_1 20 rfl rfl)
theorem dX8_wrongStroke_45 : decode cX8_wrongStroke 45 = .ok (.bipush 6, 2) := dk_16 6 (dk_at dksX8_wrongStroke_2 0 rfl rfl)
theorem dX8_wrongStroke_47 : decode cX8_wrongStroke 47 = .ok (.goto 4, 3) := dk_167 0 4 (dk_at dksX8_wrongStroke_2 2 rfl rfl)
theorem dX8_wrongStroke_50 : decode cX8_wrongStroke 50 = .ok (.iconst 0, 1) := dk_3 (dk_at dksX8_wrongStroke_2 5 rfl rfl)
theorem dX8_wrongStroke_51 : decode cX8_wrongStroke 51 = .ok (.ireturn, 1) := dk_172 (dk_at dksX8_wrongStroke_2 6 rfl rfl)
abbrev cX8_snap : ByteArray := prog_18_method_51_code
def yX8_snap : MethodName := ⟨RX8, "snap", "()V"⟩
def dkwX8_snap_4 : List UInt8 := [181, 0, 240, 177]
abbrev dktX8_snap_4 : List UInt8 := dkwX8_snap_4 ++ []
def dkwX8_snap_3 : List UInt8 := [27, 96, 42, 180, 0, 13, 27, 46, 79, 132, 1, 1, 167, 255, 225, 42, 89, 180, 0, 240, 4, 96]
abbrev dktX8_snap_3 : List UInt8 := dkwX8_snap_3 ++ dktX8_snap_4
def dkwX8_snap_2 : List UInt8 := [181, 0, 240, 3, 60, 27, 17, 30, 220, 162, 0, 30, 42, 180, 0, 23, 17, 30, 220, 42, 180, 0, 240, 104]
abbrev dktX8_snap_2 : List UInt8 := dkwX8_snap_2 ++ dktX8_snap_3
def dkwX8_snap_1 : List UInt8 := [17, 30, 220, 100, 42, 180, 0, 23, 27, 46, 79, 132, 1, 1, 167, 255, 231, 42, 89, 180, 0, 240, 4, 100]
abbrev dktX8_snap_1 : List UInt8 := dkwX8_snap_1 ++ dktX8_snap_2
def dkwX8_snap_0 : List UInt8 := [42, 180, 0, 240, 16, 6, 160, 0, 45, 17, 30, 220, 60, 27, 18, 22, 162, 0, 25, 42, 180, 0, 23, 27]
abbrev dktX8_snap_0 : List UInt8 := dkwX8_snap_0 ++ dktX8_snap_1
theorem dksX8_snap_0 : cX8_snap.data.toList.drop 0 = dktX8_snap_0 := by decide +kernel
theorem dksX8_snap_1 : cX8_snap.data.toList.drop 24 = dktX8_snap_1 := dk_seg dksX8_snap_0 24 rfl rfl
theorem dksX8_snap_2 : cX8_snap.data.toList.drop 48 = dktX8_snap_2 := dk_seg dksX8_snap_1 24 rfl rfl
theorem dksX8_snap_3 : cX8_snap.data.toList.drop 72 = dktX8_snap_3 := dk_seg dksX8_snap_2 24 rfl rfl
theorem dksX8_snap_4 : cX8_snap.data.toList.drop 94 = dktX8_snap_4 := dk_seg dksX8_snap_3 22 rfl rfl
theorem dX8_snap_0 : decode cX8_snap 0 = .ok (.aload_n 0, 1) := dk_42 (dk_at dksX8_snap_0 0 rfl rfl)
theorem dX8_snap_1 : decode cX8_snap 1 = .ok (.getfield 240, 3) := dk_180 0 240 (dk_at dksX8_snap_0 1 rfl rfl)
theorem dX8_snap_4 : decode cX8_snap 4 = .ok (.bipush 6, 2) := dk_16 6 (dk_at dksX8_snap_0 4 rfl rfl)
theorem dX8_snap_6 : decode cX8_snap 6 = .ok (.if_icmp .ne 45, 3) := dk_160 0 45 (dk_at dksX8_snap_0 6 rfl rfl)
theorem dX8_snap_9 : decode cX8_snap 9 = .ok (.sipush 7900, 3) := dk_17 30 220 (dk_at dksX8_snap_0 9 rfl rfl)
theorem dX8_snap_12 : decode cX8_snap 12 = .ok (.istore_n 1, 1) := dk_60 (dk_at dksX8_snap_0 12 rfl rfl)
theorem dX8_snap_13 : decode cX8_snap 13 = .ok (.iload_n 1, 1) := dk_27 (dk_at dksX8_snap_0 13 rfl rfl)
theorem dX8_snap_14 : decode cX8_snap 14 = .ok (.ldc 22, 2) := dk_18 22 (dk_at dksX8_snap_0 14 rfl rfl)
theorem dX8_snap_16 : decode cX8_snap 16 = .ok (.if_icmp .ge 25, 3) := dk_162 0 25 (dk_at dksX8_snap_0 16 rfl rfl)
theorem dX8_snap_19 : decode cX8_snap 19 = .ok (.aload_n 0, 1) := dk_42 (dk_at dksX8_snap_0 19 rfl rfl)
theorem dX8_snap_20 : decode cX8_snap 20 = .ok (.getfield 23, 3) := dk_180 0 23 (dk_at dksX8_snap_0 20 rfl rfl)
theorem dX8_snap_23 : decode cX8_snap 23 = .ok (.iload_n 1, 1) := dk_27 (dk_at dksX8_snap_0 23 rfl rfl)
theorem dX8_snap_24 : decode cX8_snap 24 = .ok (.sipush 7900, 3) := dk_17 30 220 (dk_at dksX8_snap_1 0 rfl rfl)
theorem dX8_snap_27 : decode cX8_snap 27 = .ok (.isub, 1) := dk_100 (dk_at dksX8_snap_1 3 rfl rfl)
theorem dX8_snap_28 : decode cX8_snap 28 = .ok (.aload_n 0, 1) := dk_42 (dk_at dksX8_snap_1 4 rfl rfl)
theorem dX8_snap_29 : decode cX8_snap 29 = .ok (.getfield 23, 3) := dk_180 0 23 (dk_at dksX8_snap_1 5 rfl rfl)
theorem dX8_snap_32 : decode cX8_snap 32 = .ok (.iload_n 1, 1) := dk_27 (dk_at dksX8_snap_1 8 rfl rfl)
theorem dX8_snap_33 : decode cX8_snap 33 = .ok (.iaload, 1) := dk_46 (dk_at dksX8_snap_1 9 rfl rfl)
theorem dX8_snap_34 : decode cX8_snap 34 = .ok (.iastore, 1) := dk_79 (dk_at dksX8_snap_1 10 rfl rfl)
theorem dX8_snap_35 : decode cX8_snap 35 = .ok (.iinc 1 1, 3) := dk_132 1 1 (dk_at dksX8_snap_1 11 rfl rfl)
theorem dX8_snap_38 : decode cX8_snap 38 = .ok (.goto (-25), 3) := dk_167 255 231 (dk_at dksX8_snap_1 14 rfl rfl)
theorem dX8_snap_41 : decode cX8_snap 41 = .ok (.aload_n 0, 1) := dk_42 (dk_at dksX8_snap_1 17 rfl rfl)
theorem dX8_snap_42 : decode cX8_snap 42 = .ok (.dup, 1) := dk_89 (dk_at dksX8_snap_1 18 rfl rfl)
theorem dX8_snap_43 : decode cX8_snap 43 = .ok (.getfield 240, 3) := dk_180 0 240 (dk_at dksX8_snap_1 19 rfl rfl)
theorem dX8_snap_46 : decode cX8_snap 46 = .ok (.iconst 1, 1) := dk_4 (dk_at dksX8_snap_1 22 rfl rfl)
theorem dX8_snap_47 : decode cX8_snap 47 = .ok (.isub, 1) := dk_100 (dk_at dksX8_snap_1 23 rfl rfl)
theorem dX8_snap_48 : decode cX8_snap 48 = .ok (.putfield 240, 3) := dk_181 0 240 (dk_at dksX8_snap_2 0 rfl rfl)
theorem dX8_snap_51 : decode cX8_snap 51 = .ok (.iconst 0, 1) := dk_3 (dk_at dksX8_snap_2 3 rfl rfl)
theorem dX8_snap_52 : decode cX8_snap 52 = .ok (.istore_n 1, 1) := dk_60 (dk_at dksX8_snap_2 4 rfl rfl)
theorem dX8_snap_53 : decode cX8_snap 53 = .ok (.iload_n 1, 1) := dk_27 (dk_at dksX8_snap_2 5 rfl rfl)
theorem dX8_snap_54 : decode cX8_snap 54 = .ok (.sipush 7900, 3) := dk_17 30 220 (dk_at dksX8_snap_2 6 rfl rfl)
theorem dX8_snap_57 : decode cX8_snap 57 = .ok (.if_icmp .ge 30, 3) := dk_162 0 30 (dk_at dksX8_snap_2 9 rfl rfl)
theorem dX8_snap_60 : decode cX8_snap 60 = .ok (.aload_n 0, 1) := dk_42 (dk_at dksX8_snap_2 12 rfl rfl)
theorem dX8_snap_61 : decode cX8_snap 61 = .ok (.getfield 23, 3) := dk_180 0 23 (dk_at dksX8_snap_2 13 rfl rfl)
theorem dX8_snap_64 : decode cX8_snap 64 = .ok (.sipush 7900, 3) := dk_17 30 220 (dk_at dksX8_snap_2 16 rfl rfl)
theorem dX8_snap_67 : decode cX8_snap 67 = .ok (.aload_n 0, 1) := dk_42 (dk_at dksX8_snap_2 19 rfl rfl)
theorem dX8_snap_68 : decode cX8_snap 68 = .ok (.getfield 240, 3) := dk_180 0 240 (dk_at dksX8_snap_2 20 rfl rfl)
theorem dX8_snap_71 : decode cX8_snap 71 = .ok (.imul, 1) := dk_104 (dk_at dksX8_snap_2 23 rfl rfl)
theorem dX8_snap_72 : decode cX8_snap 72 = .ok (.iload_n 1, 1) := dk_27 (dk_at dksX8_snap_3 0 rfl rfl)
theorem dX8_snap_73 : decode cX8_snap 73 = .ok (.iadd, 1) := dk_96 (dk_at dksX8_snap_3 1 rfl rfl)
theorem dX8_snap_74 : decode cX8_snap 74 = .ok (.aload_n 0, 1) := dk_42 (dk_at dksX8_snap_3 2 rfl rfl)
theorem dX8_snap_75 : decode cX8_snap 75 = .ok (.getfield 13, 3) := dk_180 0 13 (dk_at dksX8_snap_3 3 rfl rfl)
theorem dX8_snap_78 : decode cX8_snap 78 = .ok (.iload_n 1, 1) := dk_27 (dk_at dksX8_snap_3 6 rfl rfl)
theorem dX8_snap_79 : decode cX8_snap 79 = .ok (.iaload, 1) := dk_46 (dk_at dksX8_snap_3 7 rfl rfl)
theorem dX8_snap_80 : decode cX8_snap 80 = .ok (.iastore, 1) := dk_79 (dk_at dksX8_snap_3 8 rfl rfl)
theorem dX8_snap_81 : decode cX8_snap 81 = .ok (.iinc 1 1, 3) := dk_132 1 1 (dk_at dksX8_snap_3 9 rfl rfl)
theorem dX8_snap_84 : decode cX8_snap 84 = .ok (.goto (-31), 3) := dk_167 255 225 (dk_at dksX8_snap_3 12 rfl rfl)
theorem dX8_snap_87 : decode cX8_snap 87 = .ok (.aload_n 0, 1) := dk_42 (dk_at dksX8_snap_3 15 rfl rfl)
theorem dX8_snap_88 : decode cX8_snap 88 = .ok (.dup, 1) := dk_89 (dk_at dksX8_snap_3 16 rfl rfl)
theorem dX8_snap_89 : decode cX8_snap 89 = .ok (.getfield 240, 3) := dk_180 0 240 (dk_at dksX8_snap_3 17 rfl rfl)
theorem dX8_snap_92 : decode cX8_snap 92 = .ok (.iconst 1, 1) := dk_4 (dk_at dksX8_snap_3 20 rfl rfl)
theorem dX8_snap_93 : decode cX8_snap 93 = .ok (.iadd, 1) := dk_96 (dk_at dksX8_snap_3 21 rfl rfl)
theorem dX8_snap_94 : decode cX8_snap 94 = .ok (.putfield 240, 3) := dk_181 0 240 (dk_at dksX8_snap_4 0 rfl rfl)
theorem dX8_snap_97 : decode cX8_snap 97 = .ok (.return_, 1) := dk_177 (dk_at dksX8_snap_4 3 rfl rfl)
abbrev cX8_strike : ByteArray := prog_18_method_50_code
def yX8_strike : MethodName := ⟨RX8, "strike", "(IIIII)V"⟩
def dkwX8_strike_16 : List UInt8 := [180, 0, 13, 16, 112, 92, 46, 4, 96, 79, 177]
abbrev dktX8_strike_16 : List UInt8 := dkwX8_strike_16 ++ []
def dkwX8_strike_15 : List UInt8 := [79, 42, 180, 0, 13, 21, 9, 7, 96, 21, 4, 79, 42, 180, 0, 13, 21, 9, 8, 96, 21, 5, 79, 42]
abbrev dktX8_strike_15 : List UInt8 := dkwX8_strike_15 ++ dktX8_strike_16
def dkwX8_strike_14 : List UInt8 := [180, 0, 13, 21, 9, 5, 96, 29, 79, 42, 180, 0, 13, 21, 9, 6, 96, 42, 180, 0, 13, 16, 109, 46]
abbrev dktX8_strike_14 : List UInt8 := dkwX8_strike_14 ++ dktX8_strike_15
def dkwX8_strike_13 : List UInt8 := [104, 96, 54, 9, 42, 180, 0, 13, 21, 9, 27, 79, 42, 180, 0, 13, 21, 9, 4, 96, 28, 79, 42]
abbrev dktX8_strike_13 : List UInt8 := dkwX8_strike_13 ++ dktX8_strike_14
def dkwX8_strike_12 : List UInt8 := [180, 0, 13, 21, 6, 5, 96, 92, 46, 4, 96, 79, 17, 5, 120, 16, 6, 42, 180, 0, 13, 16, 112, 46]
abbrev dktX8_strike_12 : List UInt8 := dkwX8_strike_12 ++ dktX8_strike_13
def dkwX8_strike_11 : List UInt8 := [5, 96, 42, 180, 0, 13, 16, 112, 46, 79, 42, 180, 0, 13, 21, 6, 6, 96, 21, 8, 4, 96, 79, 42]
abbrev dktX8_strike_11 : List UInt8 := dkwX8_strike_11 ++ dktX8_strike_12
def dkwX8_strike_10 : List UInt8 := [96, 28, 79, 42, 180, 0, 13, 21, 6, 7, 96, 4, 96, 16, 9, 79, 42, 180, 0, 13, 21, 6, 7, 96]
abbrev dktX8_strike_10 : List UInt8 := dkwX8_strike_10 ++ dktX8_strike_11
def dkwX8_strike_9 : List UInt8 := [21, 10, 96, 46, 79, 132, 10, 1, 167, 255, 211, 132, 9, 255, 167, 255, 197, 42, 180, 0, 13, 21, 6, 7]
abbrev dktX8_strike_9 : List UInt8 := dkwX8_strike_9 ++ dktX8_strike_10
def dkwX8_strike_8 : List UInt8 := [6, 21, 9, 104, 96, 21, 10, 96, 42, 180, 0, 13, 21, 6, 7, 96, 6, 21, 9, 4, 100, 104, 96]
abbrev dktX8_strike_8 : List UInt8 := dkwX8_strike_8 ++ dktX8_strike_9
def dkwX8_strike_7 : List UInt8 := [54, 9, 21, 9, 158, 0, 60, 3, 54, 10, 21, 10, 6, 162, 0, 45, 42, 180, 0, 13, 21, 6, 7, 96]
abbrev dktX8_strike_7 : List UInt8 := dkwX8_strike_7 ++ dktX8_strike_8
def dkwX8_strike_6 : List UInt8 := [5, 96, 42, 180, 0, 13, 21, 10, 5, 96, 46, 79, 132, 8, 1, 132, 9, 1, 167, 255, 145, 21, 8]
abbrev dktX8_strike_6 : List UInt8 := dkwX8_strike_6 ++ dktX8_strike_7
def dkwX8_strike_5 : List UInt8 := [180, 0, 13, 21, 10, 46, 79, 42, 180, 0, 13, 21, 12, 4, 96, 21, 11, 79, 42, 180, 0, 13, 21, 12]
abbrev dktX8_strike_5 : List UInt8 := dkwX8_strike_5 ++ dktX8_strike_6
def dkwX8_strike_4 : List UInt8 := [157, 0, 6, 167, 0, 60, 21, 6, 7, 96, 6, 21, 8, 104, 96, 54, 12, 42, 180, 0, 13, 21, 12, 42]
abbrev dktX8_strike_4 : List UInt8 := dkwX8_strike_4 ++ dktX8_strike_5
def dkwX8_strike_3 : List UInt8 := [96, 54, 10, 42, 180, 0, 13, 21, 10, 4, 96, 46, 42, 29, 4, 182, 1, 6, 100, 54, 11, 21, 11]
abbrev dktX8_strike_3 : List UInt8 := dkwX8_strike_3 ++ dktX8_strike_4
def dkwX8_strike_2 : List UInt8 := [54, 9, 21, 9, 42, 180, 0, 13, 21, 6, 6, 96, 46, 162, 0, 103, 21, 6, 7, 96, 6, 21, 9, 104]
abbrev dktX8_strike_2 : List UInt8 := dkwX8_strike_2 ++ dktX8_strike_3
def dkwX8_strike_1 : List UInt8 := [96, 92, 46, 21, 7, 100, 79, 42, 180, 0, 13, 16, 115, 92, 46, 21, 7, 96, 79, 3, 54, 8, 3]
abbrev dktX8_strike_1 : List UInt8 := dkwX8_strike_1 ++ dktX8_strike_2
def dkwX8_strike_0 : List UInt8 := [16, 120, 16, 32, 27, 104, 96, 54, 6, 42, 29, 3, 182, 1, 6, 54, 7, 42, 180, 0, 13, 21, 6, 3]
abbrev dktX8_strike_0 : List UInt8 := dkwX8_strike_0 ++ dktX8_strike_1
theorem dksX8_strike_0 : cX8_strike.data.toList.drop 0 = dktX8_strike_0 := by decide +kernel
theorem dksX8_strike_1 : cX8_strike.data.toList.drop 24 = dktX8_strike_1 := dk_seg dksX8_strike_0 24 rfl rfl
theorem dksX8_strike_2 : cX8_strike.data.toList.drop 47 = dktX8_strike_2 := dk_seg dksX8_strike_1 23 rfl rfl
theorem dksX8_strike_3 : cX8_strike.data.toList.drop 71 = dktX8_strike_3 := dk_seg dksX8_strike_2 24 rfl rfl
theorem dksX8_strike_4 : cX8_strike.data.toList.drop 94 = dktX8_strike_4 := dk_seg dksX8_strike_3 23 rfl rfl
theorem dksX8_strike_5 : cX8_strike.data.toList.drop 118 = dktX8_strike_5 := dk_seg dksX8_strike_4 24 rfl rfl
theorem dksX8_strike_6 : cX8_strike.data.toList.drop 142 = dktX8_strike_6 := dk_seg dksX8_strike_5 24 rfl rfl
theorem dksX8_strike_7 : cX8_strike.data.toList.drop 165 = dktX8_strike_7 := dk_seg dksX8_strike_6 23 rfl rfl
theorem dksX8_strike_8 : cX8_strike.data.toList.drop 189 = dktX8_strike_8 := dk_seg dksX8_strike_7 24 rfl rfl
theorem dksX8_strike_9 : cX8_strike.data.toList.drop 212 = dktX8_strike_9 := dk_seg dksX8_strike_8 23 rfl rfl
theorem dksX8_strike_10 : cX8_strike.data.toList.drop 236 = dktX8_strike_10 := dk_seg dksX8_strike_9 24 rfl rfl
theorem dksX8_strike_11 : cX8_strike.data.toList.drop 260 = dktX8_strike_11 := dk_seg dksX8_strike_10 24 rfl rfl
theorem dksX8_strike_12 : cX8_strike.data.toList.drop 284 = dktX8_strike_12 := dk_seg dksX8_strike_11 24 rfl rfl
theorem dksX8_strike_13 : cX8_strike.data.toList.drop 308 = dktX8_strike_13 := dk_seg dksX8_strike_12 24 rfl rfl
theorem dksX8_strike_14 : cX8_strike.data.toList.drop 331 = dktX8_strike_14 := dk_seg dksX8_strike_13 23 rfl rfl
theorem dksX8_strike_15 : cX8_strike.data.toList.drop 355 = dktX8_strike_15 := dk_seg dksX8_strike_14 24 rfl rfl
theorem dksX8_strike_16 : cX8_strike.data.toList.drop 379 = dktX8_strike_16 := dk_seg dksX8_strike_15 24 rfl rfl
theorem dX8_strike_0 : decode cX8_strike 0 = .ok (.bipush 120, 2) := dk_16 120 (dk_at dksX8_strike_0 0 rfl rfl)
theorem dX8_strike_2 : decode cX8_strike 2 = .ok (.bipush 32, 2) := dk_16 32 (dk_at dksX8_strike_0 2 rfl rfl)
theorem dX8_strike_4 : decode cX8_strike 4 = .ok (.iload_n 1, 1) := dk_27 (dk_at dksX8_strike_0 4 rfl rfl)
theorem dX8_strike_5 : decode cX8_strike 5 = .ok (.imul, 1) := dk_104 (dk_at dksX8_strike_0 5 rfl rfl)
theorem dX8_strike_6 : decode cX8_strike 6 = .ok (.iadd, 1) := dk_96 (dk_at dksX8_strike_0 6 rfl rfl)
theorem dX8_strike_7 : decode cX8_strike 7 = .ok (.istore 6, 2) := dk_54 6 (dk_at dksX8_strike_0 7 rfl rfl)
theorem dX8_strike_9 : decode cX8_strike 9 = .ok (.aload_n 0, 1) := dk_42 (dk_at dksX8_strike_0 9 rfl rfl)
theorem dX8_strike_10 : decode cX8_strike 10 = .ok (.iload_n 3, 1) := dk_29 (dk_at dksX8_strike_0 10 rfl rfl)
theorem dX8_strike_11 : decode cX8_strike 11 = .ok (.iconst 0, 1) := dk_3 (dk_at dksX8_strike_0 11 rfl rfl)
theorem dX8_strike_12 : decode cX8_strike 12 = .ok (.invokevirtual 262, 3) := dk_182 1 6 (dk_at dksX8_strike_0 12 rfl rfl)
theorem dX8_strike_15 : decode cX8_strike 15 = .ok (.istore 7, 2) := dk_54 7 (dk_at dksX8_strike_0 15 rfl rfl)
theorem dX8_strike_17 : decode cX8_strike 17 = .ok (.aload_n 0, 1) := dk_42 (dk_at dksX8_strike_0 17 rfl rfl)
theorem dX8_strike_18 : decode cX8_strike 18 = .ok (.getfield 13, 3) := dk_180 0 13 (dk_at dksX8_strike_0 18 rfl rfl)
theorem dX8_strike_21 : decode cX8_strike 21 = .ok (.iload 6, 2) := dk_21 6 (dk_at dksX8_strike_0 21 rfl rfl)
theorem dX8_strike_23 : decode cX8_strike 23 = .ok (.iconst 0, 1) := dk_3 (dk_at dksX8_strike_0 23 rfl rfl)
theorem dX8_strike_24 : decode cX8_strike 24 = .ok (.iadd, 1) := dk_96 (dk_at dksX8_strike_1 0 rfl rfl)
theorem dX8_strike_25 : decode cX8_strike 25 = .ok (.dup2, 1) := dk_92 (dk_at dksX8_strike_1 1 rfl rfl)
theorem dX8_strike_26 : decode cX8_strike 26 = .ok (.iaload, 1) := dk_46 (dk_at dksX8_strike_1 2 rfl rfl)
theorem dX8_strike_27 : decode cX8_strike 27 = .ok (.iload 7, 2) := dk_21 7 (dk_at dksX8_strike_1 3 rfl rfl)
theorem dX8_strike_29 : decode cX8_strike 29 = .ok (.isub, 1) := dk_100 (dk_at dksX8_strike_1 5 rfl rfl)
theorem dX8_strike_30 : decode cX8_strike 30 = .ok (.iastore, 1) := dk_79 (dk_at dksX8_strike_1 6 rfl rfl)
theorem dX8_strike_31 : decode cX8_strike 31 = .ok (.aload_n 0, 1) := dk_42 (dk_at dksX8_strike_1 7 rfl rfl)
theorem dX8_strike_32 : decode cX8_strike 32 = .ok (.getfield 13, 3) := dk_180 0 13 (dk_at dksX8_strike_1 8 rfl rfl)
theorem dX8_strike_35 : decode cX8_strike 35 = .ok (.bipush 115, 2) := dk_16 115 (dk_at dksX8_strike_1 11 rfl rfl)
theorem dX8_strike_37 : decode cX8_strike 37 = .ok (.dup2, 1) := dk_92 (dk_at dksX8_strike_1 13 rfl rfl)
theorem dX8_strike_38 : decode cX8_strike 38 = .ok (.iaload, 1) := dk_46 (dk_at dksX8_strike_1 14 rfl rfl)
theorem dX8_strike_39 : decode cX8_strike 39 = .ok (.iload 7, 2) := dk_21 7 (dk_at dksX8_strike_1 15 rfl rfl)
theorem dX8_strike_41 : decode cX8_strike 41 = .ok (.iadd, 1) := dk_96 (dk_at dksX8_strike_1 17 rfl rfl)
theorem dX8_strike_42 : decode cX8_strike 42 = .ok (.iastore, 1) := dk_79 (dk_at dksX8_strike_1 18 rfl rfl)
theorem dX8_strike_43 : decode cX8_strike 43 = .ok (.iconst 0, 1) := dk_3 (dk_at dksX8_strike_1 19 rfl rfl)
theorem dX8_strike_44 : decode cX8_strike 44 = .ok (.istore 8, 2) := dk_54 8 (dk_at dksX8_strike_1 20 rfl rfl)
theorem dX8_strike_46 : decode cX8_strike 46 = .ok (.iconst 0, 1) := dk_3 (dk_at dksX8_strike_1 22 rfl rfl)
theorem dX8_strike_47 : decode cX8_strike 47 = .ok (.istore 9, 2) := dk_54 9 (dk_at dksX8_strike_2 0 rfl rfl)
theorem dX8_strike_49 : decode cX8_strike 49 = .ok (.iload 9, 2) := dk_21 9 (dk_at dksX8_strike_2 2 rfl rfl)
theorem dX8_strike_51 : decode cX8_strike 51 = .ok (.aload_n 0, 1) := dk_42 (dk_at dksX8_strike_2 4 rfl rfl)
theorem dX8_strike_52 : decode cX8_strike 52 = .ok (.getfield 13, 3) := dk_180 0 13 (dk_at dksX8_strike_2 5 rfl rfl)
theorem dX8_strike_55 : decode cX8_strike 55 = .ok (.iload 6, 2) := dk_21 6 (dk_at dksX8_strike_2 8 rfl rfl)
theorem dX8_strike_57 : decode cX8_strike 57 = .ok (.iconst 3, 1) := dk_6 (dk_at dksX8_strike_2 10 rfl rfl)
theorem dX8_strike_58 : decode cX8_strike 58 = .ok (.iadd, 1) := dk_96 (dk_at dksX8_strike_2 11 rfl rfl)
theorem dX8_strike_59 : decode cX8_strike 59 = .ok (.iaload, 1) := dk_46 (dk_at dksX8_strike_2 12 rfl rfl)
theorem dX8_strike_60 : decode cX8_strike 60 = .ok (.if_icmp .ge 103, 3) := dk_162 0 103 (dk_at dksX8_strike_2 13 rfl rfl)
theorem dX8_strike_63 : decode cX8_strike 63 = .ok (.iload 6, 2) := dk_21 6 (dk_at dksX8_strike_2 16 rfl rfl)
theorem dX8_strike_65 : decode cX8_strike 65 = .ok (.iconst 4, 1) := dk_7 (dk_at dksX8_strike_2 18 rfl rfl)
theorem dX8_strike_66 : decode cX8_strike 66 = .ok (.iadd, 1) := dk_96 (dk_at dksX8_strike_2 19 rfl rfl)
theorem dX8_strike_67 : decode cX8_strike 67 = .ok (.iconst 3, 1) := dk_6 (dk_at dksX8_strike_2 20 rfl rfl)
theorem dX8_strike_68 : decode cX8_strike 68 = .ok (.iload 9, 2) := dk_21 9 (dk_at dksX8_strike_2 21 rfl rfl)
theorem dX8_strike_70 : decode cX8_strike 70 = .ok (.imul, 1) := dk_104 (dk_at dksX8_strike_2 23 rfl rfl)
theorem dX8_strike_71 : decode cX8_strike 71 = .ok (.iadd, 1) := dk_96 (dk_at dksX8_strike_3 0 rfl rfl)
theorem dX8_strike_72 : decode cX8_strike 72 = .ok (.istore 10, 2) := dk_54 10 (dk_at dksX8_strike_3 1 rfl rfl)
theorem dX8_strike_74 : decode cX8_strike 74 = .ok (.aload_n 0, 1) := dk_42 (dk_at dksX8_strike_3 3 rfl rfl)
theorem dX8_strike_75 : decode cX8_strike 75 = .ok (.getfield 13, 3) := dk_180 0 13 (dk_at dksX8_strike_3 4 rfl rfl)
theorem dX8_strike_78 : decode cX8_strike 78 = .ok (.iload 10, 2) := dk_21 10 (dk_at dksX8_strike_3 7 rfl rfl)
theorem dX8_strike_80 : decode cX8_strike 80 = .ok (.iconst 1, 1) := dk_4 (dk_at dksX8_strike_3 9 rfl rfl)
theorem dX8_strike_81 : decode cX8_strike 81 = .ok (.iadd, 1) := dk_96 (dk_at dksX8_strike_3 10 rfl rfl)
theorem dX8_strike_82 : decode cX8_strike 82 = .ok (.iaload, 1) := dk_46 (dk_at dksX8_strike_3 11 rfl rfl)
theorem dX8_strike_83 : decode cX8_strike 83 = .ok (.aload_n 0, 1) := dk_42 (dk_at dksX8_strike_3 12 rfl rfl)
theorem dX8_strike_84 : decode cX8_strike 84 = .ok (.iload_n 3, 1) := dk_29 (dk_at dksX8_strike_3 13 rfl rfl)
theorem dX8_strike_85 : decode cX8_strike 85 = .ok (.iconst 1, 1) := dk_4 (dk_at dksX8_strike_3 14 rfl rfl)
theorem dX8_strike_86 : decode cX8_strike 86 = .ok (.invokevirtual 262, 3) := dk_182 1 6 (dk_at dksX8_strike_3 15 rfl rfl)
theorem dX8_strike_89 : decode cX8_strike 89 = .ok (.isub, 1) := dk_100 (dk_at dksX8_strike_3 18 rfl rfl)
theorem dX8_strike_90 : decode cX8_strike 90 = .ok (.istore 11, 2) := dk_54 11 (dk_at dksX8_strike_3 19 rfl rfl)
theorem dX8_strike_92 : decode cX8_strike 92 = .ok (.iload 11, 2) := dk_21 11 (dk_at dksX8_strike_3 21 rfl rfl)
theorem dX8_strike_94 : decode cX8_strike 94 = .ok (.ifCond .gt 6, 3) := dk_157 0 6 (dk_at dksX8_strike_4 0 rfl rfl)
theorem dX8_strike_97 : decode cX8_strike 97 = .ok (.goto 60, 3) := dk_167 0 60 (dk_at dksX8_strike_4 3 rfl rfl)
theorem dX8_strike_100 : decode cX8_strike 100 = .ok (.iload 6, 2) := dk_21 6 (dk_at dksX8_strike_4 6 rfl rfl)
theorem dX8_strike_102 : decode cX8_strike 102 = .ok (.iconst 4, 1) := dk_7 (dk_at dksX8_strike_4 8 rfl rfl)
theorem dX8_strike_103 : decode cX8_strike 103 = .ok (.iadd, 1) := dk_96 (dk_at dksX8_strike_4 9 rfl rfl)
theorem dX8_strike_104 : decode cX8_strike 104 = .ok (.iconst 3, 1) := dk_6 (dk_at dksX8_strike_4 10 rfl rfl)
theorem dX8_strike_105 : decode cX8_strike 105 = .ok (.iload 8, 2) := dk_21 8 (dk_at dksX8_strike_4 11 rfl rfl)
theorem dX8_strike_107 : decode cX8_strike 107 = .ok (.imul, 1) := dk_104 (dk_at dksX8_strike_4 13 rfl rfl)
theorem dX8_strike_108 : decode cX8_strike 108 = .ok (.iadd, 1) := dk_96 (dk_at dksX8_strike_4 14 rfl rfl)
theorem dX8_strike_109 : decode cX8_strike 109 = .ok (.istore 12, 2) := dk_54 12 (dk_at dksX8_strike_4 15 rfl rfl)
theorem dX8_strike_111 : decode cX8_strike 111 = .ok (.aload_n 0, 1) := dk_42 (dk_at dksX8_strike_4 17 rfl rfl)
theorem dX8_strike_112 : decode cX8_strike 112 = .ok (.getfield 13, 3) := dk_180 0 13 (dk_at dksX8_strike_4 18 rfl rfl)
theorem dX8_strike_115 : decode cX8_strike 115 = .ok (.iload 12, 2) := dk_21 12 (dk_at dksX8_strike_4 21 rfl rfl)
theorem dX8_strike_117 : decode cX8_strike 117 = .ok (.aload_n 0, 1) := dk_42 (dk_at dksX8_strike_4 23 rfl rfl)
theorem dX8_strike_118 : decode cX8_strike 118 = .ok (.getfield 13, 3) := dk_180 0 13 (dk_at dksX8_strike_5 0 rfl rfl)
theorem dX8_strike_121 : decode cX8_strike 121 = .ok (.iload 10, 2) := dk_21 10 (dk_at dksX8_strike_5 3 rfl rfl)
theorem dX8_strike_123 : decode cX8_strike 123 = .ok (.iaload, 1) := dk_46 (dk_at dksX8_strike_5 5 rfl rfl)
theorem dX8_strike_124 : decode cX8_strike 124 = .ok (.iastore, 1) := dk_79 (dk_at dksX8_strike_5 6 rfl rfl)
theorem dX8_strike_125 : decode cX8_strike 125 = .ok (.aload_n 0, 1) := dk_42 (dk_at dksX8_strike_5 7 rfl rfl)
theorem dX8_strike_126 : decode cX8_strike 126 = .ok (.getfield 13, 3) := dk_180 0 13 (dk_at dksX8_strike_5 8 rfl rfl)
theorem dX8_strike_129 : decode cX8_strike 129 = .ok (.iload 12, 2) := dk_21 12 (dk_at dksX8_strike_5 11 rfl rfl)
theorem dX8_strike_131 : decode cX8_strike 131 = .ok (.iconst 1, 1) := dk_4 (dk_at dksX8_strike_5 13 rfl rfl)
theorem dX8_strike_132 : decode cX8_strike 132 = .ok (.iadd, 1) := dk_96 (dk_at dksX8_strike_5 14 rfl rfl)
theorem dX8_strike_133 : decode cX8_strike 133 = .ok (.iload 11, 2) := dk_21 11 (dk_at dksX8_strike_5 15 rfl rfl)
theorem dX8_strike_135 : decode cX8_strike 135 = .ok (.iastore, 1) := dk_79 (dk_at dksX8_strike_5 17 rfl rfl)
theorem dX8_strike_136 : decode cX8_strike 136 = .ok (.aload_n 0, 1) := dk_42 (dk_at dksX8_strike_5 18 rfl rfl)
theorem dX8_strike_137 : decode cX8_strike 137 = .ok (.getfield 13, 3) := dk_180 0 13 (dk_at dksX8_strike_5 19 rfl rfl)
theorem dX8_strike_140 : decode cX8_strike 140 = .ok (.iload 12, 2) := dk_21 12 (dk_at dksX8_strike_5 22 rfl rfl)
theorem dX8_strike_142 : decode cX8_strike 142 = .ok (.iconst 2, 1) := dk_5 (dk_at dksX8_strike_6 0 rfl rfl)
theorem dX8_strike_143 : decode cX8_strike 143 = .ok (.iadd, 1) := dk_96 (dk_at dksX8_strike_6 1 rfl rfl)
theorem dX8_strike_144 : decode cX8_strike 144 = .ok (.aload_n 0, 1) := dk_42 (dk_at dksX8_strike_6 2 rfl rfl)
theorem dX8_strike_145 : decode cX8_strike 145 = .ok (.getfield 13, 3) := dk_180 0 13 (dk_at dksX8_strike_6 3 rfl rfl)
theorem dX8_strike_148 : decode cX8_strike 148 = .ok (.iload 10, 2) := dk_21 10 (dk_at dksX8_strike_6 6 rfl rfl)
theorem dX8_strike_150 : decode cX8_strike 150 = .ok (.iconst 2, 1) := dk_5 (dk_at dksX8_strike_6 8 rfl rfl)
theorem dX8_strike_151 : decode cX8_strike 151 = .ok (.iadd, 1) := dk_96 (dk_at dksX8_strike_6 9 rfl rfl)
theorem dX8_strike_152 : decode cX8_strike 152 = .ok (.iaload, 1) := dk_46 (dk_at dksX8_strike_6 10 rfl rfl)
theorem dX8_strike_153 : decode cX8_strike 153 = .ok (.iastore, 1) := dk_79 (dk_at dksX8_strike_6 11 rfl rfl)
theorem dX8_strike_154 : decode cX8_strike 154 = .ok (.iinc 8 1, 3) := dk_132 8 1 (dk_at dksX8_strike_6 12 rfl rfl)
theorem dX8_strike_157 : decode cX8_strike 157 = .ok (.iinc 9 1, 3) := dk_132 9 1 (dk_at dksX8_strike_6 15 rfl rfl)
theorem dX8_strike_160 : decode cX8_strike 160 = .ok (.goto (-111), 3) := dk_167 255 145 (dk_at dksX8_strike_6 18 rfl rfl)
theorem dX8_strike_163 : decode cX8_strike 163 = .ok (.iload 8, 2) := dk_21 8 (dk_at dksX8_strike_6 21 rfl rfl)
theorem dX8_strike_165 : decode cX8_strike 165 = .ok (.istore 9, 2) := dk_54 9 (dk_at dksX8_strike_7 0 rfl rfl)
theorem dX8_strike_167 : decode cX8_strike 167 = .ok (.iload 9, 2) := dk_21 9 (dk_at dksX8_strike_7 2 rfl rfl)
theorem dX8_strike_169 : decode cX8_strike 169 = .ok (.ifCond .le 60, 3) := dk_158 0 60 (dk_at dksX8_strike_7 4 rfl rfl)
theorem dX8_strike_172 : decode cX8_strike 172 = .ok (.iconst 0, 1) := dk_3 (dk_at dksX8_strike_7 7 rfl rfl)
theorem dX8_strike_173 : decode cX8_strike 173 = .ok (.istore 10, 2) := dk_54 10 (dk_at dksX8_strike_7 8 rfl rfl)
theorem dX8_strike_175 : decode cX8_strike 175 = .ok (.iload 10, 2) := dk_21 10 (dk_at dksX8_strike_7 10 rfl rfl)
theorem dX8_strike_177 : decode cX8_strike 177 = .ok (.iconst 3, 1) := dk_6 (dk_at dksX8_strike_7 12 rfl rfl)
theorem dX8_strike_178 : decode cX8_strike 178 = .ok (.if_icmp .ge 45, 3) := dk_162 0 45 (dk_at dksX8_strike_7 13 rfl rfl)
theorem dX8_strike_181 : decode cX8_strike 181 = .ok (.aload_n 0, 1) := dk_42 (dk_at dksX8_strike_7 16 rfl rfl)
theorem dX8_strike_182 : decode cX8_strike 182 = .ok (.getfield 13, 3) := dk_180 0 13 (dk_at dksX8_strike_7 17 rfl rfl)
theorem dX8_strike_185 : decode cX8_strike 185 = .ok (.iload 6, 2) := dk_21 6 (dk_at dksX8_strike_7 20 rfl rfl)
theorem dX8_strike_187 : decode cX8_strike 187 = .ok (.iconst 4, 1) := dk_7 (dk_at dksX8_strike_7 22 rfl rfl)
theorem dX8_strike_188 : decode cX8_strike 188 = .ok (.iadd, 1) := dk_96 (dk_at dksX8_strike_7 23 rfl rfl)
theorem dX8_strike_189 : decode cX8_strike 189 = .ok (.iconst 3, 1) := dk_6 (dk_at dksX8_strike_8 0 rfl rfl)
theorem dX8_strike_190 : decode cX8_strike 190 = .ok (.iload 9, 2) := dk_21 9 (dk_at dksX8_strike_8 1 rfl rfl)
theorem dX8_strike_192 : decode cX8_strike 192 = .ok (.imul, 1) := dk_104 (dk_at dksX8_strike_8 3 rfl rfl)
theorem dX8_strike_193 : decode cX8_strike 193 = .ok (.iadd, 1) := dk_96 (dk_at dksX8_strike_8 4 rfl rfl)
theorem dX8_strike_194 : decode cX8_strike 194 = .ok (.iload 10, 2) := dk_21 10 (dk_at dksX8_strike_8 5 rfl rfl)
theorem dX8_strike_196 : decode cX8_strike 196 = .ok (.iadd, 1) := dk_96 (dk_at dksX8_strike_8 7 rfl rfl)
theorem dX8_strike_197 : decode cX8_strike 197 = .ok (.aload_n 0, 1) := dk_42 (dk_at dksX8_strike_8 8 rfl rfl)
theorem dX8_strike_198 : decode cX8_strike 198 = .ok (.getfield 13, 3) := dk_180 0 13 (dk_at dksX8_strike_8 9 rfl rfl)
theorem dX8_strike_201 : decode cX8_strike 201 = .ok (.iload 6, 2) := dk_21 6 (dk_at dksX8_strike_8 12 rfl rfl)
theorem dX8_strike_203 : decode cX8_strike 203 = .ok (.iconst 4, 1) := dk_7 (dk_at dksX8_strike_8 14 rfl rfl)
theorem dX8_strike_204 : decode cX8_strike 204 = .ok (.iadd, 1) := dk_96 (dk_at dksX8_strike_8 15 rfl rfl)
theorem dX8_strike_205 : decode cX8_strike 205 = .ok (.iconst 3, 1) := dk_6 (dk_at dksX8_strike_8 16 rfl rfl)
theorem dX8_strike_206 : decode cX8_strike 206 = .ok (.iload 9, 2) := dk_21 9 (dk_at dksX8_strike_8 17 rfl rfl)
theorem dX8_strike_208 : decode cX8_strike 208 = .ok (.iconst 1, 1) := dk_4 (dk_at dksX8_strike_8 19 rfl rfl)
theorem dX8_strike_209 : decode cX8_strike 209 = .ok (.isub, 1) := dk_100 (dk_at dksX8_strike_8 20 rfl rfl)
theorem dX8_strike_210 : decode cX8_strike 210 = .ok (.imul, 1) := dk_104 (dk_at dksX8_strike_8 21 rfl rfl)
theorem dX8_strike_211 : decode cX8_strike 211 = .ok (.iadd, 1) := dk_96 (dk_at dksX8_strike_8 22 rfl rfl)
theorem dX8_strike_212 : decode cX8_strike 212 = .ok (.iload 10, 2) := dk_21 10 (dk_at dksX8_strike_9 0 rfl rfl)
theorem dX8_strike_214 : decode cX8_strike 214 = .ok (.iadd, 1) := dk_96 (dk_at dksX8_strike_9 2 rfl rfl)
theorem dX8_strike_215 : decode cX8_strike 215 = .ok (.iaload, 1) := dk_46 (dk_at dksX8_strike_9 3 rfl rfl)
theorem dX8_strike_216 : decode cX8_strike 216 = .ok (.iastore, 1) := dk_79 (dk_at dksX8_strike_9 4 rfl rfl)
theorem dX8_strike_217 : decode cX8_strike 217 = .ok (.iinc 10 1, 3) := dk_132 10 1 (dk_at dksX8_strike_9 5 rfl rfl)
theorem dX8_strike_220 : decode cX8_strike 220 = .ok (.goto (-45), 3) := dk_167 255 211 (dk_at dksX8_strike_9 8 rfl rfl)
theorem dX8_strike_223 : decode cX8_strike 223 = .ok (.iinc 9 (-1), 3) := dk_132 9 255 (dk_at dksX8_strike_9 11 rfl rfl)
theorem dX8_strike_226 : decode cX8_strike 226 = .ok (.goto (-59), 3) := dk_167 255 197 (dk_at dksX8_strike_9 14 rfl rfl)
theorem dX8_strike_229 : decode cX8_strike 229 = .ok (.aload_n 0, 1) := dk_42 (dk_at dksX8_strike_9 17 rfl rfl)
theorem dX8_strike_230 : decode cX8_strike 230 = .ok (.getfield 13, 3) := dk_180 0 13 (dk_at dksX8_strike_9 18 rfl rfl)
theorem dX8_strike_233 : decode cX8_strike 233 = .ok (.iload 6, 2) := dk_21 6 (dk_at dksX8_strike_9 21 rfl rfl)
theorem dX8_strike_235 : decode cX8_strike 235 = .ok (.iconst 4, 1) := dk_7 (dk_at dksX8_strike_9 23 rfl rfl)
theorem dX8_strike_236 : decode cX8_strike 236 = .ok (.iadd, 1) := dk_96 (dk_at dksX8_strike_10 0 rfl rfl)
theorem dX8_strike_237 : decode cX8_strike 237 = .ok (.iload_n 2, 1) := dk_28 (dk_at dksX8_strike_10 1 rfl rfl)
theorem dX8_strike_238 : decode cX8_strike 238 = .ok (.iastore, 1) := dk_79 (dk_at dksX8_strike_10 2 rfl rfl)
theorem dX8_strike_239 : decode cX8_strike 239 = .ok (.aload_n 0, 1) := dk_42 (dk_at dksX8_strike_10 3 rfl rfl)
theorem dX8_strike_240 : decode cX8_strike 240 = .ok (.getfield 13, 3) := dk_180 0 13 (dk_at dksX8_strike_10 4 rfl rfl)
theorem dX8_strike_243 : decode cX8_strike 243 = .ok (.iload 6, 2) := dk_21 6 (dk_at dksX8_strike_10 7 rfl rfl)
theorem dX8_strike_245 : decode cX8_strike 245 = .ok (.iconst 4, 1) := dk_7 (dk_at dksX8_strike_10 9 rfl rfl)
theorem dX8_strike_246 : decode cX8_strike 246 = .ok (.iadd, 1) := dk_96 (dk_at dksX8_strike_10 10 rfl rfl)
theorem dX8_strike_247 : decode cX8_strike 247 = .ok (.iconst 1, 1) := dk_4 (dk_at dksX8_strike_10 11 rfl rfl)
theorem dX8_strike_248 : decode cX8_strike 248 = .ok (.iadd, 1) := dk_96 (dk_at dksX8_strike_10 12 rfl rfl)
theorem dX8_strike_249 : decode cX8_strike 249 = .ok (.bipush 9, 2) := dk_16 9 (dk_at dksX8_strike_10 13 rfl rfl)
theorem dX8_strike_251 : decode cX8_strike 251 = .ok (.iastore, 1) := dk_79 (dk_at dksX8_strike_10 15 rfl rfl)
theorem dX8_strike_252 : decode cX8_strike 252 = .ok (.aload_n 0, 1) := dk_42 (dk_at dksX8_strike_10 16 rfl rfl)
theorem dX8_strike_253 : decode cX8_strike 253 = .ok (.getfield 13, 3) := dk_180 0 13 (dk_at dksX8_strike_10 17 rfl rfl)
theorem dX8_strike_256 : decode cX8_strike 256 = .ok (.iload 6, 2) := dk_21 6 (dk_at dksX8_strike_10 20 rfl rfl)
theorem dX8_strike_258 : decode cX8_strike 258 = .ok (.iconst 4, 1) := dk_7 (dk_at dksX8_strike_10 22 rfl rfl)
theorem dX8_strike_259 : decode cX8_strike 259 = .ok (.iadd, 1) := dk_96 (dk_at dksX8_strike_10 23 rfl rfl)
theorem dX8_strike_260 : decode cX8_strike 260 = .ok (.iconst 2, 1) := dk_5 (dk_at dksX8_strike_11 0 rfl rfl)
theorem dX8_strike_261 : decode cX8_strike 261 = .ok (.iadd, 1) := dk_96 (dk_at dksX8_strike_11 1 rfl rfl)
theorem dX8_strike_262 : decode cX8_strike 262 = .ok (.aload_n 0, 1) := dk_42 (dk_at dksX8_strike_11 2 rfl rfl)
theorem dX8_strike_263 : decode cX8_strike 263 = .ok (.getfield 13, 3) := dk_180 0 13 (dk_at dksX8_strike_11 3 rfl rfl)
theorem dX8_strike_266 : decode cX8_strike 266 = .ok (.bipush 112, 2) := dk_16 112 (dk_at dksX8_strike_11 6 rfl rfl)
theorem dX8_strike_268 : decode cX8_strike 268 = .ok (.iaload, 1) := dk_46 (dk_at dksX8_strike_11 8 rfl rfl)
theorem dX8_strike_269 : decode cX8_strike 269 = .ok (.iastore, 1) := dk_79 (dk_at dksX8_strike_11 9 rfl rfl)
theorem dX8_strike_270 : decode cX8_strike 270 = .ok (.aload_n 0, 1) := dk_42 (dk_at dksX8_strike_11 10 rfl rfl)
theorem dX8_strike_271 : decode cX8_strike 271 = .ok (.getfield 13, 3) := dk_180 0 13 (dk_at dksX8_strike_11 11 rfl rfl)
theorem dX8_strike_274 : decode cX8_strike 274 = .ok (.iload 6, 2) := dk_21 6 (dk_at dksX8_strike_11 14 rfl rfl)
theorem dX8_strike_276 : decode cX8_strike 276 = .ok (.iconst 3, 1) := dk_6 (dk_at dksX8_strike_11 16 rfl rfl)
theorem dX8_strike_277 : decode cX8_strike 277 = .ok (.iadd, 1) := dk_96 (dk_at dksX8_strike_11 17 rfl rfl)
theorem dX8_strike_278 : decode cX8_strike 278 = .ok (.iload 8, 2) := dk_21 8 (dk_at dksX8_strike_11 18 rfl rfl)
theorem dX8_strike_280 : decode cX8_strike 280 = .ok (.iconst 1, 1) := dk_4 (dk_at dksX8_strike_11 20 rfl rfl)
theorem dX8_strike_281 : decode cX8_strike 281 = .ok (.iadd, 1) := dk_96 (dk_at dksX8_strike_11 21 rfl rfl)
theorem dX8_strike_282 : decode cX8_strike 282 = .ok (.iastore, 1) := dk_79 (dk_at dksX8_strike_11 22 rfl rfl)
theorem dX8_strike_283 : decode cX8_strike 283 = .ok (.aload_n 0, 1) := dk_42 (dk_at dksX8_strike_11 23 rfl rfl)
theorem dX8_strike_284 : decode cX8_strike 284 = .ok (.getfield 13, 3) := dk_180 0 13 (dk_at dksX8_strike_12 0 rfl rfl)
theorem dX8_strike_287 : decode cX8_strike 287 = .ok (.iload 6, 2) := dk_21 6 (dk_at dksX8_strike_12 3 rfl rfl)
theorem dX8_strike_289 : decode cX8_strike 289 = .ok (.iconst 2, 1) := dk_5 (dk_at dksX8_strike_12 5 rfl rfl)
theorem dX8_strike_290 : decode cX8_strike 290 = .ok (.iadd, 1) := dk_96 (dk_at dksX8_strike_12 6 rfl rfl)
theorem dX8_strike_291 : decode cX8_strike 291 = .ok (.dup2, 1) := dk_92 (dk_at dksX8_strike_12 7 rfl rfl)
theorem dX8_strike_292 : decode cX8_strike 292 = .ok (.iaload, 1) := dk_46 (dk_at dksX8_strike_12 8 rfl rfl)
theorem dX8_strike_293 : decode cX8_strike 293 = .ok (.iconst 1, 1) := dk_4 (dk_at dksX8_strike_12 9 rfl rfl)
theorem dX8_strike_294 : decode cX8_strike 294 = .ok (.iadd, 1) := dk_96 (dk_at dksX8_strike_12 10 rfl rfl)
theorem dX8_strike_295 : decode cX8_strike 295 = .ok (.iastore, 1) := dk_79 (dk_at dksX8_strike_12 11 rfl rfl)
theorem dX8_strike_296 : decode cX8_strike 296 = .ok (.sipush 1400, 3) := dk_17 5 120 (dk_at dksX8_strike_12 12 rfl rfl)
theorem dX8_strike_299 : decode cX8_strike 299 = .ok (.bipush 6, 2) := dk_16 6 (dk_at dksX8_strike_12 15 rfl rfl)
theorem dX8_strike_301 : decode cX8_strike 301 = .ok (.aload_n 0, 1) := dk_42 (dk_at dksX8_strike_12 17 rfl rfl)
theorem dX8_strike_302 : decode cX8_strike 302 = .ok (.getfield 13, 3) := dk_180 0 13 (dk_at dksX8_strike_12 18 rfl rfl)
theorem dX8_strike_305 : decode cX8_strike 305 = .ok (.bipush 112, 2) := dk_16 112 (dk_at dksX8_strike_12 21 rfl rfl)
theorem dX8_strike_307 : decode cX8_strike 307 = .ok (.iaload, 1) := dk_46 (dk_at dksX8_strike_12 23 rfl rfl)
theorem dX8_strike_308 : decode cX8_strike 308 = .ok (.imul, 1) := dk_104 (dk_at dksX8_strike_13 0 rfl rfl)
theorem dX8_strike_309 : decode cX8_strike 309 = .ok (.iadd, 1) := dk_96 (dk_at dksX8_strike_13 1 rfl rfl)
theorem dX8_strike_310 : decode cX8_strike 310 = .ok (.istore 9, 2) := dk_54 9 (dk_at dksX8_strike_13 2 rfl rfl)
theorem dX8_strike_312 : decode cX8_strike 312 = .ok (.aload_n 0, 1) := dk_42 (dk_at dksX8_strike_13 4 rfl rfl)
theorem dX8_strike_313 : decode cX8_strike 313 = .ok (.getfield 13, 3) := dk_180 0 13 (dk_at dksX8_strike_13 5 rfl rfl)
theorem dX8_strike_316 : decode cX8_strike 316 = .ok (.iload 9, 2) := dk_21 9 (dk_at dksX8_strike_13 8 rfl rfl)
theorem dX8_strike_318 : decode cX8_strike 318 = .ok (.iload_n 1, 1) := dk_27 (dk_at dksX8_strike_13 10 rfl rfl)
theorem dX8_strike_319 : decode cX8_strike 319 = .ok (.iastore, 1) := dk_79 (dk_at dksX8_strike_13 11 rfl rfl)
theorem dX8_strike_320 : decode cX8_strike 320 = .ok (.aload_n 0, 1) := dk_42 (dk_at dksX8_strike_13 12 rfl rfl)
theorem dX8_strike_321 : decode cX8_strike 321 = .ok (.getfield 13, 3) := dk_180 0 13 (dk_at dksX8_strike_13 13 rfl rfl)
theorem dX8_strike_324 : decode cX8_strike 324 = .ok (.iload 9, 2) := dk_21 9 (dk_at dksX8_strike_13 16 rfl rfl)
theorem dX8_strike_326 : decode cX8_strike 326 = .ok (.iconst 1, 1) := dk_4 (dk_at dksX8_strike_13 18 rfl rfl)
theorem dX8_strike_327 : decode cX8_strike 327 = .ok (.iadd, 1) := dk_96 (dk_at dksX8_strike_13 19 rfl rfl)
theorem dX8_strike_328 : decode cX8_strike 328 = .ok (.iload_n 2, 1) := dk_28 (dk_at dksX8_strike_13 20 rfl rfl)
theorem dX8_strike_329 : decode cX8_strike 329 = .ok (.iastore, 1) := dk_79 (dk_at dksX8_strike_13 21 rfl rfl)
theorem dX8_strike_330 : decode cX8_strike 330 = .ok (.aload_n 0, 1) := dk_42 (dk_at dksX8_strike_13 22 rfl rfl)
theorem dX8_strike_331 : decode cX8_strike 331 = .ok (.getfield 13, 3) := dk_180 0 13 (dk_at dksX8_strike_14 0 rfl rfl)
theorem dX8_strike_334 : decode cX8_strike 334 = .ok (.iload 9, 2) := dk_21 9 (dk_at dksX8_strike_14 3 rfl rfl)
theorem dX8_strike_336 : decode cX8_strike 336 = .ok (.iconst 2, 1) := dk_5 (dk_at dksX8_strike_14 5 rfl rfl)
theorem dX8_strike_337 : decode cX8_strike 337 = .ok (.iadd, 1) := dk_96 (dk_at dksX8_strike_14 6 rfl rfl)
theorem dX8_strike_338 : decode cX8_strike 338 = .ok (.iload_n 3, 1) := dk_29 (dk_at dksX8_strike_14 7 rfl rfl)
theorem dX8_strike_339 : decode cX8_strike 339 = .ok (.iastore, 1) := dk_79 (dk_at dksX8_strike_14 8 rfl rfl)
theorem dX8_strike_340 : decode cX8_strike 340 = .ok (.aload_n 0, 1) := dk_42 (dk_at dksX8_strike_14 9 rfl rfl)
theorem dX8_strike_341 : decode cX8_strike 341 = .ok (.getfield 13, 3) := dk_180 0 13 (dk_at dksX8_strike_14 10 rfl rfl)
theorem dX8_strike_344 : decode cX8_strike 344 = .ok (.iload 9, 2) := dk_21 9 (dk_at dksX8_strike_14 13 rfl rfl)
theorem dX8_strike_346 : decode cX8_strike 346 = .ok (.iconst 3, 1) := dk_6 (dk_at dksX8_strike_14 15 rfl rfl)
theorem dX8_strike_347 : decode cX8_strike 347 = .ok (.iadd, 1) := dk_96 (dk_at dksX8_strike_14 16 rfl rfl)
theorem dX8_strike_348 : decode cX8_strike 348 = .ok (.aload_n 0, 1) := dk_42 (dk_at dksX8_strike_14 17 rfl rfl)
theorem dX8_strike_349 : decode cX8_strike 349 = .ok (.getfield 13, 3) := dk_180 0 13 (dk_at dksX8_strike_14 18 rfl rfl)
theorem dX8_strike_352 : decode cX8_strike 352 = .ok (.bipush 109, 2) := dk_16 109 (dk_at dksX8_strike_14 21 rfl rfl)
theorem dX8_strike_354 : decode cX8_strike 354 = .ok (.iaload, 1) := dk_46 (dk_at dksX8_strike_14 23 rfl rfl)
theorem dX8_strike_355 : decode cX8_strike 355 = .ok (.iastore, 1) := dk_79 (dk_at dksX8_strike_15 0 rfl rfl)
theorem dX8_strike_356 : decode cX8_strike 356 = .ok (.aload_n 0, 1) := dk_42 (dk_at dksX8_strike_15 1 rfl rfl)
theorem dX8_strike_357 : decode cX8_strike 357 = .ok (.getfield 13, 3) := dk_180 0 13 (dk_at dksX8_strike_15 2 rfl rfl)
theorem dX8_strike_360 : decode cX8_strike 360 = .ok (.iload 9, 2) := dk_21 9 (dk_at dksX8_strike_15 5 rfl rfl)
theorem dX8_strike_362 : decode cX8_strike 362 = .ok (.iconst 4, 1) := dk_7 (dk_at dksX8_strike_15 7 rfl rfl)
theorem dX8_strike_363 : decode cX8_strike 363 = .ok (.iadd, 1) := dk_96 (dk_at dksX8_strike_15 8 rfl rfl)
theorem dX8_strike_364 : decode cX8_strike 364 = .ok (.iload 4, 2) := dk_21 4 (dk_at dksX8_strike_15 9 rfl rfl)
theorem dX8_strike_366 : decode cX8_strike 366 = .ok (.iastore, 1) := dk_79 (dk_at dksX8_strike_15 11 rfl rfl)
theorem dX8_strike_367 : decode cX8_strike 367 = .ok (.aload_n 0, 1) := dk_42 (dk_at dksX8_strike_15 12 rfl rfl)
theorem dX8_strike_368 : decode cX8_strike 368 = .ok (.getfield 13, 3) := dk_180 0 13 (dk_at dksX8_strike_15 13 rfl rfl)
theorem dX8_strike_371 : decode cX8_strike 371 = .ok (.iload 9, 2) := dk_21 9 (dk_at dksX8_strike_15 16 rfl rfl)
theorem dX8_strike_373 : decode cX8_strike 373 = .ok (.iconst 5, 1) := dk_8 (dk_at dksX8_strike_15 18 rfl rfl)
theorem dX8_strike_374 : decode cX8_strike 374 = .ok (.iadd, 1) := dk_96 (dk_at dksX8_strike_15 19 rfl rfl)
theorem dX8_strike_375 : decode cX8_strike 375 = .ok (.iload 5, 2) := dk_21 5 (dk_at dksX8_strike_15 20 rfl rfl)
theorem dX8_strike_377 : decode cX8_strike 377 = .ok (.iastore, 1) := dk_79 (dk_at dksX8_strike_15 22 rfl rfl)
theorem dX8_strike_378 : decode cX8_strike 378 = .ok (.aload_n 0, 1) := dk_42 (dk_at dksX8_strike_15 23 rfl rfl)
theorem dX8_strike_379 : decode cX8_strike 379 = .ok (.getfield 13, 3) := dk_180 0 13 (dk_at dksX8_strike_16 0 rfl rfl)
theorem dX8_strike_382 : decode cX8_strike 382 = .ok (.bipush 112, 2) := dk_16 112 (dk_at dksX8_strike_16 3 rfl rfl)
theorem dX8_strike_384 : decode cX8_strike 384 = .ok (.dup2, 1) := dk_92 (dk_at dksX8_strike_16 5 rfl rfl)
theorem dX8_strike_385 : decode cX8_strike 385 = .ok (.iaload, 1) := dk_46 (dk_at dksX8_strike_16 6 rfl rfl)
theorem dX8_strike_386 : decode cX8_strike 386 = .ok (.iconst 1, 1) := dk_4 (dk_at dksX8_strike_16 7 rfl rfl)
theorem dX8_strike_387 : decode cX8_strike 387 = .ok (.iadd, 1) := dk_96 (dk_at dksX8_strike_16 8 rfl rfl)
theorem dX8_strike_388 : decode cX8_strike 388 = .ok (.iastore, 1) := dk_79 (dk_at dksX8_strike_16 9 rfl rfl)
theorem dX8_strike_389 : decode cX8_strike 389 = .ok (.return_, 1) := dk_177 (dk_at dksX8_strike_16 10 rfl rfl)
abbrev cX8_of : ByteArray := prog_18_method_56_code
def yX8_of : MethodName := ⟨RX8, "of", "(II)I"⟩
def dkwX8_of_3 : List UInt8 := [167, 0, 22, 28, 6, 160, 0, 12, 42, 27, 5, 182, 1, 0, 167, 0, 8, 42, 27, 182, 1, 29, 172]
abbrev dktX8_of_3 : List UInt8 := dkwX8_of_3 ++ []
def dkwX8_of_2 : List UInt8 := [160, 0, 12, 42, 27, 4, 182, 1, 0, 167, 0, 36, 28, 5, 160, 0, 12, 42, 27, 6, 182, 1, 0]
abbrev dktX8_of_2 : List UInt8 := dkwX8_of_2 ++ dktX8_of_3
def dkwX8_of_1 : List UInt8 := [182, 0, 246, 172, 42, 3, 181, 0, 83, 28, 154, 0, 12, 42, 27, 3, 182, 1, 0, 167, 0, 50, 28, 4]
abbrev dktX8_of_1 : List UInt8 := dkwX8_of_1 ++ dktX8_of_2
def dkwX8_of_0 : List UInt8 := [42, 182, 0, 167, 42, 27, 182, 1, 26, 153, 0, 12, 28, 3, 7, 184, 0, 154, 154, 0, 8, 42]
abbrev dktX8_of_0 : List UInt8 := dkwX8_of_0 ++ dktX8_of_1
theorem dksX8_of_0 : cX8_of.data.toList.drop 0 = dktX8_of_0 := by decide +kernel
theorem dksX8_of_1 : cX8_of.data.toList.drop 22 = dktX8_of_1 := dk_seg dksX8_of_0 22 rfl rfl
theorem dksX8_of_2 : cX8_of.data.toList.drop 46 = dktX8_of_2 := dk_seg dksX8_of_1 24 rfl rfl
theorem dksX8_of_3 : cX8_of.data.toList.drop 69 = dktX8_of_3 := dk_seg dksX8_of_2 23 rfl rfl
theorem dX8_of_0 : decode cX8_of 0 = .ok (.aload_n 0, 1) := dk_42 (dk_at dksX8_of_0 0 rfl rfl)
theorem dX8_of_1 : decode cX8_of 1 = .ok (.invokevirtual 167, 3) := dk_182 0 167 (dk_at dksX8_of_0 1 rfl rfl)
theorem dX8_of_4 : decode cX8_of 4 = .ok (.aload_n 0, 1) := dk_42 (dk_at dksX8_of_0 4 rfl rfl)
theorem dX8_of_5 : decode cX8_of 5 = .ok (.iload_n 1, 1) := dk_27 (dk_at dksX8_of_0 5 rfl rfl)
theorem dX8_of_6 : decode cX8_of 6 = .ok (.invokevirtual 282, 3) := dk_182 1 26 (dk_at dksX8_of_0 6 rfl rfl)
theorem dX8_of_9 : decode cX8_of 9 = .ok (.ifCond .eq 12, 3) := dk_153 0 12 (dk_at dksX8_of_0 9 rfl rfl)
theorem dX8_of_12 : decode cX8_of 12 = .ok (.iload_n 2, 1) := dk_28 (dk_at dksX8_of_0 12 rfl rfl)
theorem dX8_of_13 : decode cX8_of 13 = .ok (.iconst 0, 1) := dk_3 (dk_at dksX8_of_0 13 rfl rfl)
theorem dX8_of_14 : decode cX8_of 14 = .ok (.iconst 4, 1) := dk_7 (dk_at dksX8_of_0 14 rfl rfl)
theorem dX8_of_15 : decode cX8_of 15 = .ok (.invokestatic 154, 3) := dk_184 0 154 (dk_at dksX8_of_0 15 rfl rfl)
theorem dX8_of_18 : decode cX8_of 18 = .ok (.ifCond .ne 8, 3) := dk_154 0 8 (dk_at dksX8_of_0 18 rfl rfl)
theorem dX8_of_21 : decode cX8_of 21 = .ok (.aload_n 0, 1) := dk_42 (dk_at dksX8_of_0 21 rfl rfl)
theorem dX8_of_22 : decode cX8_of 22 = .ok (.invokevirtual 246, 3) := dk_182 0 246 (dk_at dksX8_of_1 0 rfl rfl)
theorem dX8_of_25 : decode cX8_of 25 = .ok (.ireturn, 1) := dk_172 (dk_at dksX8_of_1 3 rfl rfl)
theorem dX8_of_26 : decode cX8_of 26 = .ok (.aload_n 0, 1) := dk_42 (dk_at dksX8_of_1 4 rfl rfl)
theorem dX8_of_27 : decode cX8_of 27 = .ok (.iconst 0, 1) := dk_3 (dk_at dksX8_of_1 5 rfl rfl)
theorem dX8_of_28 : decode cX8_of 28 = .ok (.putfield 83, 3) := dk_181 0 83 (dk_at dksX8_of_1 6 rfl rfl)
theorem dX8_of_31 : decode cX8_of 31 = .ok (.iload_n 2, 1) := dk_28 (dk_at dksX8_of_1 9 rfl rfl)
theorem dX8_of_32 : decode cX8_of 32 = .ok (.ifCond .ne 12, 3) := dk_154 0 12 (dk_at dksX8_of_1 10 rfl rfl)
theorem dX8_of_35 : decode cX8_of 35 = .ok (.aload_n 0, 1) := dk_42 (dk_at dksX8_of_1 13 rfl rfl)
theorem dX8_of_36 : decode cX8_of 36 = .ok (.iload_n 1, 1) := dk_27 (dk_at dksX8_of_1 14 rfl rfl)
theorem dX8_of_37 : decode cX8_of 37 = .ok (.iconst 0, 1) := dk_3 (dk_at dksX8_of_1 15 rfl rfl)
theorem dX8_of_38 : decode cX8_of 38 = .ok (.invokevirtual 256, 3) := dk_182 1 0 (dk_at dksX8_of_1 16 rfl rfl)
theorem dX8_of_41 : decode cX8_of 41 = .ok (.goto 50, 3) := dk_167 0 50 (dk_at dksX8_of_1 19 rfl rfl)
theorem dX8_of_44 : decode cX8_of 44 = .ok (.iload_n 2, 1) := dk_28 (dk_at dksX8_of_1 22 rfl rfl)
theorem dX8_of_45 : decode cX8_of 45 = .ok (.iconst 1, 1) := dk_4 (dk_at dksX8_of_1 23 rfl rfl)
theorem dX8_of_46 : decode cX8_of 46 = .ok (.if_icmp .ne 12, 3) := dk_160 0 12 (dk_at dksX8_of_2 0 rfl rfl)
theorem dX8_of_49 : decode cX8_of 49 = .ok (.aload_n 0, 1) := dk_42 (dk_at dksX8_of_2 3 rfl rfl)
theorem dX8_of_50 : decode cX8_of 50 = .ok (.iload_n 1, 1) := dk_27 (dk_at dksX8_of_2 4 rfl rfl)
theorem dX8_of_51 : decode cX8_of 51 = .ok (.iconst 1, 1) := dk_4 (dk_at dksX8_of_2 5 rfl rfl)
theorem dX8_of_52 : decode cX8_of 52 = .ok (.invokevirtual 256, 3) := dk_182 1 0 (dk_at dksX8_of_2 6 rfl rfl)
theorem dX8_of_55 : decode cX8_of 55 = .ok (.goto 36, 3) := dk_167 0 36 (dk_at dksX8_of_2 9 rfl rfl)
theorem dX8_of_58 : decode cX8_of 58 = .ok (.iload_n 2, 1) := dk_28 (dk_at dksX8_of_2 12 rfl rfl)
theorem dX8_of_59 : decode cX8_of 59 = .ok (.iconst 2, 1) := dk_5 (dk_at dksX8_of_2 13 rfl rfl)
theorem dX8_of_60 : decode cX8_of 60 = .ok (.if_icmp .ne 12, 3) := dk_160 0 12 (dk_at dksX8_of_2 14 rfl rfl)
theorem dX8_of_63 : decode cX8_of 63 = .ok (.aload_n 0, 1) := dk_42 (dk_at dksX8_of_2 17 rfl rfl)
theorem dX8_of_64 : decode cX8_of 64 = .ok (.iload_n 1, 1) := dk_27 (dk_at dksX8_of_2 18 rfl rfl)
theorem dX8_of_65 : decode cX8_of 65 = .ok (.iconst 3, 1) := dk_6 (dk_at dksX8_of_2 19 rfl rfl)
theorem dX8_of_66 : decode cX8_of 66 = .ok (.invokevirtual 256, 3) := dk_182 1 0 (dk_at dksX8_of_2 20 rfl rfl)
theorem dX8_of_69 : decode cX8_of 69 = .ok (.goto 22, 3) := dk_167 0 22 (dk_at dksX8_of_3 0 rfl rfl)
theorem dX8_of_72 : decode cX8_of 72 = .ok (.iload_n 2, 1) := dk_28 (dk_at dksX8_of_3 3 rfl rfl)
theorem dX8_of_73 : decode cX8_of 73 = .ok (.iconst 3, 1) := dk_6 (dk_at dksX8_of_3 4 rfl rfl)
theorem dX8_of_74 : decode cX8_of 74 = .ok (.if_icmp .ne 12, 3) := dk_160 0 12 (dk_at dksX8_of_3 5 rfl rfl)
theorem dX8_of_77 : decode cX8_of 77 = .ok (.aload_n 0, 1) := dk_42 (dk_at dksX8_of_3 8 rfl rfl)
theorem dX8_of_78 : decode cX8_of 78 = .ok (.iload_n 1, 1) := dk_27 (dk_at dksX8_of_3 9 rfl rfl)
theorem dX8_of_79 : decode cX8_of 79 = .ok (.iconst 2, 1) := dk_5 (dk_at dksX8_of_3 10 rfl rfl)
theorem dX8_of_80 : decode cX8_of 80 = .ok (.invokevirtual 256, 3) := dk_182 1 0 (dk_at dksX8_of_3 11 rfl rfl)
theorem dX8_of_83 : decode cX8_of 83 = .ok (.goto 8, 3) := dk_167 0 8 (dk_at dksX8_of_3 14 rfl rfl)
theorem dX8_of_86 : decode cX8_of 86 = .ok (.aload_n 0, 1) := dk_42 (dk_at dksX8_of_3 17 rfl rfl)
theorem dX8_of_87 : decode cX8_of 87 = .ok (.iload_n 1, 1) := dk_27 (dk_at dksX8_of_3 18 rfl rfl)
theorem dX8_of_88 : decode cX8_of 88 = .ok (.invokevirtual 285, 3) := dk_182 1 29 (dk_at dksX8_of_3 19 rfl rfl)
theorem dX8_of_91 : decode cX8_of 91 = .ok (.ireturn, 1) := dk_172 (dk_at dksX8_of_3 22 rfl rfl)
abbrev cX8_isCoin : ByteArray := prog_18_method_31_code
def yX8_isCoin : MethodName := ⟨RX8, "isCoin", "(I)Z"⟩
def dkwX8_isCoin_0 : List UInt8 := [27, 155, 0, 15, 27, 42, 182, 0, 188, 162, 0, 7, 4, 167, 0, 4, 3, 172]
abbrev dktX8_isCoin_0 : List UInt8 := dkwX8_isCoin_0 ++ []
theorem dksX8_isCoin_0 : cX8_isCoin.data.toList.drop 0 = dktX8_isCoin_0 := by decide +kernel
theorem dX8_isCoin_0 : decode cX8_isCoin 0 = .ok (.iload_n 1, 1) := dk_27 (dk_at dksX8_isCoin_0 0 rfl rfl)
theorem dX8_isCoin_1 : decode cX8_isCoin 1 = .ok (.ifCond .lt 15, 3) := dk_155 0 15 (dk_at dksX8_isCoin_0 1 rfl rfl)
theorem dX8_isCoin_4 : decode cX8_isCoin 4 = .ok (.iload_n 1, 1) := dk_27 (dk_at dksX8_isCoin_0 4 rfl rfl)
theorem dX8_isCoin_5 : decode cX8_isCoin 5 = .ok (.aload_n 0, 1) := dk_42 (dk_at dksX8_isCoin_0 5 rfl rfl)
theorem dX8_isCoin_6 : decode cX8_isCoin 6 = .ok (.invokevirtual 188, 3) := dk_182 0 188 (dk_at dksX8_isCoin_0 6 rfl rfl)
theorem dX8_isCoin_9 : decode cX8_isCoin 9 = .ok (.if_icmp .ge 7, 3) := dk_162 0 7 (dk_at dksX8_isCoin_0 9 rfl rfl)
theorem dX8_isCoin_12 : decode cX8_isCoin 12 = .ok (.iconst 1, 1) := dk_4 (dk_at dksX8_isCoin_0 12 rfl rfl)
theorem dX8_isCoin_13 : decode cX8_isCoin 13 = .ok (.goto 4, 3) := dk_167 0 4 (dk_at dksX8_isCoin_0 13 rfl rfl)
theorem dX8_isCoin_16 : decode cX8_isCoin 16 = .ok (.iconst 0, 1) := dk_3 (dk_at dksX8_isCoin_0 16 rfl rfl)
theorem dX8_isCoin_17 : decode cX8_isCoin 17 = .ok (.ireturn, 1) := dk_172 (dk_at dksX8_isCoin_0 17 rfl rfl)
abbrev cX8_showsFalse : ByteArray := prog_18_method_55_code
def yX8_showsFalse : MethodName := ⟨RX8, "showsFalse", "(I)I"⟩
def dkwX8_showsFalse_1 : List UInt8 := [132, 3, 1, 167, 255, 234, 28, 172]
abbrev dktX8_showsFalse_1 : List UInt8 := dkwX8_showsFalse_1 ++ []
def dkwX8_showsFalse_0 : List UInt8 := [3, 61, 3, 62, 29, 42, 27, 6, 182, 1, 0, 162, 0, 18, 28, 42, 27, 29, 182, 1, 23, 128, 61]
abbrev dktX8_showsFalse_0 : List UInt8 := dkwX8_showsFalse_0 ++ dktX8_showsFalse_1
theorem dksX8_showsFalse_0 : cX8_showsFalse.data.toList.drop 0 = dktX8_showsFalse_0 := by decide +kernel
theorem dksX8_showsFalse_1 : cX8_showsFalse.data.toList.drop 23 = dktX8_showsFalse_1 := dk_seg dksX8_showsFalse_0 23 rfl rfl
theorem dX8_showsFalse_0 : decode cX8_showsFalse 0 = .ok (.iconst 0, 1) := dk_3 (dk_at dksX8_showsFalse_0 0 rfl rfl)
theorem dX8_showsFalse_1 : decode cX8_showsFalse 1 = .ok (.istore_n 2, 1) := dk_61 (dk_at dksX8_showsFalse_0 1 rfl rfl)
theorem dX8_showsFalse_2 : decode cX8_showsFalse 2 = .ok (.iconst 0, 1) := dk_3 (dk_at dksX8_showsFalse_0 2 rfl rfl)
theorem dX8_showsFalse_3 : decode cX8_showsFalse 3 = .ok (.istore_n 3, 1) := dk_62 (dk_at dksX8_showsFalse_0 3 rfl rfl)
theorem dX8_showsFalse_4 : decode cX8_showsFalse 4 = .ok (.iload_n 3, 1) := dk_29 (dk_at dksX8_showsFalse_0 4 rfl rfl)
theorem dX8_showsFalse_5 : decode cX8_showsFalse 5 = .ok (.aload_n 0, 1) := dk_42 (dk_at dksX8_showsFalse_0 5 rfl rfl)
theorem dX8_showsFalse_6 : decode cX8_showsFalse 6 = .ok (.iload_n 1, 1) := dk_27 (dk_at dksX8_showsFalse_0 6 rfl rfl)
theorem dX8_showsFalse_7 : decode cX8_showsFalse 7 = .ok (.iconst 3, 1) := dk_6 (dk_at dksX8_showsFalse_0 7 rfl rfl)
theorem dX8_showsFalse_8 : decode cX8_showsFalse 8 = .ok (.invokevirtual 256, 3) := dk_182 1 0 (dk_at dksX8_showsFalse_0 8 rfl rfl)
theorem dX8_showsFalse_11 : decode cX8_showsFalse 11 = .ok (.if_icmp .ge 18, 3) := dk_162 0 18 (dk_at dksX8_showsFalse_0 11 rfl rfl)
theorem dX8_showsFalse_14 : decode cX8_showsFalse 14 = .ok (.iload_n 2, 1) := dk_28 (dk_at dksX8_showsFalse_0 14 rfl rfl)
theorem dX8_showsFalse_15 : decode cX8_showsFalse 15 = .ok (.aload_n 0, 1) := dk_42 (dk_at dksX8_showsFalse_0 15 rfl rfl)
theorem dX8_showsFalse_16 : decode cX8_showsFalse 16 = .ok (.iload_n 1, 1) := dk_27 (dk_at dksX8_showsFalse_0 16 rfl rfl)
theorem dX8_showsFalse_17 : decode cX8_showsFalse 17 = .ok (.iload_n 3, 1) := dk_29 (dk_at dksX8_showsFalse_0 17 rfl rfl)
theorem dX8_showsFalse_18 : decode cX8_showsFalse 18 = .ok (.invokevirtual 279, 3) := dk_182 1 23 (dk_at dksX8_showsFalse_0 18 rfl rfl)
theorem dX8_showsFalse_21 : decode cX8_showsFalse 21 = .ok (.ior, 1) := dk_128 (dk_at dksX8_showsFalse_0 21 rfl rfl)
theorem dX8_showsFalse_22 : decode cX8_showsFalse 22 = .ok (.istore_n 2, 1) := dk_61 (dk_at dksX8_showsFalse_0 22 rfl rfl)
theorem dX8_showsFalse_23 : decode cX8_showsFalse 23 = .ok (.iinc 3 1, 3) := dk_132 3 1 (dk_at dksX8_showsFalse_1 0 rfl rfl)
theorem dX8_showsFalse_26 : decode cX8_showsFalse 26 = .ok (.goto (-22), 3) := dk_167 255 234 (dk_at dksX8_showsFalse_1 3 rfl rfl)
theorem dX8_showsFalse_29 : decode cX8_showsFalse 29 = .ok (.iload_n 2, 1) := dk_28 (dk_at dksX8_showsFalse_1 6 rfl rfl)
theorem dX8_showsFalse_30 : decode cX8_showsFalse 30 = .ok (.ireturn, 1) := dk_172 (dk_at dksX8_showsFalse_1 7 rfl rfl)
abbrev cX8_faceFalse : ByteArray := prog_18_method_54_code
def yX8_faceFalse : MethodName := ⟨RX8, "faceFalse", "(II)I"⟩
def dkwX8_faceFalse_1 : List UInt8 := [96, 46, 172]
abbrev dktX8_faceFalse_1 : List UInt8 := dkwX8_faceFalse_1 ++ []
def dkwX8_faceFalse_0 : List UInt8 := [42, 180, 0, 13, 17, 5, 120, 16, 6, 42, 27, 7, 6, 28, 104, 96, 5, 96, 182, 1, 0, 104, 96, 8]
abbrev dktX8_faceFalse_0 : List UInt8 := dkwX8_faceFalse_0 ++ dktX8_faceFalse_1
theorem dksX8_faceFalse_0 : cX8_faceFalse.data.toList.drop 0 = dktX8_faceFalse_0 := by decide +kernel
theorem dksX8_faceFalse_1 : cX8_faceFalse.data.toList.drop 24 = dktX8_faceFalse_1 := dk_seg dksX8_faceFalse_0 24 rfl rfl
theorem dX8_faceFalse_0 : decode cX8_faceFalse 0 = .ok (.aload_n 0, 1) := dk_42 (dk_at dksX8_faceFalse_0 0 rfl rfl)
theorem dX8_faceFalse_1 : decode cX8_faceFalse 1 = .ok (.getfield 13, 3) := dk_180 0 13 (dk_at dksX8_faceFalse_0 1 rfl rfl)
theorem dX8_faceFalse_4 : decode cX8_faceFalse 4 = .ok (.sipush 1400, 3) := dk_17 5 120 (dk_at dksX8_faceFalse_0 4 rfl rfl)
theorem dX8_faceFalse_7 : decode cX8_faceFalse 7 = .ok (.bipush 6, 2) := dk_16 6 (dk_at dksX8_faceFalse_0 7 rfl rfl)
theorem dX8_faceFalse_9 : decode cX8_faceFalse 9 = .ok (.aload_n 0, 1) := dk_42 (dk_at dksX8_faceFalse_0 9 rfl rfl)
theorem dX8_faceFalse_10 : decode cX8_faceFalse 10 = .ok (.iload_n 1, 1) := dk_27 (dk_at dksX8_faceFalse_0 10 rfl rfl)
theorem dX8_faceFalse_11 : decode cX8_faceFalse 11 = .ok (.iconst 4, 1) := dk_7 (dk_at dksX8_faceFalse_0 11 rfl rfl)
theorem dX8_faceFalse_12 : decode cX8_faceFalse 12 = .ok (.iconst 3, 1) := dk_6 (dk_at dksX8_faceFalse_0 12 rfl rfl)
theorem dX8_faceFalse_13 : decode cX8_faceFalse 13 = .ok (.iload_n 2, 1) := dk_28 (dk_at dksX8_faceFalse_0 13 rfl rfl)
theorem dX8_faceFalse_14 : decode cX8_faceFalse 14 = .ok (.imul, 1) := dk_104 (dk_at dksX8_faceFalse_0 14 rfl rfl)
theorem dX8_faceFalse_15 : decode cX8_faceFalse 15 = .ok (.iadd, 1) := dk_96 (dk_at dksX8_faceFalse_0 15 rfl rfl)
theorem dX8_faceFalse_16 : decode cX8_faceFalse 16 = .ok (.iconst 2, 1) := dk_5 (dk_at dksX8_faceFalse_0 16 rfl rfl)
theorem dX8_faceFalse_17 : decode cX8_faceFalse 17 = .ok (.iadd, 1) := dk_96 (dk_at dksX8_faceFalse_0 17 rfl rfl)
theorem dX8_faceFalse_18 : decode cX8_faceFalse 18 = .ok (.invokevirtual 256, 3) := dk_182 1 0 (dk_at dksX8_faceFalse_0 18 rfl rfl)
theorem dX8_faceFalse_21 : decode cX8_faceFalse 21 = .ok (.imul, 1) := dk_104 (dk_at dksX8_faceFalse_0 21 rfl rfl)
theorem dX8_faceFalse_22 : decode cX8_faceFalse 22 = .ok (.iadd, 1) := dk_96 (dk_at dksX8_faceFalse_0 22 rfl rfl)
theorem dX8_faceFalse_23 : decode cX8_faceFalse 23 = .ok (.iconst 5, 1) := dk_8 (dk_at dksX8_faceFalse_0 23 rfl rfl)
theorem dX8_faceFalse_24 : decode cX8_faceFalse 24 = .ok (.iadd, 1) := dk_96 (dk_at dksX8_faceFalse_1 0 rfl rfl)
theorem dX8_faceFalse_25 : decode cX8_faceFalse 25 = .ok (.iaload, 1) := dk_46 (dk_at dksX8_faceFalse_1 1 rfl rfl)
theorem dX8_faceFalse_26 : decode cX8_faceFalse 26 = .ok (.ireturn, 1) := dk_172 (dk_at dksX8_faceFalse_1 2 rfl rfl)
abbrev cX8_face : ByteArray := prog_18_method_57_code
def yX8_face : MethodName := ⟨RX8, "face", "(III)I"⟩
def dkwX8_face_2 : List UInt8 := [96, 182, 1, 0, 167, 0, 4, 2, 172]
abbrev dktX8_face_2 : List UInt8 := dkwX8_face_2 ++ []
def dkwX8_face_1 : List UInt8 := [6, 182, 1, 0, 162, 0, 27, 29, 3, 5, 184, 0, 154, 153, 0, 18, 42, 27, 7, 6, 28, 104, 96, 29]
abbrev dktX8_face_1 : List UInt8 := dkwX8_face_1 ++ dktX8_face_2
def dkwX8_face_0 : List UInt8 := [42, 3, 181, 0, 83, 42, 182, 0, 167, 42, 27, 182, 1, 26, 153, 0, 41, 28, 155, 0, 37, 28, 42, 27]
abbrev dktX8_face_0 : List UInt8 := dkwX8_face_0 ++ dktX8_face_1
theorem dksX8_face_0 : cX8_face.data.toList.drop 0 = dktX8_face_0 := by decide +kernel
theorem dksX8_face_1 : cX8_face.data.toList.drop 24 = dktX8_face_1 := dk_seg dksX8_face_0 24 rfl rfl
theorem dksX8_face_2 : cX8_face.data.toList.drop 48 = dktX8_face_2 := dk_seg dksX8_face_1 24 rfl rfl
theorem dX8_face_0 : decode cX8_face 0 = .ok (.aload_n 0, 1) := dk_42 (dk_at dksX8_face_0 0 rfl rfl)
theorem dX8_face_1 : decode cX8_face 1 = .ok (.iconst 0, 1) := dk_3 (dk_at dksX8_face_0 1 rfl rfl)
theorem dX8_face_2 : decode cX8_face 2 = .ok (.putfield 83, 3) := dk_181 0 83 (dk_at dksX8_face_0 2 rfl rfl)
theorem dX8_face_5 : decode cX8_face 5 = .ok (.aload_n 0, 1) := dk_42 (dk_at dksX8_face_0 5 rfl rfl)
theorem dX8_face_6 : decode cX8_face 6 = .ok (.invokevirtual 167, 3) := dk_182 0 167 (dk_at dksX8_face_0 6 rfl rfl)
theorem dX8_face_9 : decode cX8_face 9 = .ok (.aload_n 0, 1) := dk_42 (dk_at dksX8_face_0 9 rfl rfl)
theorem dX8_face_10 : decode cX8_face 10 = .ok (.iload_n 1, 1) := dk_27 (dk_at dksX8_face_0 10 rfl rfl)
theorem dX8_face_11 : decode cX8_face 11 = .ok (.invokevirtual 282, 3) := dk_182 1 26 (dk_at dksX8_face_0 11 rfl rfl)
theorem dX8_face_14 : decode cX8_face 14 = .ok (.ifCond .eq 41, 3) := dk_153 0 41 (dk_at dksX8_face_0 14 rfl rfl)
theorem dX8_face_17 : decode cX8_face 17 = .ok (.iload_n 2, 1) := dk_28 (dk_at dksX8_face_0 17 rfl rfl)
theorem dX8_face_18 : decode cX8_face 18 = .ok (.ifCond .lt 37, 3) := dk_155 0 37 (dk_at dksX8_face_0 18 rfl rfl)
theorem dX8_face_21 : decode cX8_face 21 = .ok (.iload_n 2, 1) := dk_28 (dk_at dksX8_face_0 21 rfl rfl)
theorem dX8_face_22 : decode cX8_face 22 = .ok (.aload_n 0, 1) := dk_42 (dk_at dksX8_face_0 22 rfl rfl)
theorem dX8_face_23 : decode cX8_face 23 = .ok (.iload_n 1, 1) := dk_27 (dk_at dksX8_face_0 23 rfl rfl)
theorem dX8_face_24 : decode cX8_face 24 = .ok (.iconst 3, 1) := dk_6 (dk_at dksX8_face_1 0 rfl rfl)
theorem dX8_face_25 : decode cX8_face 25 = .ok (.invokevirtual 256, 3) := dk_182 1 0 (dk_at dksX8_face_1 1 rfl rfl)
theorem dX8_face_28 : decode cX8_face 28 = .ok (.if_icmp .ge 27, 3) := dk_162 0 27 (dk_at dksX8_face_1 4 rfl rfl)
theorem dX8_face_31 : decode cX8_face 31 = .ok (.iload_n 3, 1) := dk_29 (dk_at dksX8_face_1 7 rfl rfl)
theorem dX8_face_32 : decode cX8_face 32 = .ok (.iconst 0, 1) := dk_3 (dk_at dksX8_face_1 8 rfl rfl)
theorem dX8_face_33 : decode cX8_face 33 = .ok (.iconst 2, 1) := dk_5 (dk_at dksX8_face_1 9 rfl rfl)
theorem dX8_face_34 : decode cX8_face 34 = .ok (.invokestatic 154, 3) := dk_184 0 154 (dk_at dksX8_face_1 10 rfl rfl)
theorem dX8_face_37 : decode cX8_face 37 = .ok (.ifCond .eq 18, 3) := dk_153 0 18 (dk_at dksX8_face_1 13 rfl rfl)
theorem dX8_face_40 : decode cX8_face 40 = .ok (.aload_n 0, 1) := dk_42 (dk_at dksX8_face_1 16 rfl rfl)
theorem dX8_face_41 : decode cX8_face 41 = .ok (.iload_n 1, 1) := dk_27 (dk_at dksX8_face_1 17 rfl rfl)
theorem dX8_face_42 : decode cX8_face 42 = .ok (.iconst 4, 1) := dk_7 (dk_at dksX8_face_1 18 rfl rfl)
theorem dX8_face_43 : decode cX8_face 43 = .ok (.iconst 3, 1) := dk_6 (dk_at dksX8_face_1 19 rfl rfl)
theorem dX8_face_44 : decode cX8_face 44 = .ok (.iload_n 2, 1) := dk_28 (dk_at dksX8_face_1 20 rfl rfl)
theorem dX8_face_45 : decode cX8_face 45 = .ok (.imul, 1) := dk_104 (dk_at dksX8_face_1 21 rfl rfl)
theorem dX8_face_46 : decode cX8_face 46 = .ok (.iadd, 1) := dk_96 (dk_at dksX8_face_1 22 rfl rfl)
theorem dX8_face_47 : decode cX8_face 47 = .ok (.iload_n 3, 1) := dk_29 (dk_at dksX8_face_1 23 rfl rfl)
theorem dX8_face_48 : decode cX8_face 48 = .ok (.iadd, 1) := dk_96 (dk_at dksX8_face_2 0 rfl rfl)
theorem dX8_face_49 : decode cX8_face 49 = .ok (.invokevirtual 256, 3) := dk_182 1 0 (dk_at dksX8_face_2 1 rfl rfl)
theorem dX8_face_52 : decode cX8_face 52 = .ok (.goto 4, 3) := dk_167 0 4 (dk_at dksX8_face_2 4 rfl rfl)
theorem dX8_face_55 : decode cX8_face 55 = .ok (.iconst (-1), 1) := dk_2 (dk_at dksX8_face_2 7 rfl rfl)
theorem dX8_face_56 : decode cX8_face 56 = .ok (.ireturn, 1) := dk_172 (dk_at dksX8_face_2 8 rfl rfl)
abbrev cX8_luck : ByteArray := prog_18_method_59_code
def yX8_luck : MethodName := ⟨RX8, "luck", "()I"⟩
def dkwX8_luck_0 : List UInt8 := [42, 3, 181, 0, 83, 42, 182, 0, 167, 42, 182, 1, 32, 172]
abbrev dktX8_luck_0 : List UInt8 := dkwX8_luck_0 ++ []
theorem dksX8_luck_0 : cX8_luck.data.toList.drop 0 = dktX8_luck_0 := by decide +kernel
theorem dX8_luck_0 : decode cX8_luck 0 = .ok (.aload_n 0, 1) := dk_42 (dk_at dksX8_luck_0 0 rfl rfl)
theorem dX8_luck_1 : decode cX8_luck 1 = .ok (.iconst 0, 1) := dk_3 (dk_at dksX8_luck_0 1 rfl rfl)
theorem dX8_luck_2 : decode cX8_luck 2 = .ok (.putfield 83, 3) := dk_181 0 83 (dk_at dksX8_luck_0 2 rfl rfl)
theorem dX8_luck_5 : decode cX8_luck 5 = .ok (.aload_n 0, 1) := dk_42 (dk_at dksX8_luck_0 5 rfl rfl)
theorem dX8_luck_6 : decode cX8_luck 6 = .ok (.invokevirtual 167, 3) := dk_182 0 167 (dk_at dksX8_luck_0 6 rfl rfl)
theorem dX8_luck_9 : decode cX8_luck 9 = .ok (.aload_n 0, 1) := dk_42 (dk_at dksX8_luck_0 9 rfl rfl)
theorem dX8_luck_10 : decode cX8_luck 10 = .ok (.invokevirtual 288, 3) := dk_182 1 32 (dk_at dksX8_luck_0 10 rfl rfl)
theorem dX8_luck_13 : decode cX8_luck 13 = .ok (.ireturn, 1) := dk_172 (dk_at dksX8_luck_0 13 rfl rfl)
abbrev cX8_luckOf : ByteArray := prog_18_method_58_code
def yX8_luckOf : MethodName := ⟨RX8, "luckOf", "()I"⟩
def dkwX8_luckOf_2 : List UInt8 := [172]
abbrev dktX8_luckOf_2 : List UInt8 := dkwX8_luckOf_2 ++ []
def dkwX8_luckOf_1 : List UInt8 := [182, 0, 249, 158, 0, 6, 132, 1, 255, 132, 2, 1, 167, 255, 229, 27, 158, 0, 7, 27, 167, 0, 4, 3]
abbrev dktX8_luckOf_1 : List UInt8 := dkwX8_luckOf_1 ++ dktX8_luckOf_2
def dkwX8_luckOf_0 : List UInt8 := [42, 180, 0, 13, 6, 46, 60, 3, 61, 28, 42, 182, 0, 188, 162, 0, 25, 42, 42, 28, 182, 0, 253, 3]
abbrev dktX8_luckOf_0 : List UInt8 := dkwX8_luckOf_0 ++ dktX8_luckOf_1
theorem dksX8_luckOf_0 : cX8_luckOf.data.toList.drop 0 = dktX8_luckOf_0 := by decide +kernel
theorem dksX8_luckOf_1 : cX8_luckOf.data.toList.drop 24 = dktX8_luckOf_1 := dk_seg dksX8_luckOf_0 24 rfl rfl
theorem dksX8_luckOf_2 : cX8_luckOf.data.toList.drop 48 = dktX8_luckOf_2 := dk_seg dksX8_luckOf_1 24 rfl rfl
theorem dX8_luckOf_0 : decode cX8_luckOf 0 = .ok (.aload_n 0, 1) := dk_42 (dk_at dksX8_luckOf_0 0 rfl rfl)
theorem dX8_luckOf_1 : decode cX8_luckOf 1 = .ok (.getfield 13, 3) := dk_180 0 13 (dk_at dksX8_luckOf_0 1 rfl rfl)
theorem dX8_luckOf_4 : decode cX8_luckOf 4 = .ok (.iconst 3, 1) := dk_6 (dk_at dksX8_luckOf_0 4 rfl rfl)
theorem dX8_luckOf_5 : decode cX8_luckOf 5 = .ok (.iaload, 1) := dk_46 (dk_at dksX8_luckOf_0 5 rfl rfl)
theorem dX8_luckOf_6 : decode cX8_luckOf 6 = .ok (.istore_n 1, 1) := dk_60 (dk_at dksX8_luckOf_0 6 rfl rfl)
theorem dX8_luckOf_7 : decode cX8_luckOf 7 = .ok (.iconst 0, 1) := dk_3 (dk_at dksX8_luckOf_0 7 rfl rfl)
theorem dX8_luckOf_8 : decode cX8_luckOf 8 = .ok (.istore_n 2, 1) := dk_61 (dk_at dksX8_luckOf_0 8 rfl rfl)
theorem dX8_luckOf_9 : decode cX8_luckOf 9 = .ok (.iload_n 2, 1) := dk_28 (dk_at dksX8_luckOf_0 9 rfl rfl)
theorem dX8_luckOf_10 : decode cX8_luckOf 10 = .ok (.aload_n 0, 1) := dk_42 (dk_at dksX8_luckOf_0 10 rfl rfl)
theorem dX8_luckOf_11 : decode cX8_luckOf 11 = .ok (.invokevirtual 188, 3) := dk_182 0 188 (dk_at dksX8_luckOf_0 11 rfl rfl)
theorem dX8_luckOf_14 : decode cX8_luckOf 14 = .ok (.if_icmp .ge 25, 3) := dk_162 0 25 (dk_at dksX8_luckOf_0 14 rfl rfl)
theorem dX8_luckOf_17 : decode cX8_luckOf 17 = .ok (.aload_n 0, 1) := dk_42 (dk_at dksX8_luckOf_0 17 rfl rfl)
theorem dX8_luckOf_18 : decode cX8_luckOf 18 = .ok (.aload_n 0, 1) := dk_42 (dk_at dksX8_luckOf_0 18 rfl rfl)
theorem dX8_luckOf_19 : decode cX8_luckOf 19 = .ok (.iload_n 2, 1) := dk_28 (dk_at dksX8_luckOf_0 19 rfl rfl)
theorem dX8_luckOf_20 : decode cX8_luckOf 20 = .ok (.invokevirtual 253, 3) := dk_182 0 253 (dk_at dksX8_luckOf_0 20 rfl rfl)
theorem dX8_luckOf_23 : decode cX8_luckOf 23 = .ok (.iconst 0, 1) := dk_3 (dk_at dksX8_luckOf_0 23 rfl rfl)
theorem dX8_luckOf_24 : decode cX8_luckOf 24 = .ok (.invokevirtual 249, 3) := dk_182 0 249 (dk_at dksX8_luckOf_1 0 rfl rfl)
theorem dX8_luckOf_27 : decode cX8_luckOf 27 = .ok (.ifCond .le 6, 3) := dk_158 0 6 (dk_at dksX8_luckOf_1 3 rfl rfl)
theorem dX8_luckOf_30 : decode cX8_luckOf 30 = .ok (.iinc 1 (-1), 3) := dk_132 1 255 (dk_at dksX8_luckOf_1 6 rfl rfl)
theorem dX8_luckOf_33 : decode cX8_luckOf 33 = .ok (.iinc 2 1, 3) := dk_132 2 1 (dk_at dksX8_luckOf_1 9 rfl rfl)
theorem dX8_luckOf_36 : decode cX8_luckOf 36 = .ok (.goto (-27), 3) := dk_167 255 229 (dk_at dksX8_luckOf_1 12 rfl rfl)
theorem dX8_luckOf_39 : decode cX8_luckOf 39 = .ok (.iload_n 1, 1) := dk_27 (dk_at dksX8_luckOf_1 15 rfl rfl)
theorem dX8_luckOf_40 : decode cX8_luckOf 40 = .ok (.ifCond .le 7, 3) := dk_158 0 7 (dk_at dksX8_luckOf_1 16 rfl rfl)
theorem dX8_luckOf_43 : decode cX8_luckOf 43 = .ok (.iload_n 1, 1) := dk_27 (dk_at dksX8_luckOf_1 19 rfl rfl)
theorem dX8_luckOf_44 : decode cX8_luckOf 44 = .ok (.goto 4, 3) := dk_167 0 4 (dk_at dksX8_luckOf_1 20 rfl rfl)
theorem dX8_luckOf_47 : decode cX8_luckOf 47 = .ok (.iconst 0, 1) := dk_3 (dk_at dksX8_luckOf_1 23 rfl rfl)
theorem dX8_luckOf_48 : decode cX8_luckOf 48 = .ok (.ireturn, 1) := dk_172 (dk_at dksX8_luckOf_2 0 rfl rfl)
abbrev cX8_value : ByteArray := prog_18_method_62_code
def yX8_value : MethodName := ⟨RX8, "value", "(III)I"⟩
def dkwX8_value_2 : List UInt8 := [182, 0, 253, 42, 182, 1, 32, 182, 1, 35, 167, 0, 9, 42, 27, 28, 182, 1, 38, 172]
abbrev dktX8_value_2 : List UInt8 := dkwX8_value_2 ++ []
def dkwX8_value_1 : List UInt8 := [153, 0, 12, 29, 3, 4, 184, 0, 154, 154, 0, 5, 2, 172, 29, 154, 0, 20, 42, 27, 42, 28]
abbrev dktX8_value_1 : List UInt8 := dkwX8_value_1 ++ dktX8_value_2
def dkwX8_value_0 : List UInt8 := [42, 3, 181, 0, 83, 42, 182, 0, 167, 42, 27, 182, 0, 243, 153, 0, 20, 42, 28, 182, 1, 26]
abbrev dktX8_value_0 : List UInt8 := dkwX8_value_0 ++ dktX8_value_1
theorem dksX8_value_0 : cX8_value.data.toList.drop 0 = dktX8_value_0 := by decide +kernel
theorem dksX8_value_1 : cX8_value.data.toList.drop 22 = dktX8_value_1 := dk_seg dksX8_value_0 22 rfl rfl
theorem dksX8_value_2 : cX8_value.data.toList.drop 44 = dktX8_value_2 := dk_seg dksX8_value_1 22 rfl rfl
theorem dX8_value_0 : decode cX8_value 0 = .ok (.aload_n 0, 1) := dk_42 (dk_at dksX8_value_0 0 rfl rfl)
theorem dX8_value_1 : decode cX8_value 1 = .ok (.iconst 0, 1) := dk_3 (dk_at dksX8_value_0 1 rfl rfl)
theorem dX8_value_2 : decode cX8_value 2 = .ok (.putfield 83, 3) := dk_181 0 83 (dk_at dksX8_value_0 2 rfl rfl)
theorem dX8_value_5 : decode cX8_value 5 = .ok (.aload_n 0, 1) := dk_42 (dk_at dksX8_value_0 5 rfl rfl)
theorem dX8_value_6 : decode cX8_value 6 = .ok (.invokevirtual 167, 3) := dk_182 0 167 (dk_at dksX8_value_0 6 rfl rfl)
theorem dX8_value_9 : decode cX8_value 9 = .ok (.aload_n 0, 1) := dk_42 (dk_at dksX8_value_0 9 rfl rfl)
theorem dX8_value_10 : decode cX8_value 10 = .ok (.iload_n 1, 1) := dk_27 (dk_at dksX8_value_0 10 rfl rfl)
theorem dX8_value_11 : decode cX8_value 11 = .ok (.invokevirtual 243, 3) := dk_182 0 243 (dk_at dksX8_value_0 11 rfl rfl)
theorem dX8_value_14 : decode cX8_value 14 = .ok (.ifCond .eq 20, 3) := dk_153 0 20 (dk_at dksX8_value_0 14 rfl rfl)
theorem dX8_value_17 : decode cX8_value 17 = .ok (.aload_n 0, 1) := dk_42 (dk_at dksX8_value_0 17 rfl rfl)
theorem dX8_value_18 : decode cX8_value 18 = .ok (.iload_n 2, 1) := dk_28 (dk_at dksX8_value_0 18 rfl rfl)
theorem dX8_value_19 : decode cX8_value 19 = .ok (.invokevirtual 282, 3) := dk_182 1 26 (dk_at dksX8_value_0 19 rfl rfl)
theorem dX8_value_22 : decode cX8_value 22 = .ok (.ifCond .eq 12, 3) := dk_153 0 12 (dk_at dksX8_value_1 0 rfl rfl)
theorem dX8_value_25 : decode cX8_value 25 = .ok (.iload_n 3, 1) := dk_29 (dk_at dksX8_value_1 3 rfl rfl)
theorem dX8_value_26 : decode cX8_value 26 = .ok (.iconst 0, 1) := dk_3 (dk_at dksX8_value_1 4 rfl rfl)
theorem dX8_value_27 : decode cX8_value 27 = .ok (.iconst 1, 1) := dk_4 (dk_at dksX8_value_1 5 rfl rfl)
theorem dX8_value_28 : decode cX8_value 28 = .ok (.invokestatic 154, 3) := dk_184 0 154 (dk_at dksX8_value_1 6 rfl rfl)
theorem dX8_value_31 : decode cX8_value 31 = .ok (.ifCond .ne 5, 3) := dk_154 0 5 (dk_at dksX8_value_1 9 rfl rfl)
theorem dX8_value_34 : decode cX8_value 34 = .ok (.iconst (-1), 1) := dk_2 (dk_at dksX8_value_1 12 rfl rfl)
theorem dX8_value_35 : decode cX8_value 35 = .ok (.ireturn, 1) := dk_172 (dk_at dksX8_value_1 13 rfl rfl)
theorem dX8_value_36 : decode cX8_value 36 = .ok (.iload_n 3, 1) := dk_29 (dk_at dksX8_value_1 14 rfl rfl)
theorem dX8_value_37 : decode cX8_value 37 = .ok (.ifCond .ne 20, 3) := dk_154 0 20 (dk_at dksX8_value_1 15 rfl rfl)
theorem dX8_value_40 : decode cX8_value 40 = .ok (.aload_n 0, 1) := dk_42 (dk_at dksX8_value_1 18 rfl rfl)
theorem dX8_value_41 : decode cX8_value 41 = .ok (.iload_n 1, 1) := dk_27 (dk_at dksX8_value_1 19 rfl rfl)
theorem dX8_value_42 : decode cX8_value 42 = .ok (.aload_n 0, 1) := dk_42 (dk_at dksX8_value_1 20 rfl rfl)
theorem dX8_value_43 : decode cX8_value 43 = .ok (.iload_n 2, 1) := dk_28 (dk_at dksX8_value_1 21 rfl rfl)
theorem dX8_value_44 : decode cX8_value 44 = .ok (.invokevirtual 253, 3) := dk_182 0 253 (dk_at dksX8_value_2 0 rfl rfl)
theorem dX8_value_47 : decode cX8_value 47 = .ok (.aload_n 0, 1) := dk_42 (dk_at dksX8_value_2 3 rfl rfl)
theorem dX8_value_48 : decode cX8_value 48 = .ok (.invokevirtual 288, 3) := dk_182 1 32 (dk_at dksX8_value_2 4 rfl rfl)
theorem dX8_value_51 : decode cX8_value 51 = .ok (.invokevirtual 291, 3) := dk_182 1 35 (dk_at dksX8_value_2 7 rfl rfl)
theorem dX8_value_54 : decode cX8_value 54 = .ok (.goto 9, 3) := dk_167 0 9 (dk_at dksX8_value_2 10 rfl rfl)
theorem dX8_value_57 : decode cX8_value 57 = .ok (.aload_n 0, 1) := dk_42 (dk_at dksX8_value_2 13 rfl rfl)
theorem dX8_value_58 : decode cX8_value 58 = .ok (.iload_n 1, 1) := dk_27 (dk_at dksX8_value_2 14 rfl rfl)
theorem dX8_value_59 : decode cX8_value 59 = .ok (.iload_n 2, 1) := dk_28 (dk_at dksX8_value_2 15 rfl rfl)
theorem dX8_value_60 : decode cX8_value 60 = .ok (.invokevirtual 294, 3) := dk_182 1 38 (dk_at dksX8_value_2 16 rfl rfl)
theorem dX8_value_63 : decode cX8_value 63 = .ok (.ireturn, 1) := dk_172 (dk_at dksX8_value_2 19 rfl rfl)
abbrev cX8_hundredths : ByteArray := prog_18_method_60_code
def yX8_hundredths : MethodName := ⟨RX8, "hundredths", "(III)I"⟩
def dkwX8_hundredths_3 : List UInt8 := [42, 28, 3, 182, 0, 249, 158, 0, 10, 21, 5, 29, 96, 167, 0, 5, 21, 5, 172]
abbrev dktX8_hundredths_3 : List UInt8 := dkwX8_hundredths_3 ++ []
def dkwX8_hundredths_2 : List UInt8 := [180, 0, 13, 7, 46, 167, 0, 17, 21, 4, 154, 0, 8, 16, 100, 167, 0, 7, 21, 4, 4, 100, 54, 5]
abbrev dktX8_hundredths_2 : List UInt8 := dkwX8_hundredths_2 ++ dktX8_hundredths_3
def dkwX8_hundredths_1 : List UInt8 := [16, 44, 16, 8, 27, 104, 96, 28, 96, 46, 54, 4, 42, 28, 5, 182, 0, 249, 158, 0, 12, 42]
abbrev dktX8_hundredths_1 : List UInt8 := dkwX8_hundredths_1 ++ dktX8_hundredths_2
def dkwX8_hundredths_0 : List UInt8 := [28, 27, 160, 0, 6, 16, 100, 172, 42, 28, 4, 182, 0, 249, 158, 0, 5, 3, 172, 42, 180, 0, 13]
abbrev dktX8_hundredths_0 : List UInt8 := dkwX8_hundredths_0 ++ dktX8_hundredths_1
theorem dksX8_hundredths_0 : cX8_hundredths.data.toList.drop 0 = dktX8_hundredths_0 := by decide +kernel
theorem dksX8_hundredths_1 : cX8_hundredths.data.toList.drop 23 = dktX8_hundredths_1 := dk_seg dksX8_hundredths_0 23 rfl rfl
theorem dksX8_hundredths_2 : cX8_hundredths.data.toList.drop 45 = dktX8_hundredths_2 := dk_seg dksX8_hundredths_1 22 rfl rfl
theorem dksX8_hundredths_3 : cX8_hundredths.data.toList.drop 69 = dktX8_hundredths_3 := dk_seg dksX8_hundredths_2 24 rfl rfl
theorem dX8_hundredths_0 : decode cX8_hundredths 0 = .ok (.iload_n 2, 1) := dk_28 (dk_at dksX8_hundredths_0 0 rfl rfl)
theorem dX8_hundredths_1 : decode cX8_hundredths 1 = .ok (.iload_n 1, 1) := dk_27 (dk_at dksX8_hundredths_0 1 rfl rfl)
theorem dX8_hundredths_2 : decode cX8_hundredths 2 = .ok (.if_icmp .ne 6, 3) := dk_160 0 6 (dk_at dksX8_hundredths_0 2 rfl rfl)
theorem dX8_hundredths_5 : decode cX8_hundredths 5 = .ok (.bipush 100, 2) := dk_16 100 (dk_at dksX8_hundredths_0 5 rfl rfl)
theorem dX8_hundredths_7 : decode cX8_hundredths 7 = .ok (.ireturn, 1) := dk_172 (dk_at dksX8_hundredths_0 7 rfl rfl)
theorem dX8_hundredths_8 : decode cX8_hundredths 8 = .ok (.aload_n 0, 1) := dk_42 (dk_at dksX8_hundredths_0 8 rfl rfl)
theorem dX8_hundredths_9 : decode cX8_hundredths 9 = .ok (.iload_n 2, 1) := dk_28 (dk_at dksX8_hundredths_0 9 rfl rfl)
theorem dX8_hundredths_10 : decode cX8_hundredths 10 = .ok (.iconst 1, 1) := dk_4 (dk_at dksX8_hundredths_0 10 rfl rfl)
theorem dX8_hundredths_11 : decode cX8_hundredths 11 = .ok (.invokevirtual 249, 3) := dk_182 0 249 (dk_at dksX8_hundredths_0 11 rfl rfl)
theorem dX8_hundredths_14 : decode cX8_hundredths 14 = .ok (.ifCond .le 5, 3) := dk_158 0 5 (dk_at dksX8_hundredths_0 14 rfl rfl)
theorem dX8_hundredths_17 : decode cX8_hundredths 17 = .ok (.iconst 0, 1) := dk_3 (dk_at dksX8_hundredths_0 17 rfl rfl)
theorem dX8_hundredths_18 : decode cX8_hundredths 18 = .ok (.ireturn, 1) := dk_172 (dk_at dksX8_hundredths_0 18 rfl rfl)
theorem dX8_hundredths_19 : decode cX8_hundredths 19 = .ok (.aload_n 0, 1) := dk_42 (dk_at dksX8_hundredths_0 19 rfl rfl)
theorem dX8_hundredths_20 : decode cX8_hundredths 20 = .ok (.getfield 13, 3) := dk_180 0 13 (dk_at dksX8_hundredths_0 20 rfl rfl)
theorem dX8_hundredths_23 : decode cX8_hundredths 23 = .ok (.bipush 44, 2) := dk_16 44 (dk_at dksX8_hundredths_1 0 rfl rfl)
theorem dX8_hundredths_25 : decode cX8_hundredths 25 = .ok (.bipush 8, 2) := dk_16 8 (dk_at dksX8_hundredths_1 2 rfl rfl)
theorem dX8_hundredths_27 : decode cX8_hundredths 27 = .ok (.iload_n 1, 1) := dk_27 (dk_at dksX8_hundredths_1 4 rfl rfl)
theorem dX8_hundredths_28 : decode cX8_hundredths 28 = .ok (.imul, 1) := dk_104 (dk_at dksX8_hundredths_1 5 rfl rfl)
theorem dX8_hundredths_29 : decode cX8_hundredths 29 = .ok (.iadd, 1) := dk_96 (dk_at dksX8_hundredths_1 6 rfl rfl)
theorem dX8_hundredths_30 : decode cX8_hundredths 30 = .ok (.iload_n 2, 1) := dk_28 (dk_at dksX8_hundredths_1 7 rfl rfl)
theorem dX8_hundredths_31 : decode cX8_hundredths 31 = .ok (.iadd, 1) := dk_96 (dk_at dksX8_hundredths_1 8 rfl rfl)
theorem dX8_hundredths_32 : decode cX8_hundredths 32 = .ok (.iaload, 1) := dk_46 (dk_at dksX8_hundredths_1 9 rfl rfl)
theorem dX8_hundredths_33 : decode cX8_hundredths 33 = .ok (.istore 4, 2) := dk_54 4 (dk_at dksX8_hundredths_1 10 rfl rfl)
theorem dX8_hundredths_35 : decode cX8_hundredths 35 = .ok (.aload_n 0, 1) := dk_42 (dk_at dksX8_hundredths_1 12 rfl rfl)
theorem dX8_hundredths_36 : decode cX8_hundredths 36 = .ok (.iload_n 2, 1) := dk_28 (dk_at dksX8_hundredths_1 13 rfl rfl)
theorem dX8_hundredths_37 : decode cX8_hundredths 37 = .ok (.iconst 2, 1) := dk_5 (dk_at dksX8_hundredths_1 14 rfl rfl)
theorem dX8_hundredths_38 : decode cX8_hundredths 38 = .ok (.invokevirtual 249, 3) := dk_182 0 249 (dk_at dksX8_hundredths_1 15 rfl rfl)
theorem dX8_hundredths_41 : decode cX8_hundredths 41 = .ok (.ifCond .le 12, 3) := dk_158 0 12 (dk_at dksX8_hundredths_1 18 rfl rfl)
theorem dX8_hundredths_44 : decode cX8_hundredths 44 = .ok (.aload_n 0, 1) := dk_42 (dk_at dksX8_hundredths_1 21 rfl rfl)
theorem dX8_hundredths_45 : decode cX8_hundredths 45 = .ok (.getfield 13, 3) := dk_180 0 13 (dk_at dksX8_hundredths_2 0 rfl rfl)
theorem dX8_hundredths_48 : decode cX8_hundredths 48 = .ok (.iconst 4, 1) := dk_7 (dk_at dksX8_hundredths_2 3 rfl rfl)
theorem dX8_hundredths_49 : decode cX8_hundredths 49 = .ok (.iaload, 1) := dk_46 (dk_at dksX8_hundredths_2 4 rfl rfl)
theorem dX8_hundredths_50 : decode cX8_hundredths 50 = .ok (.goto 17, 3) := dk_167 0 17 (dk_at dksX8_hundredths_2 5 rfl rfl)
theorem dX8_hundredths_53 : decode cX8_hundredths 53 = .ok (.iload 4, 2) := dk_21 4 (dk_at dksX8_hundredths_2 8 rfl rfl)
theorem dX8_hundredths_55 : decode cX8_hundredths 55 = .ok (.ifCond .ne 8, 3) := dk_154 0 8 (dk_at dksX8_hundredths_2 10 rfl rfl)
theorem dX8_hundredths_58 : decode cX8_hundredths 58 = .ok (.bipush 100, 2) := dk_16 100 (dk_at dksX8_hundredths_2 13 rfl rfl)
theorem dX8_hundredths_60 : decode cX8_hundredths 60 = .ok (.goto 7, 3) := dk_167 0 7 (dk_at dksX8_hundredths_2 15 rfl rfl)
theorem dX8_hundredths_63 : decode cX8_hundredths 63 = .ok (.iload 4, 2) := dk_21 4 (dk_at dksX8_hundredths_2 18 rfl rfl)
theorem dX8_hundredths_65 : decode cX8_hundredths 65 = .ok (.iconst 1, 1) := dk_4 (dk_at dksX8_hundredths_2 20 rfl rfl)
theorem dX8_hundredths_66 : decode cX8_hundredths 66 = .ok (.isub, 1) := dk_100 (dk_at dksX8_hundredths_2 21 rfl rfl)
theorem dX8_hundredths_67 : decode cX8_hundredths 67 = .ok (.istore 5, 2) := dk_54 5 (dk_at dksX8_hundredths_2 22 rfl rfl)
theorem dX8_hundredths_69 : decode cX8_hundredths 69 = .ok (.aload_n 0, 1) := dk_42 (dk_at dksX8_hundredths_3 0 rfl rfl)
theorem dX8_hundredths_70 : decode cX8_hundredths 70 = .ok (.iload_n 2, 1) := dk_28 (dk_at dksX8_hundredths_3 1 rfl rfl)
theorem dX8_hundredths_71 : decode cX8_hundredths 71 = .ok (.iconst 0, 1) := dk_3 (dk_at dksX8_hundredths_3 2 rfl rfl)
theorem dX8_hundredths_72 : decode cX8_hundredths 72 = .ok (.invokevirtual 249, 3) := dk_182 0 249 (dk_at dksX8_hundredths_3 3 rfl rfl)
theorem dX8_hundredths_75 : decode cX8_hundredths 75 = .ok (.ifCond .le 10, 3) := dk_158 0 10 (dk_at dksX8_hundredths_3 6 rfl rfl)
theorem dX8_hundredths_78 : decode cX8_hundredths 78 = .ok (.iload 5, 2) := dk_21 5 (dk_at dksX8_hundredths_3 9 rfl rfl)
theorem dX8_hundredths_80 : decode cX8_hundredths 80 = .ok (.iload_n 3, 1) := dk_29 (dk_at dksX8_hundredths_3 11 rfl rfl)
theorem dX8_hundredths_81 : decode cX8_hundredths 81 = .ok (.iadd, 1) := dk_96 (dk_at dksX8_hundredths_3 12 rfl rfl)
theorem dX8_hundredths_82 : decode cX8_hundredths 82 = .ok (.goto 5, 3) := dk_167 0 5 (dk_at dksX8_hundredths_3 13 rfl rfl)
theorem dX8_hundredths_85 : decode cX8_hundredths 85 = .ok (.iload 5, 2) := dk_21 5 (dk_at dksX8_hundredths_3 16 rfl rfl)
theorem dX8_hundredths_87 : decode cX8_hundredths 87 = .ok (.ireturn, 1) := dk_172 (dk_at dksX8_hundredths_3 18 rfl rfl)
abbrev cX8_valueOf : ByteArray := prog_18_method_61_code
def yX8_valueOf : MethodName := ⟨RX8, "valueOf", "(II)I"⟩
def dkwX8_valueOf_1 : List UInt8 := [172]
abbrev dktX8_valueOf_1 : List UInt8 := dkwX8_valueOf_1 ++ []
def dkwX8_valueOf_0 : List UInt8 := [42, 28, 3, 182, 1, 0, 42, 27, 42, 28, 182, 0, 253, 42, 182, 1, 32, 182, 1, 35, 104, 16, 100, 108]
abbrev dktX8_valueOf_0 : List UInt8 := dkwX8_valueOf_0 ++ dktX8_valueOf_1
theorem dksX8_valueOf_0 : cX8_valueOf.data.toList.drop 0 = dktX8_valueOf_0 := by decide +kernel
theorem dksX8_valueOf_1 : cX8_valueOf.data.toList.drop 24 = dktX8_valueOf_1 := dk_seg dksX8_valueOf_0 24 rfl rfl
theorem dX8_valueOf_0 : decode cX8_valueOf 0 = .ok (.aload_n 0, 1) := dk_42 (dk_at dksX8_valueOf_0 0 rfl rfl)
theorem dX8_valueOf_1 : decode cX8_valueOf 1 = .ok (.iload_n 2, 1) := dk_28 (dk_at dksX8_valueOf_0 1 rfl rfl)
theorem dX8_valueOf_2 : decode cX8_valueOf 2 = .ok (.iconst 0, 1) := dk_3 (dk_at dksX8_valueOf_0 2 rfl rfl)
theorem dX8_valueOf_3 : decode cX8_valueOf 3 = .ok (.invokevirtual 256, 3) := dk_182 1 0 (dk_at dksX8_valueOf_0 3 rfl rfl)
theorem dX8_valueOf_6 : decode cX8_valueOf 6 = .ok (.aload_n 0, 1) := dk_42 (dk_at dksX8_valueOf_0 6 rfl rfl)
theorem dX8_valueOf_7 : decode cX8_valueOf 7 = .ok (.iload_n 1, 1) := dk_27 (dk_at dksX8_valueOf_0 7 rfl rfl)
theorem dX8_valueOf_8 : decode cX8_valueOf 8 = .ok (.aload_n 0, 1) := dk_42 (dk_at dksX8_valueOf_0 8 rfl rfl)
theorem dX8_valueOf_9 : decode cX8_valueOf 9 = .ok (.iload_n 2, 1) := dk_28 (dk_at dksX8_valueOf_0 9 rfl rfl)
theorem dX8_valueOf_10 : decode cX8_valueOf 10 = .ok (.invokevirtual 253, 3) := dk_182 0 253 (dk_at dksX8_valueOf_0 10 rfl rfl)
theorem dX8_valueOf_13 : decode cX8_valueOf 13 = .ok (.aload_n 0, 1) := dk_42 (dk_at dksX8_valueOf_0 13 rfl rfl)
theorem dX8_valueOf_14 : decode cX8_valueOf 14 = .ok (.invokevirtual 288, 3) := dk_182 1 32 (dk_at dksX8_valueOf_0 14 rfl rfl)
theorem dX8_valueOf_17 : decode cX8_valueOf 17 = .ok (.invokevirtual 291, 3) := dk_182 1 35 (dk_at dksX8_valueOf_0 17 rfl rfl)
theorem dX8_valueOf_20 : decode cX8_valueOf 20 = .ok (.imul, 1) := dk_104 (dk_at dksX8_valueOf_0 20 rfl rfl)
theorem dX8_valueOf_21 : decode cX8_valueOf 21 = .ok (.bipush 100, 2) := dk_16 100 (dk_at dksX8_valueOf_0 21 rfl rfl)
theorem dX8_valueOf_23 : decode cX8_valueOf 23 = .ok (.idiv, 1) := dk_108 (dk_at dksX8_valueOf_0 23 rfl rfl)
theorem dX8_valueOf_24 : decode cX8_valueOf 24 = .ok (.ireturn, 1) := dk_172 (dk_at dksX8_valueOf_1 0 rfl rfl)
abbrev cX8_bears : ByteArray := prog_18_method_63_code
def yX8_bears : MethodName := ⟨RX8, "bears", "(II)I"⟩
def dkwX8_bears_2 : List UInt8 := [27, 5, 182, 1, 0, 29, 96, 28, 182, 1, 9, 154, 0, 9, 132, 3, 1, 167, 255, 222, 29, 172]
abbrev dktX8_bears_2 : List UInt8 := dkwX8_bears_2 ++ []
def dkwX8_bears_1 : List UInt8 := [154, 0, 5, 2, 172, 3, 62, 42, 42, 27, 3, 182, 1, 0, 29, 42, 28, 3, 182, 1, 6, 104, 100, 42]
abbrev dktX8_bears_1 : List UInt8 := dkwX8_bears_1 ++ dktX8_bears_2
def dkwX8_bears_0 : List UInt8 := [42, 3, 181, 0, 83, 42, 182, 0, 167, 42, 27, 182, 1, 26, 153, 0, 11, 42, 28, 182, 1, 3]
abbrev dktX8_bears_0 : List UInt8 := dkwX8_bears_0 ++ dktX8_bears_1
theorem dksX8_bears_0 : cX8_bears.data.toList.drop 0 = dktX8_bears_0 := by decide +kernel
theorem dksX8_bears_1 : cX8_bears.data.toList.drop 22 = dktX8_bears_1 := dk_seg dksX8_bears_0 22 rfl rfl
theorem dksX8_bears_2 : cX8_bears.data.toList.drop 46 = dktX8_bears_2 := dk_seg dksX8_bears_1 24 rfl rfl
theorem dX8_bears_0 : decode cX8_bears 0 = .ok (.aload_n 0, 1) := dk_42 (dk_at dksX8_bears_0 0 rfl rfl)
theorem dX8_bears_1 : decode cX8_bears 1 = .ok (.iconst 0, 1) := dk_3 (dk_at dksX8_bears_0 1 rfl rfl)
theorem dX8_bears_2 : decode cX8_bears 2 = .ok (.putfield 83, 3) := dk_181 0 83 (dk_at dksX8_bears_0 2 rfl rfl)
theorem dX8_bears_5 : decode cX8_bears 5 = .ok (.aload_n 0, 1) := dk_42 (dk_at dksX8_bears_0 5 rfl rfl)
theorem dX8_bears_6 : decode cX8_bears 6 = .ok (.invokevirtual 167, 3) := dk_182 0 167 (dk_at dksX8_bears_0 6 rfl rfl)
theorem dX8_bears_9 : decode cX8_bears 9 = .ok (.aload_n 0, 1) := dk_42 (dk_at dksX8_bears_0 9 rfl rfl)
theorem dX8_bears_10 : decode cX8_bears 10 = .ok (.iload_n 1, 1) := dk_27 (dk_at dksX8_bears_0 10 rfl rfl)
theorem dX8_bears_11 : decode cX8_bears 11 = .ok (.invokevirtual 282, 3) := dk_182 1 26 (dk_at dksX8_bears_0 11 rfl rfl)
theorem dX8_bears_14 : decode cX8_bears 14 = .ok (.ifCond .eq 11, 3) := dk_153 0 11 (dk_at dksX8_bears_0 14 rfl rfl)
theorem dX8_bears_17 : decode cX8_bears 17 = .ok (.aload_n 0, 1) := dk_42 (dk_at dksX8_bears_0 17 rfl rfl)
theorem dX8_bears_18 : decode cX8_bears 18 = .ok (.iload_n 2, 1) := dk_28 (dk_at dksX8_bears_0 18 rfl rfl)
theorem dX8_bears_19 : decode cX8_bears 19 = .ok (.invokevirtual 259, 3) := dk_182 1 3 (dk_at dksX8_bears_0 19 rfl rfl)
theorem dX8_bears_22 : decode cX8_bears 22 = .ok (.ifCond .ne 5, 3) := dk_154 0 5 (dk_at dksX8_bears_1 0 rfl rfl)
theorem dX8_bears_25 : decode cX8_bears 25 = .ok (.iconst (-1), 1) := dk_2 (dk_at dksX8_bears_1 3 rfl rfl)
theorem dX8_bears_26 : decode cX8_bears 26 = .ok (.ireturn, 1) := dk_172 (dk_at dksX8_bears_1 4 rfl rfl)
theorem dX8_bears_27 : decode cX8_bears 27 = .ok (.iconst 0, 1) := dk_3 (dk_at dksX8_bears_1 5 rfl rfl)
theorem dX8_bears_28 : decode cX8_bears 28 = .ok (.istore_n 3, 1) := dk_62 (dk_at dksX8_bears_1 6 rfl rfl)
theorem dX8_bears_29 : decode cX8_bears 29 = .ok (.aload_n 0, 1) := dk_42 (dk_at dksX8_bears_1 7 rfl rfl)
theorem dX8_bears_30 : decode cX8_bears 30 = .ok (.aload_n 0, 1) := dk_42 (dk_at dksX8_bears_1 8 rfl rfl)
theorem dX8_bears_31 : decode cX8_bears 31 = .ok (.iload_n 1, 1) := dk_27 (dk_at dksX8_bears_1 9 rfl rfl)
theorem dX8_bears_32 : decode cX8_bears 32 = .ok (.iconst 0, 1) := dk_3 (dk_at dksX8_bears_1 10 rfl rfl)
theorem dX8_bears_33 : decode cX8_bears 33 = .ok (.invokevirtual 256, 3) := dk_182 1 0 (dk_at dksX8_bears_1 11 rfl rfl)
theorem dX8_bears_36 : decode cX8_bears 36 = .ok (.iload_n 3, 1) := dk_29 (dk_at dksX8_bears_1 14 rfl rfl)
theorem dX8_bears_37 : decode cX8_bears 37 = .ok (.aload_n 0, 1) := dk_42 (dk_at dksX8_bears_1 15 rfl rfl)
theorem dX8_bears_38 : decode cX8_bears 38 = .ok (.iload_n 2, 1) := dk_28 (dk_at dksX8_bears_1 16 rfl rfl)
theorem dX8_bears_39 : decode cX8_bears 39 = .ok (.iconst 0, 1) := dk_3 (dk_at dksX8_bears_1 17 rfl rfl)
theorem dX8_bears_40 : decode cX8_bears 40 = .ok (.invokevirtual 262, 3) := dk_182 1 6 (dk_at dksX8_bears_1 18 rfl rfl)
theorem dX8_bears_43 : decode cX8_bears 43 = .ok (.imul, 1) := dk_104 (dk_at dksX8_bears_1 21 rfl rfl)
theorem dX8_bears_44 : decode cX8_bears 44 = .ok (.isub, 1) := dk_100 (dk_at dksX8_bears_1 22 rfl rfl)
theorem dX8_bears_45 : decode cX8_bears 45 = .ok (.aload_n 0, 1) := dk_42 (dk_at dksX8_bears_1 23 rfl rfl)
theorem dX8_bears_46 : decode cX8_bears 46 = .ok (.iload_n 1, 1) := dk_27 (dk_at dksX8_bears_2 0 rfl rfl)
theorem dX8_bears_47 : decode cX8_bears 47 = .ok (.iconst 2, 1) := dk_5 (dk_at dksX8_bears_2 1 rfl rfl)
theorem dX8_bears_48 : decode cX8_bears 48 = .ok (.invokevirtual 256, 3) := dk_182 1 0 (dk_at dksX8_bears_2 2 rfl rfl)
theorem dX8_bears_51 : decode cX8_bears 51 = .ok (.iload_n 3, 1) := dk_29 (dk_at dksX8_bears_2 5 rfl rfl)
theorem dX8_bears_52 : decode cX8_bears 52 = .ok (.iadd, 1) := dk_96 (dk_at dksX8_bears_2 6 rfl rfl)
theorem dX8_bears_53 : decode cX8_bears 53 = .ok (.iload_n 2, 1) := dk_28 (dk_at dksX8_bears_2 7 rfl rfl)
theorem dX8_bears_54 : decode cX8_bears 54 = .ok (.invokevirtual 265, 3) := dk_182 1 9 (dk_at dksX8_bears_2 8 rfl rfl)
theorem dX8_bears_57 : decode cX8_bears 57 = .ok (.ifCond .ne 9, 3) := dk_154 0 9 (dk_at dksX8_bears_2 11 rfl rfl)
theorem dX8_bears_60 : decode cX8_bears 60 = .ok (.iinc 3 1, 3) := dk_132 3 1 (dk_at dksX8_bears_2 14 rfl rfl)
theorem dX8_bears_63 : decode cX8_bears 63 = .ok (.goto (-34), 3) := dk_167 255 222 (dk_at dksX8_bears_2 17 rfl rfl)
theorem dX8_bears_66 : decode cX8_bears 66 = .ok (.iload_n 3, 1) := dk_29 (dk_at dksX8_bears_2 20 rfl rfl)
theorem dX8_bears_67 : decode cX8_bears 67 = .ok (.ireturn, 1) := dk_172 (dk_at dksX8_bears_2 21 rfl rfl)
abbrev cX8_sale : ByteArray := prog_18_method_66_code
def yX8_sale : MethodName := ⟨RX8, "sale", "(IIII)I"⟩
def dkwX8_sale_15 : List UInt8 := [27, 28, 29, 21, 4, 21, 5, 21, 9, 182, 1, 47, 3, 172]
abbrev dktX8_sale_15 : List UInt8 := dkwX8_sale_15 ++ []
def dkwX8_sale_14 : List UInt8 := [16, 120, 16, 32, 42, 180, 0, 40, 21, 10, 46, 104, 96, 4, 96, 28, 79, 132, 10, 1, 167, 255, 204, 42]
abbrev dktX8_sale_14 : List UInt8 := dkwX8_sale_14 ++ dktX8_sale_15
def dkwX8_sale_13 : List UInt8 := [180, 0, 40, 21, 10, 46, 28, 29, 42, 180, 0, 13, 16, 113, 46, 3, 182, 1, 19, 42, 180, 0, 13]
abbrev dktX8_sale_13 : List UInt8 := dkwX8_sale_13 ++ dktX8_sale_14
def dkwX8_sale_12 : List UInt8 := [162, 0, 6, 16, 7, 172, 42, 182, 1, 16, 3, 54, 10, 21, 10, 21, 5, 162, 0, 51, 42, 42]
abbrev dktX8_sale_12 : List UInt8 := dkwX8_sale_12 ++ dktX8_sale_13
def dkwX8_sale_11 : List UInt8 := [21, 12, 54, 8, 132, 10, 1, 167, 255, 166, 21, 8, 16, 8, 162, 0, 6, 21, 8, 172, 21, 9, 21, 4]
abbrev dktX8_sale_11 : List UInt8 := dkwX8_sale_11 ++ dktX8_sale_12
def dkwX8_sale_10 : List UInt8 := [180, 0, 40, 21, 10, 46, 29, 182, 1, 44, 54, 12, 21, 12, 158, 0, 14, 21, 12, 21, 8, 162, 0, 7]
abbrev dktX8_sale_10 : List UInt8 := dkwX8_sale_10 ++ dktX8_sale_11
def dkwX8_sale_9 : List UInt8 := [182, 1, 0, 27, 159, 0, 7, 5, 167, 0, 24, 21, 11, 154, 0, 7, 6, 167, 0, 15, 42, 42]
abbrev dktX8_sale_9 : List UInt8 := dkwX8_sale_9 ++ dktX8_sale_10
def dkwX8_sale_8 : List UInt8 := [21, 10, 46, 182, 1, 38, 54, 11, 21, 9, 21, 11, 96, 54, 9, 42, 42, 180, 0, 40, 21, 10, 46, 4]
abbrev dktX8_sale_8 : List UInt8 := dkwX8_sale_8 ++ dktX8_sale_9
def dkwX8_sale_7 : List UInt8 := [16, 8, 54, 8, 3, 54, 9, 3, 54, 10, 21, 10, 21, 5, 162, 0, 89, 42, 28, 42, 180, 0, 40]
abbrev dktX8_sale_7 : List UInt8 := dkwX8_sale_7 ++ dktX8_sale_8
def dkwX8_sale_6 : List UInt8 := [21, 8, 46, 121, 129, 55, 6, 132, 8, 1, 167, 255, 185, 42, 27, 28, 182, 1, 41, 153, 0, 5, 4, 172]
abbrev dktX8_sale_6 : List UInt8 := dkwX8_sale_6 ++ dktX8_sale_7
def dkwX8_sale_5 : List UInt8 := [180, 0, 40, 21, 8, 46, 123, 10, 127, 10, 148, 154, 0, 5, 2, 172, 22, 6, 10, 42, 180, 0, 40]
abbrev dktX8_sale_5 : List UInt8 := dkwX8_sale_5 ++ dktX8_sale_6
def dkwX8_sale_4 : List UInt8 := [180, 0, 7, 21, 8, 46, 79, 42, 42, 180, 0, 40, 21, 8, 46, 182, 1, 26, 153, 0, 20, 22, 6, 42]
abbrev dktX8_sale_4 : List UInt8 := dkwX8_sale_4 ++ dktX8_sale_5
def dkwX8_sale_3 : List UInt8 := [2, 172, 9, 55, 6, 3, 54, 8, 21, 8, 21, 5, 162, 0, 70, 42, 180, 0, 40, 21, 8, 42]
abbrev dktX8_sale_3 : List UInt8 := dkwX8_sale_3 ++ dktX8_sale_4
def dkwX8_sale_2 : List UInt8 := [153, 0, 24, 21, 5, 153, 0, 19, 21, 5, 16, 40, 163, 0, 12, 42, 21, 5, 182, 1, 13, 153, 0, 5]
abbrev dktX8_sale_2 : List UInt8 := dkwX8_sale_2 ++ dktX8_sale_3
def dkwX8_sale_1 : List UInt8 := [28, 182, 0, 243, 153, 0, 44, 42, 29, 182, 1, 3, 153, 0, 36, 21, 4, 4, 17, 39, 15, 184, 0, 154]
abbrev dktX8_sale_1 : List UInt8 := dkwX8_sale_1 ++ dktX8_sale_2
def dkwX8_sale_0 : List UInt8 := [42, 3, 181, 0, 83, 42, 182, 0, 167, 42, 182, 0, 170, 54, 5, 42, 27, 182, 0, 243, 153, 0, 52, 42]
abbrev dktX8_sale_0 : List UInt8 := dkwX8_sale_0 ++ dktX8_sale_1
theorem dksX8_sale_0 : cX8_sale.data.toList.drop 0 = dktX8_sale_0 := by decide +kernel
theorem dksX8_sale_1 : cX8_sale.data.toList.drop 24 = dktX8_sale_1 := dk_seg dksX8_sale_0 24 rfl rfl
theorem dksX8_sale_2 : cX8_sale.data.toList.drop 48 = dktX8_sale_2 := dk_seg dksX8_sale_1 24 rfl rfl
theorem dksX8_sale_3 : cX8_sale.data.toList.drop 72 = dktX8_sale_3 := dk_seg dksX8_sale_2 24 rfl rfl
theorem dksX8_sale_4 : cX8_sale.data.toList.drop 94 = dktX8_sale_4 := dk_seg dksX8_sale_3 22 rfl rfl
theorem dksX8_sale_5 : cX8_sale.data.toList.drop 118 = dktX8_sale_5 := dk_seg dksX8_sale_4 24 rfl rfl
theorem dksX8_sale_6 : cX8_sale.data.toList.drop 141 = dktX8_sale_6 := dk_seg dksX8_sale_5 23 rfl rfl
theorem dksX8_sale_7 : cX8_sale.data.toList.drop 165 = dktX8_sale_7 := dk_seg dksX8_sale_6 24 rfl rfl
theorem dksX8_sale_8 : cX8_sale.data.toList.drop 188 = dktX8_sale_8 := dk_seg dksX8_sale_7 23 rfl rfl
theorem dksX8_sale_9 : cX8_sale.data.toList.drop 212 = dktX8_sale_9 := dk_seg dksX8_sale_8 24 rfl rfl
theorem dksX8_sale_10 : cX8_sale.data.toList.drop 234 = dktX8_sale_10 := dk_seg dksX8_sale_9 22 rfl rfl
theorem dksX8_sale_11 : cX8_sale.data.toList.drop 258 = dktX8_sale_11 := dk_seg dksX8_sale_10 24 rfl rfl
theorem dksX8_sale_12 : cX8_sale.data.toList.drop 282 = dktX8_sale_12 := dk_seg dksX8_sale_11 24 rfl rfl
theorem dksX8_sale_13 : cX8_sale.data.toList.drop 304 = dktX8_sale_13 := dk_seg dksX8_sale_12 22 rfl rfl
theorem dksX8_sale_14 : cX8_sale.data.toList.drop 327 = dktX8_sale_14 := dk_seg dksX8_sale_13 23 rfl rfl
theorem dksX8_sale_15 : cX8_sale.data.toList.drop 351 = dktX8_sale_15 := dk_seg dksX8_sale_14 24 rfl rfl
theorem dX8_sale_0 : decode cX8_sale 0 = .ok (.aload_n 0, 1) := dk_42 (dk_at dksX8_sale_0 0 rfl rfl)
theorem dX8_sale_1 : decode cX8_sale 1 = .ok (.iconst 0, 1) := dk_3 (dk_at dksX8_sale_0 1 rfl rfl)
theorem dX8_sale_2 : decode cX8_sale 2 = .ok (.putfield 83, 3) := dk_181 0 83 (dk_at dksX8_sale_0 2 rfl rfl)
theorem dX8_sale_5 : decode cX8_sale 5 = .ok (.aload_n 0, 1) := dk_42 (dk_at dksX8_sale_0 5 rfl rfl)
theorem dX8_sale_6 : decode cX8_sale 6 = .ok (.invokevirtual 167, 3) := dk_182 0 167 (dk_at dksX8_sale_0 6 rfl rfl)
theorem dX8_sale_9 : decode cX8_sale 9 = .ok (.aload_n 0, 1) := dk_42 (dk_at dksX8_sale_0 9 rfl rfl)
theorem dX8_sale_10 : decode cX8_sale 10 = .ok (.invokevirtual 170, 3) := dk_182 0 170 (dk_at dksX8_sale_0 10 rfl rfl)
theorem dX8_sale_13 : decode cX8_sale 13 = .ok (.istore 5, 2) := dk_54 5 (dk_at dksX8_sale_0 13 rfl rfl)
theorem dX8_sale_15 : decode cX8_sale 15 = .ok (.aload_n 0, 1) := dk_42 (dk_at dksX8_sale_0 15 rfl rfl)
theorem dX8_sale_16 : decode cX8_sale 16 = .ok (.iload_n 1, 1) := dk_27 (dk_at dksX8_sale_0 16 rfl rfl)
theorem dX8_sale_17 : decode cX8_sale 17 = .ok (.invokevirtual 243, 3) := dk_182 0 243 (dk_at dksX8_sale_0 17 rfl rfl)
theorem dX8_sale_20 : decode cX8_sale 20 = .ok (.ifCond .eq 52, 3) := dk_153 0 52 (dk_at dksX8_sale_0 20 rfl rfl)
theorem dX8_sale_23 : decode cX8_sale 23 = .ok (.aload_n 0, 1) := dk_42 (dk_at dksX8_sale_0 23 rfl rfl)
theorem dX8_sale_24 : decode cX8_sale 24 = .ok (.iload_n 2, 1) := dk_28 (dk_at dksX8_sale_1 0 rfl rfl)
theorem dX8_sale_25 : decode cX8_sale 25 = .ok (.invokevirtual 243, 3) := dk_182 0 243 (dk_at dksX8_sale_1 1 rfl rfl)
theorem dX8_sale_28 : decode cX8_sale 28 = .ok (.ifCond .eq 44, 3) := dk_153 0 44 (dk_at dksX8_sale_1 4 rfl rfl)
theorem dX8_sale_31 : decode cX8_sale 31 = .ok (.aload_n 0, 1) := dk_42 (dk_at dksX8_sale_1 7 rfl rfl)
theorem dX8_sale_32 : decode cX8_sale 32 = .ok (.iload_n 3, 1) := dk_29 (dk_at dksX8_sale_1 8 rfl rfl)
theorem dX8_sale_33 : decode cX8_sale 33 = .ok (.invokevirtual 259, 3) := dk_182 1 3 (dk_at dksX8_sale_1 9 rfl rfl)
theorem dX8_sale_36 : decode cX8_sale 36 = .ok (.ifCond .eq 36, 3) := dk_153 0 36 (dk_at dksX8_sale_1 12 rfl rfl)
theorem dX8_sale_39 : decode cX8_sale 39 = .ok (.iload 4, 2) := dk_21 4 (dk_at dksX8_sale_1 15 rfl rfl)
theorem dX8_sale_41 : decode cX8_sale 41 = .ok (.iconst 1, 1) := dk_4 (dk_at dksX8_sale_1 17 rfl rfl)
theorem dX8_sale_42 : decode cX8_sale 42 = .ok (.sipush 9999, 3) := dk_17 39 15 (dk_at dksX8_sale_1 18 rfl rfl)
theorem dX8_sale_45 : decode cX8_sale 45 = .ok (.invokestatic 154, 3) := dk_184 0 154 (dk_at dksX8_sale_1 21 rfl rfl)
theorem dX8_sale_48 : decode cX8_sale 48 = .ok (.ifCond .eq 24, 3) := dk_153 0 24 (dk_at dksX8_sale_2 0 rfl rfl)
theorem dX8_sale_51 : decode cX8_sale 51 = .ok (.iload 5, 2) := dk_21 5 (dk_at dksX8_sale_2 3 rfl rfl)
theorem dX8_sale_53 : decode cX8_sale 53 = .ok (.ifCond .eq 19, 3) := dk_153 0 19 (dk_at dksX8_sale_2 5 rfl rfl)
theorem dX8_sale_56 : decode cX8_sale 56 = .ok (.iload 5, 2) := dk_21 5 (dk_at dksX8_sale_2 8 rfl rfl)
theorem dX8_sale_58 : decode cX8_sale 58 = .ok (.bipush 40, 2) := dk_16 40 (dk_at dksX8_sale_2 10 rfl rfl)
theorem dX8_sale_60 : decode cX8_sale 60 = .ok (.if_icmp .gt 12, 3) := dk_163 0 12 (dk_at dksX8_sale_2 12 rfl rfl)
theorem dX8_sale_63 : decode cX8_sale 63 = .ok (.aload_n 0, 1) := dk_42 (dk_at dksX8_sale_2 15 rfl rfl)
theorem dX8_sale_64 : decode cX8_sale 64 = .ok (.iload 5, 2) := dk_21 5 (dk_at dksX8_sale_2 16 rfl rfl)
theorem dX8_sale_66 : decode cX8_sale 66 = .ok (.invokevirtual 269, 3) := dk_182 1 13 (dk_at dksX8_sale_2 18 rfl rfl)
theorem dX8_sale_69 : decode cX8_sale 69 = .ok (.ifCond .eq 5, 3) := dk_153 0 5 (dk_at dksX8_sale_2 21 rfl rfl)
theorem dX8_sale_72 : decode cX8_sale 72 = .ok (.iconst (-1), 1) := dk_2 (dk_at dksX8_sale_3 0 rfl rfl)
theorem dX8_sale_73 : decode cX8_sale 73 = .ok (.ireturn, 1) := dk_172 (dk_at dksX8_sale_3 1 rfl rfl)
theorem dX8_sale_74 : decode cX8_sale 74 = .ok (.lconst 0, 1) := dk_9 (dk_at dksX8_sale_3 2 rfl rfl)
theorem dX8_sale_75 : decode cX8_sale 75 = .ok (.lstore 6, 2) := dk_55 6 (dk_at dksX8_sale_3 3 rfl rfl)
theorem dX8_sale_77 : decode cX8_sale 77 = .ok (.iconst 0, 1) := dk_3 (dk_at dksX8_sale_3 5 rfl rfl)
theorem dX8_sale_78 : decode cX8_sale 78 = .ok (.istore 8, 2) := dk_54 8 (dk_at dksX8_sale_3 6 rfl rfl)
theorem dX8_sale_80 : decode cX8_sale 80 = .ok (.iload 8, 2) := dk_21 8 (dk_at dksX8_sale_3 8 rfl rfl)
theorem dX8_sale_82 : decode cX8_sale 82 = .ok (.iload 5, 2) := dk_21 5 (dk_at dksX8_sale_3 10 rfl rfl)
theorem dX8_sale_84 : decode cX8_sale 84 = .ok (.if_icmp .ge 70, 3) := dk_162 0 70 (dk_at dksX8_sale_3 12 rfl rfl)
theorem dX8_sale_87 : decode cX8_sale 87 = .ok (.aload_n 0, 1) := dk_42 (dk_at dksX8_sale_3 15 rfl rfl)
theorem dX8_sale_88 : decode cX8_sale 88 = .ok (.getfield 40, 3) := dk_180 0 40 (dk_at dksX8_sale_3 16 rfl rfl)
theorem dX8_sale_91 : decode cX8_sale 91 = .ok (.iload 8, 2) := dk_21 8 (dk_at dksX8_sale_3 19 rfl rfl)
theorem dX8_sale_93 : decode cX8_sale 93 = .ok (.aload_n 0, 1) := dk_42 (dk_at dksX8_sale_3 21 rfl rfl)
theorem dX8_sale_94 : decode cX8_sale 94 = .ok (.getfield 7, 3) := dk_180 0 7 (dk_at dksX8_sale_4 0 rfl rfl)
theorem dX8_sale_97 : decode cX8_sale 97 = .ok (.iload 8, 2) := dk_21 8 (dk_at dksX8_sale_4 3 rfl rfl)
theorem dX8_sale_99 : decode cX8_sale 99 = .ok (.iaload, 1) := dk_46 (dk_at dksX8_sale_4 5 rfl rfl)
theorem dX8_sale_100 : decode cX8_sale 100 = .ok (.iastore, 1) := dk_79 (dk_at dksX8_sale_4 6 rfl rfl)
theorem dX8_sale_101 : decode cX8_sale 101 = .ok (.aload_n 0, 1) := dk_42 (dk_at dksX8_sale_4 7 rfl rfl)
theorem dX8_sale_102 : decode cX8_sale 102 = .ok (.aload_n 0, 1) := dk_42 (dk_at dksX8_sale_4 8 rfl rfl)
theorem dX8_sale_103 : decode cX8_sale 103 = .ok (.getfield 40, 3) := dk_180 0 40 (dk_at dksX8_sale_4 9 rfl rfl)
theorem dX8_sale_106 : decode cX8_sale 106 = .ok (.iload 8, 2) := dk_21 8 (dk_at dksX8_sale_4 12 rfl rfl)
theorem dX8_sale_108 : decode cX8_sale 108 = .ok (.iaload, 1) := dk_46 (dk_at dksX8_sale_4 14 rfl rfl)
theorem dX8_sale_109 : decode cX8_sale 109 = .ok (.invokevirtual 282, 3) := dk_182 1 26 (dk_at dksX8_sale_4 15 rfl rfl)
theorem dX8_sale_112 : decode cX8_sale 112 = .ok (.ifCond .eq 20, 3) := dk_153 0 20 (dk_at dksX8_sale_4 18 rfl rfl)
theorem dX8_sale_115 : decode cX8_sale 115 = .ok (.lload 6, 2) := dk_22 6 (dk_at dksX8_sale_4 21 rfl rfl)
theorem dX8_sale_117 : decode cX8_sale 117 = .ok (.aload_n 0, 1) := dk_42 (dk_at dksX8_sale_4 23 rfl rfl)
theorem dX8_sale_118 : decode cX8_sale 118 = .ok (.getfield 40, 3) := dk_180 0 40 (dk_at dksX8_sale_5 0 rfl rfl)
theorem dX8_sale_121 : decode cX8_sale 121 = .ok (.iload 8, 2) := dk_21 8 (dk_at dksX8_sale_5 3 rfl rfl)
theorem dX8_sale_123 : decode cX8_sale 123 = .ok (.iaload, 1) := dk_46 (dk_at dksX8_sale_5 5 rfl rfl)
theorem dX8_sale_124 : decode cX8_sale 124 = .ok (.lshr, 1) := dk_123 (dk_at dksX8_sale_5 6 rfl rfl)
theorem dX8_sale_125 : decode cX8_sale 125 = .ok (.lconst 1, 1) := dk_10 (dk_at dksX8_sale_5 7 rfl rfl)
theorem dX8_sale_126 : decode cX8_sale 126 = .ok (.land, 1) := dk_127 (dk_at dksX8_sale_5 8 rfl rfl)
theorem dX8_sale_127 : decode cX8_sale 127 = .ok (.lconst 1, 1) := dk_10 (dk_at dksX8_sale_5 9 rfl rfl)
theorem dX8_sale_128 : decode cX8_sale 128 = .ok (.lcmp, 1) := dk_148 (dk_at dksX8_sale_5 10 rfl rfl)
theorem dX8_sale_129 : decode cX8_sale 129 = .ok (.ifCond .ne 5, 3) := dk_154 0 5 (dk_at dksX8_sale_5 11 rfl rfl)
theorem dX8_sale_132 : decode cX8_sale 132 = .ok (.iconst (-1), 1) := dk_2 (dk_at dksX8_sale_5 14 rfl rfl)
theorem dX8_sale_133 : decode cX8_sale 133 = .ok (.ireturn, 1) := dk_172 (dk_at dksX8_sale_5 15 rfl rfl)
theorem dX8_sale_134 : decode cX8_sale 134 = .ok (.lload 6, 2) := dk_22 6 (dk_at dksX8_sale_5 16 rfl rfl)
theorem dX8_sale_136 : decode cX8_sale 136 = .ok (.lconst 1, 1) := dk_10 (dk_at dksX8_sale_5 18 rfl rfl)
theorem dX8_sale_137 : decode cX8_sale 137 = .ok (.aload_n 0, 1) := dk_42 (dk_at dksX8_sale_5 19 rfl rfl)
theorem dX8_sale_138 : decode cX8_sale 138 = .ok (.getfield 40, 3) := dk_180 0 40 (dk_at dksX8_sale_5 20 rfl rfl)
theorem dX8_sale_141 : decode cX8_sale 141 = .ok (.iload 8, 2) := dk_21 8 (dk_at dksX8_sale_6 0 rfl rfl)
theorem dX8_sale_143 : decode cX8_sale 143 = .ok (.iaload, 1) := dk_46 (dk_at dksX8_sale_6 2 rfl rfl)
theorem dX8_sale_144 : decode cX8_sale 144 = .ok (.lshl, 1) := dk_121 (dk_at dksX8_sale_6 3 rfl rfl)
theorem dX8_sale_145 : decode cX8_sale 145 = .ok (.lor, 1) := dk_129 (dk_at dksX8_sale_6 4 rfl rfl)
theorem dX8_sale_146 : decode cX8_sale 146 = .ok (.lstore 6, 2) := dk_55 6 (dk_at dksX8_sale_6 5 rfl rfl)
theorem dX8_sale_148 : decode cX8_sale 148 = .ok (.iinc 8 1, 3) := dk_132 8 1 (dk_at dksX8_sale_6 7 rfl rfl)
theorem dX8_sale_151 : decode cX8_sale 151 = .ok (.goto (-71), 3) := dk_167 255 185 (dk_at dksX8_sale_6 10 rfl rfl)
theorem dX8_sale_154 : decode cX8_sale 154 = .ok (.aload_n 0, 1) := dk_42 (dk_at dksX8_sale_6 13 rfl rfl)
theorem dX8_sale_155 : decode cX8_sale 155 = .ok (.iload_n 1, 1) := dk_27 (dk_at dksX8_sale_6 14 rfl rfl)
theorem dX8_sale_156 : decode cX8_sale 156 = .ok (.iload_n 2, 1) := dk_28 (dk_at dksX8_sale_6 15 rfl rfl)
theorem dX8_sale_157 : decode cX8_sale 157 = .ok (.invokevirtual 297, 3) := dk_182 1 41 (dk_at dksX8_sale_6 16 rfl rfl)
theorem dX8_sale_160 : decode cX8_sale 160 = .ok (.ifCond .eq 5, 3) := dk_153 0 5 (dk_at dksX8_sale_6 19 rfl rfl)
theorem dX8_sale_163 : decode cX8_sale 163 = .ok (.iconst 1, 1) := dk_4 (dk_at dksX8_sale_6 22 rfl rfl)
theorem dX8_sale_164 : decode cX8_sale 164 = .ok (.ireturn, 1) := dk_172 (dk_at dksX8_sale_6 23 rfl rfl)
theorem dX8_sale_165 : decode cX8_sale 165 = .ok (.bipush 8, 2) := dk_16 8 (dk_at dksX8_sale_7 0 rfl rfl)
theorem dX8_sale_167 : decode cX8_sale 167 = .ok (.istore 8, 2) := dk_54 8 (dk_at dksX8_sale_7 2 rfl rfl)
theorem dX8_sale_169 : decode cX8_sale 169 = .ok (.iconst 0, 1) := dk_3 (dk_at dksX8_sale_7 4 rfl rfl)
theorem dX8_sale_170 : decode cX8_sale 170 = .ok (.istore 9, 2) := dk_54 9 (dk_at dksX8_sale_7 5 rfl rfl)
theorem dX8_sale_172 : decode cX8_sale 172 = .ok (.iconst 0, 1) := dk_3 (dk_at dksX8_sale_7 7 rfl rfl)
theorem dX8_sale_173 : decode cX8_sale 173 = .ok (.istore 10, 2) := dk_54 10 (dk_at dksX8_sale_7 8 rfl rfl)
theorem dX8_sale_175 : decode cX8_sale 175 = .ok (.iload 10, 2) := dk_21 10 (dk_at dksX8_sale_7 10 rfl rfl)
theorem dX8_sale_177 : decode cX8_sale 177 = .ok (.iload 5, 2) := dk_21 5 (dk_at dksX8_sale_7 12 rfl rfl)
theorem dX8_sale_179 : decode cX8_sale 179 = .ok (.if_icmp .ge 89, 3) := dk_162 0 89 (dk_at dksX8_sale_7 14 rfl rfl)
theorem dX8_sale_182 : decode cX8_sale 182 = .ok (.aload_n 0, 1) := dk_42 (dk_at dksX8_sale_7 17 rfl rfl)
theorem dX8_sale_183 : decode cX8_sale 183 = .ok (.iload_n 2, 1) := dk_28 (dk_at dksX8_sale_7 18 rfl rfl)
theorem dX8_sale_184 : decode cX8_sale 184 = .ok (.aload_n 0, 1) := dk_42 (dk_at dksX8_sale_7 19 rfl rfl)
theorem dX8_sale_185 : decode cX8_sale 185 = .ok (.getfield 40, 3) := dk_180 0 40 (dk_at dksX8_sale_7 20 rfl rfl)
theorem dX8_sale_188 : decode cX8_sale 188 = .ok (.iload 10, 2) := dk_21 10 (dk_at dksX8_sale_8 0 rfl rfl)
theorem dX8_sale_190 : decode cX8_sale 190 = .ok (.iaload, 1) := dk_46 (dk_at dksX8_sale_8 2 rfl rfl)
theorem dX8_sale_191 : decode cX8_sale 191 = .ok (.invokevirtual 294, 3) := dk_182 1 38 (dk_at dksX8_sale_8 3 rfl rfl)
theorem dX8_sale_194 : decode cX8_sale 194 = .ok (.istore 11, 2) := dk_54 11 (dk_at dksX8_sale_8 6 rfl rfl)
theorem dX8_sale_196 : decode cX8_sale 196 = .ok (.iload 9, 2) := dk_21 9 (dk_at dksX8_sale_8 8 rfl rfl)
theorem dX8_sale_198 : decode cX8_sale 198 = .ok (.iload 11, 2) := dk_21 11 (dk_at dksX8_sale_8 10 rfl rfl)
theorem dX8_sale_200 : decode cX8_sale 200 = .ok (.iadd, 1) := dk_96 (dk_at dksX8_sale_8 12 rfl rfl)
theorem dX8_sale_201 : decode cX8_sale 201 = .ok (.istore 9, 2) := dk_54 9 (dk_at dksX8_sale_8 13 rfl rfl)
theorem dX8_sale_203 : decode cX8_sale 203 = .ok (.aload_n 0, 1) := dk_42 (dk_at dksX8_sale_8 15 rfl rfl)
theorem dX8_sale_204 : decode cX8_sale 204 = .ok (.aload_n 0, 1) := dk_42 (dk_at dksX8_sale_8 16 rfl rfl)
theorem dX8_sale_205 : decode cX8_sale 205 = .ok (.getfield 40, 3) := dk_180 0 40 (dk_at dksX8_sale_8 17 rfl rfl)
theorem dX8_sale_208 : decode cX8_sale 208 = .ok (.iload 10, 2) := dk_21 10 (dk_at dksX8_sale_8 20 rfl rfl)
theorem dX8_sale_210 : decode cX8_sale 210 = .ok (.iaload, 1) := dk_46 (dk_at dksX8_sale_8 22 rfl rfl)
theorem dX8_sale_211 : decode cX8_sale 211 = .ok (.iconst 1, 1) := dk_4 (dk_at dksX8_sale_8 23 rfl rfl)
theorem dX8_sale_212 : decode cX8_sale 212 = .ok (.invokevirtual 256, 3) := dk_182 1 0 (dk_at dksX8_sale_9 0 rfl rfl)
theorem dX8_sale_215 : decode cX8_sale 215 = .ok (.iload_n 1, 1) := dk_27 (dk_at dksX8_sale_9 3 rfl rfl)
theorem dX8_sale_216 : decode cX8_sale 216 = .ok (.if_icmp .eq 7, 3) := dk_159 0 7 (dk_at dksX8_sale_9 4 rfl rfl)
theorem dX8_sale_219 : decode cX8_sale 219 = .ok (.iconst 2, 1) := dk_5 (dk_at dksX8_sale_9 7 rfl rfl)
theorem dX8_sale_220 : decode cX8_sale 220 = .ok (.goto 24, 3) := dk_167 0 24 (dk_at dksX8_sale_9 8 rfl rfl)
theorem dX8_sale_223 : decode cX8_sale 223 = .ok (.iload 11, 2) := dk_21 11 (dk_at dksX8_sale_9 11 rfl rfl)
theorem dX8_sale_225 : decode cX8_sale 225 = .ok (.ifCond .ne 7, 3) := dk_154 0 7 (dk_at dksX8_sale_9 13 rfl rfl)
theorem dX8_sale_228 : decode cX8_sale 228 = .ok (.iconst 3, 1) := dk_6 (dk_at dksX8_sale_9 16 rfl rfl)
theorem dX8_sale_229 : decode cX8_sale 229 = .ok (.goto 15, 3) := dk_167 0 15 (dk_at dksX8_sale_9 17 rfl rfl)
theorem dX8_sale_232 : decode cX8_sale 232 = .ok (.aload_n 0, 1) := dk_42 (dk_at dksX8_sale_9 20 rfl rfl)
theorem dX8_sale_233 : decode cX8_sale 233 = .ok (.aload_n 0, 1) := dk_42 (dk_at dksX8_sale_9 21 rfl rfl)
theorem dX8_sale_234 : decode cX8_sale 234 = .ok (.getfield 40, 3) := dk_180 0 40 (dk_at dksX8_sale_10 0 rfl rfl)
theorem dX8_sale_237 : decode cX8_sale 237 = .ok (.iload 10, 2) := dk_21 10 (dk_at dksX8_sale_10 3 rfl rfl)
theorem dX8_sale_239 : decode cX8_sale 239 = .ok (.iaload, 1) := dk_46 (dk_at dksX8_sale_10 5 rfl rfl)
theorem dX8_sale_240 : decode cX8_sale 240 = .ok (.iload_n 3, 1) := dk_29 (dk_at dksX8_sale_10 6 rfl rfl)
theorem dX8_sale_241 : decode cX8_sale 241 = .ok (.invokevirtual 300, 3) := dk_182 1 44 (dk_at dksX8_sale_10 7 rfl rfl)
theorem dX8_sale_244 : decode cX8_sale 244 = .ok (.istore 12, 2) := dk_54 12 (dk_at dksX8_sale_10 10 rfl rfl)
theorem dX8_sale_246 : decode cX8_sale 246 = .ok (.iload 12, 2) := dk_21 12 (dk_at dksX8_sale_10 12 rfl rfl)
theorem dX8_sale_248 : decode cX8_sale 248 = .ok (.ifCond .le 14, 3) := dk_158 0 14 (dk_at dksX8_sale_10 14 rfl rfl)
theorem dX8_sale_251 : decode cX8_sale 251 = .ok (.iload 12, 2) := dk_21 12 (dk_at dksX8_sale_10 17 rfl rfl)
theorem dX8_sale_253 : decode cX8_sale 253 = .ok (.iload 8, 2) := dk_21 8 (dk_at dksX8_sale_10 19 rfl rfl)
theorem dX8_sale_255 : decode cX8_sale 255 = .ok (.if_icmp .ge 7, 3) := dk_162 0 7 (dk_at dksX8_sale_10 21 rfl rfl)
theorem dX8_sale_258 : decode cX8_sale 258 = .ok (.iload 12, 2) := dk_21 12 (dk_at dksX8_sale_11 0 rfl rfl)
theorem dX8_sale_260 : decode cX8_sale 260 = .ok (.istore 8, 2) := dk_54 8 (dk_at dksX8_sale_11 2 rfl rfl)
theorem dX8_sale_262 : decode cX8_sale 262 = .ok (.iinc 10 1, 3) := dk_132 10 1 (dk_at dksX8_sale_11 4 rfl rfl)
theorem dX8_sale_265 : decode cX8_sale 265 = .ok (.goto (-90), 3) := dk_167 255 166 (dk_at dksX8_sale_11 7 rfl rfl)
theorem dX8_sale_268 : decode cX8_sale 268 = .ok (.iload 8, 2) := dk_21 8 (dk_at dksX8_sale_11 10 rfl rfl)
theorem dX8_sale_270 : decode cX8_sale 270 = .ok (.bipush 8, 2) := dk_16 8 (dk_at dksX8_sale_11 12 rfl rfl)
theorem dX8_sale_272 : decode cX8_sale 272 = .ok (.if_icmp .ge 6, 3) := dk_162 0 6 (dk_at dksX8_sale_11 14 rfl rfl)
theorem dX8_sale_275 : decode cX8_sale 275 = .ok (.iload 8, 2) := dk_21 8 (dk_at dksX8_sale_11 17 rfl rfl)
theorem dX8_sale_277 : decode cX8_sale 277 = .ok (.ireturn, 1) := dk_172 (dk_at dksX8_sale_11 19 rfl rfl)
theorem dX8_sale_278 : decode cX8_sale 278 = .ok (.iload 9, 2) := dk_21 9 (dk_at dksX8_sale_11 20 rfl rfl)
theorem dX8_sale_280 : decode cX8_sale 280 = .ok (.iload 4, 2) := dk_21 4 (dk_at dksX8_sale_11 22 rfl rfl)
theorem dX8_sale_282 : decode cX8_sale 282 = .ok (.if_icmp .ge 6, 3) := dk_162 0 6 (dk_at dksX8_sale_12 0 rfl rfl)
theorem dX8_sale_285 : decode cX8_sale 285 = .ok (.bipush 7, 2) := dk_16 7 (dk_at dksX8_sale_12 3 rfl rfl)
theorem dX8_sale_287 : decode cX8_sale 287 = .ok (.ireturn, 1) := dk_172 (dk_at dksX8_sale_12 5 rfl rfl)
theorem dX8_sale_288 : decode cX8_sale 288 = .ok (.aload_n 0, 1) := dk_42 (dk_at dksX8_sale_12 6 rfl rfl)
theorem dX8_sale_289 : decode cX8_sale 289 = .ok (.invokevirtual 272, 3) := dk_182 1 16 (dk_at dksX8_sale_12 7 rfl rfl)
theorem dX8_sale_292 : decode cX8_sale 292 = .ok (.iconst 0, 1) := dk_3 (dk_at dksX8_sale_12 10 rfl rfl)
theorem dX8_sale_293 : decode cX8_sale 293 = .ok (.istore 10, 2) := dk_54 10 (dk_at dksX8_sale_12 11 rfl rfl)
theorem dX8_sale_295 : decode cX8_sale 295 = .ok (.iload 10, 2) := dk_21 10 (dk_at dksX8_sale_12 13 rfl rfl)
theorem dX8_sale_297 : decode cX8_sale 297 = .ok (.iload 5, 2) := dk_21 5 (dk_at dksX8_sale_12 15 rfl rfl)
theorem dX8_sale_299 : decode cX8_sale 299 = .ok (.if_icmp .ge 51, 3) := dk_162 0 51 (dk_at dksX8_sale_12 17 rfl rfl)
theorem dX8_sale_302 : decode cX8_sale 302 = .ok (.aload_n 0, 1) := dk_42 (dk_at dksX8_sale_12 20 rfl rfl)
theorem dX8_sale_303 : decode cX8_sale 303 = .ok (.aload_n 0, 1) := dk_42 (dk_at dksX8_sale_12 21 rfl rfl)
theorem dX8_sale_304 : decode cX8_sale 304 = .ok (.getfield 40, 3) := dk_180 0 40 (dk_at dksX8_sale_13 0 rfl rfl)
theorem dX8_sale_307 : decode cX8_sale 307 = .ok (.iload 10, 2) := dk_21 10 (dk_at dksX8_sale_13 3 rfl rfl)
theorem dX8_sale_309 : decode cX8_sale 309 = .ok (.iaload, 1) := dk_46 (dk_at dksX8_sale_13 5 rfl rfl)
theorem dX8_sale_310 : decode cX8_sale 310 = .ok (.iload_n 2, 1) := dk_28 (dk_at dksX8_sale_13 6 rfl rfl)
theorem dX8_sale_311 : decode cX8_sale 311 = .ok (.iload_n 3, 1) := dk_29 (dk_at dksX8_sale_13 7 rfl rfl)
theorem dX8_sale_312 : decode cX8_sale 312 = .ok (.aload_n 0, 1) := dk_42 (dk_at dksX8_sale_13 8 rfl rfl)
theorem dX8_sale_313 : decode cX8_sale 313 = .ok (.getfield 13, 3) := dk_180 0 13 (dk_at dksX8_sale_13 9 rfl rfl)
theorem dX8_sale_316 : decode cX8_sale 316 = .ok (.bipush 113, 2) := dk_16 113 (dk_at dksX8_sale_13 12 rfl rfl)
theorem dX8_sale_318 : decode cX8_sale 318 = .ok (.iaload, 1) := dk_46 (dk_at dksX8_sale_13 14 rfl rfl)
theorem dX8_sale_319 : decode cX8_sale 319 = .ok (.iconst 0, 1) := dk_3 (dk_at dksX8_sale_13 15 rfl rfl)
theorem dX8_sale_320 : decode cX8_sale 320 = .ok (.invokevirtual 275, 3) := dk_182 1 19 (dk_at dksX8_sale_13 16 rfl rfl)
theorem dX8_sale_323 : decode cX8_sale 323 = .ok (.aload_n 0, 1) := dk_42 (dk_at dksX8_sale_13 19 rfl rfl)
theorem dX8_sale_324 : decode cX8_sale 324 = .ok (.getfield 13, 3) := dk_180 0 13 (dk_at dksX8_sale_13 20 rfl rfl)
theorem dX8_sale_327 : decode cX8_sale 327 = .ok (.bipush 120, 2) := dk_16 120 (dk_at dksX8_sale_14 0 rfl rfl)
theorem dX8_sale_329 : decode cX8_sale 329 = .ok (.bipush 32, 2) := dk_16 32 (dk_at dksX8_sale_14 2 rfl rfl)
theorem dX8_sale_331 : decode cX8_sale 331 = .ok (.aload_n 0, 1) := dk_42 (dk_at dksX8_sale_14 4 rfl rfl)
theorem dX8_sale_332 : decode cX8_sale 332 = .ok (.getfield 40, 3) := dk_180 0 40 (dk_at dksX8_sale_14 5 rfl rfl)
theorem dX8_sale_335 : decode cX8_sale 335 = .ok (.iload 10, 2) := dk_21 10 (dk_at dksX8_sale_14 8 rfl rfl)
theorem dX8_sale_337 : decode cX8_sale 337 = .ok (.iaload, 1) := dk_46 (dk_at dksX8_sale_14 10 rfl rfl)
theorem dX8_sale_338 : decode cX8_sale 338 = .ok (.imul, 1) := dk_104 (dk_at dksX8_sale_14 11 rfl rfl)
theorem dX8_sale_339 : decode cX8_sale 339 = .ok (.iadd, 1) := dk_96 (dk_at dksX8_sale_14 12 rfl rfl)
theorem dX8_sale_340 : decode cX8_sale 340 = .ok (.iconst 1, 1) := dk_4 (dk_at dksX8_sale_14 13 rfl rfl)
theorem dX8_sale_341 : decode cX8_sale 341 = .ok (.iadd, 1) := dk_96 (dk_at dksX8_sale_14 14 rfl rfl)
theorem dX8_sale_342 : decode cX8_sale 342 = .ok (.iload_n 2, 1) := dk_28 (dk_at dksX8_sale_14 15 rfl rfl)
theorem dX8_sale_343 : decode cX8_sale 343 = .ok (.iastore, 1) := dk_79 (dk_at dksX8_sale_14 16 rfl rfl)
theorem dX8_sale_344 : decode cX8_sale 344 = .ok (.iinc 10 1, 3) := dk_132 10 1 (dk_at dksX8_sale_14 17 rfl rfl)
theorem dX8_sale_347 : decode cX8_sale 347 = .ok (.goto (-52), 3) := dk_167 255 204 (dk_at dksX8_sale_14 20 rfl rfl)
theorem dX8_sale_350 : decode cX8_sale 350 = .ok (.aload_n 0, 1) := dk_42 (dk_at dksX8_sale_14 23 rfl rfl)
theorem dX8_sale_351 : decode cX8_sale 351 = .ok (.iload_n 1, 1) := dk_27 (dk_at dksX8_sale_15 0 rfl rfl)
theorem dX8_sale_352 : decode cX8_sale 352 = .ok (.iload_n 2, 1) := dk_28 (dk_at dksX8_sale_15 1 rfl rfl)
theorem dX8_sale_353 : decode cX8_sale 353 = .ok (.iload_n 3, 1) := dk_29 (dk_at dksX8_sale_15 2 rfl rfl)
theorem dX8_sale_354 : decode cX8_sale 354 = .ok (.iload 4, 2) := dk_21 4 (dk_at dksX8_sale_15 3 rfl rfl)
theorem dX8_sale_356 : decode cX8_sale 356 = .ok (.iload 5, 2) := dk_21 5 (dk_at dksX8_sale_15 5 rfl rfl)
theorem dX8_sale_358 : decode cX8_sale 358 = .ok (.iload 9, 2) := dk_21 9 (dk_at dksX8_sale_15 7 rfl rfl)
theorem dX8_sale_360 : decode cX8_sale 360 = .ok (.invokevirtual 303, 3) := dk_182 1 47 (dk_at dksX8_sale_15 9 rfl rfl)
theorem dX8_sale_363 : decode cX8_sale 363 = .ok (.iconst 0, 1) := dk_3 (dk_at dksX8_sale_15 12 rfl rfl)
theorem dX8_sale_364 : decode cX8_sale 364 = .ok (.ireturn, 1) := dk_172 (dk_at dksX8_sale_15 13 rfl rfl)
abbrev cX8_areUnfit : ByteArray := prog_18_method_65_code
def yX8_areUnfit : MethodName := ⟨RX8, "areUnfit", "(II)Z"⟩
def dkwX8_areUnfit_1 : List UInt8 := [167, 0, 4, 3, 172]
abbrev dktX8_areUnfit_1 : List UInt8 := dkwX8_areUnfit_1 ++ []
def dkwX8_areUnfit_0 : List UInt8 := [27, 28, 159, 0, 21, 42, 27, 5, 182, 0, 249, 157, 0, 12, 42, 28, 5, 182, 0, 249, 158, 0, 7, 4]
abbrev dktX8_areUnfit_0 : List UInt8 := dkwX8_areUnfit_0 ++ dktX8_areUnfit_1
theorem dksX8_areUnfit_0 : cX8_areUnfit.data.toList.drop 0 = dktX8_areUnfit_0 := by decide +kernel
theorem dksX8_areUnfit_1 : cX8_areUnfit.data.toList.drop 24 = dktX8_areUnfit_1 := dk_seg dksX8_areUnfit_0 24 rfl rfl
theorem dX8_areUnfit_0 : decode cX8_areUnfit 0 = .ok (.iload_n 1, 1) := dk_27 (dk_at dksX8_areUnfit_0 0 rfl rfl)
theorem dX8_areUnfit_1 : decode cX8_areUnfit 1 = .ok (.iload_n 2, 1) := dk_28 (dk_at dksX8_areUnfit_0 1 rfl rfl)
theorem dX8_areUnfit_2 : decode cX8_areUnfit 2 = .ok (.if_icmp .eq 21, 3) := dk_159 0 21 (dk_at dksX8_areUnfit_0 2 rfl rfl)
theorem dX8_areUnfit_5 : decode cX8_areUnfit 5 = .ok (.aload_n 0, 1) := dk_42 (dk_at dksX8_areUnfit_0 5 rfl rfl)
theorem dX8_areUnfit_6 : decode cX8_areUnfit 6 = .ok (.iload_n 1, 1) := dk_27 (dk_at dksX8_areUnfit_0 6 rfl rfl)
theorem dX8_areUnfit_7 : decode cX8_areUnfit 7 = .ok (.iconst 2, 1) := dk_5 (dk_at dksX8_areUnfit_0 7 rfl rfl)
theorem dX8_areUnfit_8 : decode cX8_areUnfit 8 = .ok (.invokevirtual 249, 3) := dk_182 0 249 (dk_at dksX8_areUnfit_0 8 rfl rfl)
theorem dX8_areUnfit_11 : decode cX8_areUnfit 11 = .ok (.ifCond .gt 12, 3) := dk_157 0 12 (dk_at dksX8_areUnfit_0 11 rfl rfl)
theorem dX8_areUnfit_14 : decode cX8_areUnfit 14 = .ok (.aload_n 0, 1) := dk_42 (dk_at dksX8_areUnfit_0 14 rfl rfl)
theorem dX8_areUnfit_15 : decode cX8_areUnfit 15 = .ok (.iload_n 2, 1) := dk_28 (dk_at dksX8_areUnfit_0 15 rfl rfl)
theorem dX8_areUnfit_16 : decode cX8_areUnfit 16 = .ok (.iconst 2, 1) := dk_5 (dk_at dksX8_areUnfit_0 16 rfl rfl)
theorem dX8_areUnfit_17 : decode cX8_areUnfit 17 = .ok (.invokevirtual 249, 3) := dk_182 0 249 (dk_at dksX8_areUnfit_0 17 rfl rfl)
theorem dX8_areUnfit_20 : decode cX8_areUnfit 20 = .ok (.ifCond .le 7, 3) := dk_158 0 7 (dk_at dksX8_areUnfit_0 20 rfl rfl)
theorem dX8_areUnfit_23 : decode cX8_areUnfit 23 = .ok (.iconst 1, 1) := dk_4 (dk_at dksX8_areUnfit_0 23 rfl rfl)
theorem dX8_areUnfit_24 : decode cX8_areUnfit 24 = .ok (.goto 4, 3) := dk_167 0 4 (dk_at dksX8_areUnfit_1 0 rfl rfl)
theorem dX8_areUnfit_27 : decode cX8_areUnfit 27 = .ok (.iconst 0, 1) := dk_3 (dk_at dksX8_areUnfit_1 3 rfl rfl)
theorem dX8_areUnfit_28 : decode cX8_areUnfit 28 = .ok (.ireturn, 1) := dk_172 (dk_at dksX8_areUnfit_1 4 rfl rfl)
abbrev cX8_wrongAt : ByteArray := prog_18_method_49_code
def yX8_wrongAt : MethodName := ⟨RX8, "wrongAt", "(II)I"⟩
def dkwX8_wrongAt_0 : List UInt8 := [42, 42, 27, 3, 182, 1, 0, 42, 27, 5, 182, 1, 0, 28, 182, 1, 9, 172]
abbrev dktX8_wrongAt_0 : List UInt8 := dkwX8_wrongAt_0 ++ []
theorem dksX8_wrongAt_0 : cX8_wrongAt.data.toList.drop 0 = dktX8_wrongAt_0 := by decide +kernel
theorem dX8_wrongAt_0 : decode cX8_wrongAt 0 = .ok (.aload_n 0, 1) := dk_42 (dk_at dksX8_wrongAt_0 0 rfl rfl)
theorem dX8_wrongAt_1 : decode cX8_wrongAt 1 = .ok (.aload_n 0, 1) := dk_42 (dk_at dksX8_wrongAt_0 1 rfl rfl)
theorem dX8_wrongAt_2 : decode cX8_wrongAt 2 = .ok (.iload_n 1, 1) := dk_27 (dk_at dksX8_wrongAt_0 2 rfl rfl)
theorem dX8_wrongAt_3 : decode cX8_wrongAt 3 = .ok (.iconst 0, 1) := dk_3 (dk_at dksX8_wrongAt_0 3 rfl rfl)
theorem dX8_wrongAt_4 : decode cX8_wrongAt 4 = .ok (.invokevirtual 256, 3) := dk_182 1 0 (dk_at dksX8_wrongAt_0 4 rfl rfl)
theorem dX8_wrongAt_7 : decode cX8_wrongAt 7 = .ok (.aload_n 0, 1) := dk_42 (dk_at dksX8_wrongAt_0 7 rfl rfl)
theorem dX8_wrongAt_8 : decode cX8_wrongAt 8 = .ok (.iload_n 1, 1) := dk_27 (dk_at dksX8_wrongAt_0 8 rfl rfl)
theorem dX8_wrongAt_9 : decode cX8_wrongAt 9 = .ok (.iconst 2, 1) := dk_5 (dk_at dksX8_wrongAt_0 9 rfl rfl)
theorem dX8_wrongAt_10 : decode cX8_wrongAt 10 = .ok (.invokevirtual 256, 3) := dk_182 1 0 (dk_at dksX8_wrongAt_0 10 rfl rfl)
theorem dX8_wrongAt_13 : decode cX8_wrongAt 13 = .ok (.iload_n 2, 1) := dk_28 (dk_at dksX8_wrongAt_0 13 rfl rfl)
theorem dX8_wrongAt_14 : decode cX8_wrongAt 14 = .ok (.invokevirtual 265, 3) := dk_182 1 9 (dk_at dksX8_wrongAt_0 14 rfl rfl)
theorem dX8_wrongAt_17 : decode cX8_wrongAt 17 = .ok (.ireturn, 1) := dk_172 (dk_at dksX8_wrongAt_0 17 rfl rfl)
abbrev cX8_keepSale : ByteArray := prog_18_method_64_code
def yX8_keepSale : MethodName := ⟨RX8, "keepSale", "(IIIIII)V"⟩
def dkwX8_keepSale_4 : List UInt8 := [180, 0, 13, 16, 113, 92, 46, 4, 96, 79, 177]
abbrev dktX8_keepSale_4 : List UInt8 := dkwX8_keepSale_4 ++ []
def dkwX8_keepSale_3 : List UInt8 := [180, 0, 13, 21, 7, 8, 96, 21, 5, 79, 42, 180, 0, 13, 21, 7, 16, 6, 96, 21, 6, 79, 42]
abbrev dktX8_keepSale_3 : List UInt8 := dkwX8_keepSale_3 ++ dktX8_keepSale_4
def dkwX8_keepSale_2 : List UInt8 := [21, 7, 6, 96, 21, 4, 79, 42, 180, 0, 13, 21, 7, 7, 96, 42, 180, 0, 13, 16, 109, 46, 79, 42]
abbrev dktX8_keepSale_2 : List UInt8 := dkwX8_keepSale_2 ++ dktX8_keepSale_3
def dkwX8_keepSale_1 : List UInt8 := [42, 180, 0, 13, 21, 7, 4, 96, 28, 79, 42, 180, 0, 13, 21, 7, 5, 96, 29, 79, 42, 180, 0, 13]
abbrev dktX8_keepSale_1 : List UInt8 := dkwX8_keepSale_1 ++ dktX8_keepSale_2
def dkwX8_keepSale_0 : List UInt8 := [17, 17, 48, 16, 7, 42, 180, 0, 13, 16, 113, 46, 104, 96, 54, 7, 42, 180, 0, 13, 21, 7, 27, 79]
abbrev dktX8_keepSale_0 : List UInt8 := dkwX8_keepSale_0 ++ dktX8_keepSale_1
theorem dksX8_keepSale_0 : cX8_keepSale.data.toList.drop 0 = dktX8_keepSale_0 := by decide +kernel
theorem dksX8_keepSale_1 : cX8_keepSale.data.toList.drop 24 = dktX8_keepSale_1 := dk_seg dksX8_keepSale_0 24 rfl rfl
theorem dksX8_keepSale_2 : cX8_keepSale.data.toList.drop 48 = dktX8_keepSale_2 := dk_seg dksX8_keepSale_1 24 rfl rfl
theorem dksX8_keepSale_3 : cX8_keepSale.data.toList.drop 72 = dktX8_keepSale_3 := dk_seg dksX8_keepSale_2 24 rfl rfl
theorem dksX8_keepSale_4 : cX8_keepSale.data.toList.drop 95 = dktX8_keepSale_4 := dk_seg dksX8_keepSale_3 23 rfl rfl
theorem dX8_keepSale_0 : decode cX8_keepSale 0 = .ok (.sipush 4400, 3) := dk_17 17 48 (dk_at dksX8_keepSale_0 0 rfl rfl)
theorem dX8_keepSale_3 : decode cX8_keepSale 3 = .ok (.bipush 7, 2) := dk_16 7 (dk_at dksX8_keepSale_0 3 rfl rfl)
theorem dX8_keepSale_5 : decode cX8_keepSale 5 = .ok (.aload_n 0, 1) := dk_42 (dk_at dksX8_keepSale_0 5 rfl rfl)
theorem dX8_keepSale_6 : decode cX8_keepSale 6 = .ok (.getfield 13, 3) := dk_180 0 13 (dk_at dksX8_keepSale_0 6 rfl rfl)
theorem dX8_keepSale_9 : decode cX8_keepSale 9 = .ok (.bipush 113, 2) := dk_16 113 (dk_at dksX8_keepSale_0 9 rfl rfl)
theorem dX8_keepSale_11 : decode cX8_keepSale 11 = .ok (.iaload, 1) := dk_46 (dk_at dksX8_keepSale_0 11 rfl rfl)
theorem dX8_keepSale_12 : decode cX8_keepSale 12 = .ok (.imul, 1) := dk_104 (dk_at dksX8_keepSale_0 12 rfl rfl)
theorem dX8_keepSale_13 : decode cX8_keepSale 13 = .ok (.iadd, 1) := dk_96 (dk_at dksX8_keepSale_0 13 rfl rfl)
theorem dX8_keepSale_14 : decode cX8_keepSale 14 = .ok (.istore 7, 2) := dk_54 7 (dk_at dksX8_keepSale_0 14 rfl rfl)
theorem dX8_keepSale_16 : decode cX8_keepSale 16 = .ok (.aload_n 0, 1) := dk_42 (dk_at dksX8_keepSale_0 16 rfl rfl)
theorem dX8_keepSale_17 : decode cX8_keepSale 17 = .ok (.getfield 13, 3) := dk_180 0 13 (dk_at dksX8_keepSale_0 17 rfl rfl)
theorem dX8_keepSale_20 : decode cX8_keepSale 20 = .ok (.iload 7, 2) := dk_21 7 (dk_at dksX8_keepSale_0 20 rfl rfl)
theorem dX8_keepSale_22 : decode cX8_keepSale 22 = .ok (.iload_n 1, 1) := dk_27 (dk_at dksX8_keepSale_0 22 rfl rfl)
theorem dX8_keepSale_23 : decode cX8_keepSale 23 = .ok (.iastore, 1) := dk_79 (dk_at dksX8_keepSale_0 23 rfl rfl)
theorem dX8_keepSale_24 : decode cX8_keepSale 24 = .ok (.aload_n 0, 1) := dk_42 (dk_at dksX8_keepSale_1 0 rfl rfl)
theorem dX8_keepSale_25 : decode cX8_keepSale 25 = .ok (.getfield 13, 3) := dk_180 0 13 (dk_at dksX8_keepSale_1 1 rfl rfl)
theorem dX8_keepSale_28 : decode cX8_keepSale 28 = .ok (.iload 7, 2) := dk_21 7 (dk_at dksX8_keepSale_1 4 rfl rfl)
theorem dX8_keepSale_30 : decode cX8_keepSale 30 = .ok (.iconst 1, 1) := dk_4 (dk_at dksX8_keepSale_1 6 rfl rfl)
theorem dX8_keepSale_31 : decode cX8_keepSale 31 = .ok (.iadd, 1) := dk_96 (dk_at dksX8_keepSale_1 7 rfl rfl)
theorem dX8_keepSale_32 : decode cX8_keepSale 32 = .ok (.iload_n 2, 1) := dk_28 (dk_at dksX8_keepSale_1 8 rfl rfl)
theorem dX8_keepSale_33 : decode cX8_keepSale 33 = .ok (.iastore, 1) := dk_79 (dk_at dksX8_keepSale_1 9 rfl rfl)
theorem dX8_keepSale_34 : decode cX8_keepSale 34 = .ok (.aload_n 0, 1) := dk_42 (dk_at dksX8_keepSale_1 10 rfl rfl)
theorem dX8_keepSale_35 : decode cX8_keepSale 35 = .ok (.getfield 13, 3) := dk_180 0 13 (dk_at dksX8_keepSale_1 11 rfl rfl)
theorem dX8_keepSale_38 : decode cX8_keepSale 38 = .ok (.iload 7, 2) := dk_21 7 (dk_at dksX8_keepSale_1 14 rfl rfl)
theorem dX8_keepSale_40 : decode cX8_keepSale 40 = .ok (.iconst 2, 1) := dk_5 (dk_at dksX8_keepSale_1 16 rfl rfl)
theorem dX8_keepSale_41 : decode cX8_keepSale 41 = .ok (.iadd, 1) := dk_96 (dk_at dksX8_keepSale_1 17 rfl rfl)
theorem dX8_keepSale_42 : decode cX8_keepSale 42 = .ok (.iload_n 3, 1) := dk_29 (dk_at dksX8_keepSale_1 18 rfl rfl)
theorem dX8_keepSale_43 : decode cX8_keepSale 43 = .ok (.iastore, 1) := dk_79 (dk_at dksX8_keepSale_1 19 rfl rfl)
theorem dX8_keepSale_44 : decode cX8_keepSale 44 = .ok (.aload_n 0, 1) := dk_42 (dk_at dksX8_keepSale_1 20 rfl rfl)
theorem dX8_keepSale_45 : decode cX8_keepSale 45 = .ok (.getfield 13, 3) := dk_180 0 13 (dk_at dksX8_keepSale_1 21 rfl rfl)
theorem dX8_keepSale_48 : decode cX8_keepSale 48 = .ok (.iload 7, 2) := dk_21 7 (dk_at dksX8_keepSale_2 0 rfl rfl)
theorem dX8_keepSale_50 : decode cX8_keepSale 50 = .ok (.iconst 3, 1) := dk_6 (dk_at dksX8_keepSale_2 2 rfl rfl)
theorem dX8_keepSale_51 : decode cX8_keepSale 51 = .ok (.iadd, 1) := dk_96 (dk_at dksX8_keepSale_2 3 rfl rfl)
theorem dX8_keepSale_52 : decode cX8_keepSale 52 = .ok (.iload 4, 2) := dk_21 4 (dk_at dksX8_keepSale_2 4 rfl rfl)
theorem dX8_keepSale_54 : decode cX8_keepSale 54 = .ok (.iastore, 1) := dk_79 (dk_at dksX8_keepSale_2 6 rfl rfl)
theorem dX8_keepSale_55 : decode cX8_keepSale 55 = .ok (.aload_n 0, 1) := dk_42 (dk_at dksX8_keepSale_2 7 rfl rfl)
theorem dX8_keepSale_56 : decode cX8_keepSale 56 = .ok (.getfield 13, 3) := dk_180 0 13 (dk_at dksX8_keepSale_2 8 rfl rfl)
theorem dX8_keepSale_59 : decode cX8_keepSale 59 = .ok (.iload 7, 2) := dk_21 7 (dk_at dksX8_keepSale_2 11 rfl rfl)
theorem dX8_keepSale_61 : decode cX8_keepSale 61 = .ok (.iconst 4, 1) := dk_7 (dk_at dksX8_keepSale_2 13 rfl rfl)
theorem dX8_keepSale_62 : decode cX8_keepSale 62 = .ok (.iadd, 1) := dk_96 (dk_at dksX8_keepSale_2 14 rfl rfl)
theorem dX8_keepSale_63 : decode cX8_keepSale 63 = .ok (.aload_n 0, 1) := dk_42 (dk_at dksX8_keepSale_2 15 rfl rfl)
theorem dX8_keepSale_64 : decode cX8_keepSale 64 = .ok (.getfield 13, 3) := dk_180 0 13 (dk_at dksX8_keepSale_2 16 rfl rfl)
theorem dX8_keepSale_67 : decode cX8_keepSale 67 = .ok (.bipush 109, 2) := dk_16 109 (dk_at dksX8_keepSale_2 19 rfl rfl)
theorem dX8_keepSale_69 : decode cX8_keepSale 69 = .ok (.iaload, 1) := dk_46 (dk_at dksX8_keepSale_2 21 rfl rfl)
theorem dX8_keepSale_70 : decode cX8_keepSale 70 = .ok (.iastore, 1) := dk_79 (dk_at dksX8_keepSale_2 22 rfl rfl)
theorem dX8_keepSale_71 : decode cX8_keepSale 71 = .ok (.aload_n 0, 1) := dk_42 (dk_at dksX8_keepSale_2 23 rfl rfl)
theorem dX8_keepSale_72 : decode cX8_keepSale 72 = .ok (.getfield 13, 3) := dk_180 0 13 (dk_at dksX8_keepSale_3 0 rfl rfl)
theorem dX8_keepSale_75 : decode cX8_keepSale 75 = .ok (.iload 7, 2) := dk_21 7 (dk_at dksX8_keepSale_3 3 rfl rfl)
theorem dX8_keepSale_77 : decode cX8_keepSale 77 = .ok (.iconst 5, 1) := dk_8 (dk_at dksX8_keepSale_3 5 rfl rfl)
theorem dX8_keepSale_78 : decode cX8_keepSale 78 = .ok (.iadd, 1) := dk_96 (dk_at dksX8_keepSale_3 6 rfl rfl)
theorem dX8_keepSale_79 : decode cX8_keepSale 79 = .ok (.iload 5, 2) := dk_21 5 (dk_at dksX8_keepSale_3 7 rfl rfl)
theorem dX8_keepSale_81 : decode cX8_keepSale 81 = .ok (.iastore, 1) := dk_79 (dk_at dksX8_keepSale_3 9 rfl rfl)
theorem dX8_keepSale_82 : decode cX8_keepSale 82 = .ok (.aload_n 0, 1) := dk_42 (dk_at dksX8_keepSale_3 10 rfl rfl)
theorem dX8_keepSale_83 : decode cX8_keepSale 83 = .ok (.getfield 13, 3) := dk_180 0 13 (dk_at dksX8_keepSale_3 11 rfl rfl)
theorem dX8_keepSale_86 : decode cX8_keepSale 86 = .ok (.iload 7, 2) := dk_21 7 (dk_at dksX8_keepSale_3 14 rfl rfl)
theorem dX8_keepSale_88 : decode cX8_keepSale 88 = .ok (.bipush 6, 2) := dk_16 6 (dk_at dksX8_keepSale_3 16 rfl rfl)
theorem dX8_keepSale_90 : decode cX8_keepSale 90 = .ok (.iadd, 1) := dk_96 (dk_at dksX8_keepSale_3 18 rfl rfl)
theorem dX8_keepSale_91 : decode cX8_keepSale 91 = .ok (.iload 6, 2) := dk_21 6 (dk_at dksX8_keepSale_3 19 rfl rfl)
theorem dX8_keepSale_93 : decode cX8_keepSale 93 = .ok (.iastore, 1) := dk_79 (dk_at dksX8_keepSale_3 21 rfl rfl)
theorem dX8_keepSale_94 : decode cX8_keepSale 94 = .ok (.aload_n 0, 1) := dk_42 (dk_at dksX8_keepSale_3 22 rfl rfl)
theorem dX8_keepSale_95 : decode cX8_keepSale 95 = .ok (.getfield 13, 3) := dk_180 0 13 (dk_at dksX8_keepSale_4 0 rfl rfl)
theorem dX8_keepSale_98 : decode cX8_keepSale 98 = .ok (.bipush 113, 2) := dk_16 113 (dk_at dksX8_keepSale_4 3 rfl rfl)
theorem dX8_keepSale_100 : decode cX8_keepSale 100 = .ok (.dup2, 1) := dk_92 (dk_at dksX8_keepSale_4 5 rfl rfl)
theorem dX8_keepSale_101 : decode cX8_keepSale 101 = .ok (.iaload, 1) := dk_46 (dk_at dksX8_keepSale_4 6 rfl rfl)
theorem dX8_keepSale_102 : decode cX8_keepSale 102 = .ok (.iconst 1, 1) := dk_4 (dk_at dksX8_keepSale_4 7 rfl rfl)
theorem dX8_keepSale_103 : decode cX8_keepSale 103 = .ok (.iadd, 1) := dk_96 (dk_at dksX8_keepSale_4 8 rfl rfl)
theorem dX8_keepSale_104 : decode cX8_keepSale 104 = .ok (.iastore, 1) := dk_79 (dk_at dksX8_keepSale_4 9 rfl rfl)
theorem dX8_keepSale_105 : decode cX8_keepSale 105 = .ok (.return_, 1) := dk_177 (dk_at dksX8_keepSale_4 10 rfl rfl)
abbrev cX8_sales : ByteArray := prog_18_method_67_code
def yX8_sales : MethodName := ⟨RX8, "sales", "()I"⟩
def dkwX8_sales_0 : List UInt8 := [42, 3, 181, 0, 83, 42, 180, 0, 13, 16, 113, 46, 172]
abbrev dktX8_sales_0 : List UInt8 := dkwX8_sales_0 ++ []
theorem dksX8_sales_0 : cX8_sales.data.toList.drop 0 = dktX8_sales_0 := by decide +kernel
theorem dX8_sales_0 : decode cX8_sales 0 = .ok (.aload_n 0, 1) := dk_42 (dk_at dksX8_sales_0 0 rfl rfl)
theorem dX8_sales_1 : decode cX8_sales 1 = .ok (.iconst 0, 1) := dk_3 (dk_at dksX8_sales_0 1 rfl rfl)
theorem dX8_sales_2 : decode cX8_sales 2 = .ok (.putfield 83, 3) := dk_181 0 83 (dk_at dksX8_sales_0 2 rfl rfl)
theorem dX8_sales_5 : decode cX8_sales 5 = .ok (.aload_n 0, 1) := dk_42 (dk_at dksX8_sales_0 5 rfl rfl)
theorem dX8_sales_6 : decode cX8_sales 6 = .ok (.getfield 13, 3) := dk_180 0 13 (dk_at dksX8_sales_0 6 rfl rfl)
theorem dX8_sales_9 : decode cX8_sales 9 = .ok (.bipush 113, 2) := dk_16 113 (dk_at dksX8_sales_0 9 rfl rfl)
theorem dX8_sales_11 : decode cX8_sales 11 = .ok (.iaload, 1) := dk_46 (dk_at dksX8_sales_0 11 rfl rfl)
theorem dX8_sales_12 : decode cX8_sales 12 = .ok (.ireturn, 1) := dk_172 (dk_at dksX8_sales_0 12 rfl rfl)
abbrev cX8_sold : ByteArray := prog_18_method_68_code
def yX8_sold : MethodName := ⟨RX8, "sold", "(II)I"⟩
def dkwX8_sold_2 : List UInt8 := [96, 28, 96, 46, 172]
abbrev dktX8_sold_2 : List UInt8 := dkwX8_sold_2 ++ []
def dkwX8_sold_1 : List UInt8 := [154, 0, 8, 42, 182, 0, 246, 172, 42, 3, 181, 0, 83, 42, 180, 0, 13, 17, 17, 48, 16, 7, 27, 104]
abbrev dktX8_sold_1 : List UInt8 := dkwX8_sold_1 ++ dktX8_sold_2
def dkwX8_sold_0 : List UInt8 := [27, 155, 0, 24, 27, 42, 180, 0, 13, 16, 113, 46, 162, 0, 13, 28, 3, 16, 6, 184, 0, 154]
abbrev dktX8_sold_0 : List UInt8 := dkwX8_sold_0 ++ dktX8_sold_1
theorem dksX8_sold_0 : cX8_sold.data.toList.drop 0 = dktX8_sold_0 := by decide +kernel
theorem dksX8_sold_1 : cX8_sold.data.toList.drop 22 = dktX8_sold_1 := dk_seg dksX8_sold_0 22 rfl rfl
theorem dksX8_sold_2 : cX8_sold.data.toList.drop 46 = dktX8_sold_2 := dk_seg dksX8_sold_1 24 rfl rfl
theorem dX8_sold_0 : decode cX8_sold 0 = .ok (.iload_n 1, 1) := dk_27 (dk_at dksX8_sold_0 0 rfl rfl)
theorem dX8_sold_1 : decode cX8_sold 1 = .ok (.ifCond .lt 24, 3) := dk_155 0 24 (dk_at dksX8_sold_0 1 rfl rfl)
theorem dX8_sold_4 : decode cX8_sold 4 = .ok (.iload_n 1, 1) := dk_27 (dk_at dksX8_sold_0 4 rfl rfl)
theorem dX8_sold_5 : decode cX8_sold 5 = .ok (.aload_n 0, 1) := dk_42 (dk_at dksX8_sold_0 5 rfl rfl)
theorem dX8_sold_6 : decode cX8_sold 6 = .ok (.getfield 13, 3) := dk_180 0 13 (dk_at dksX8_sold_0 6 rfl rfl)
theorem dX8_sold_9 : decode cX8_sold 9 = .ok (.bipush 113, 2) := dk_16 113 (dk_at dksX8_sold_0 9 rfl rfl)
theorem dX8_sold_11 : decode cX8_sold 11 = .ok (.iaload, 1) := dk_46 (dk_at dksX8_sold_0 11 rfl rfl)
theorem dX8_sold_12 : decode cX8_sold 12 = .ok (.if_icmp .ge 13, 3) := dk_162 0 13 (dk_at dksX8_sold_0 12 rfl rfl)
theorem dX8_sold_15 : decode cX8_sold 15 = .ok (.iload_n 2, 1) := dk_28 (dk_at dksX8_sold_0 15 rfl rfl)
theorem dX8_sold_16 : decode cX8_sold 16 = .ok (.iconst 0, 1) := dk_3 (dk_at dksX8_sold_0 16 rfl rfl)
theorem dX8_sold_17 : decode cX8_sold 17 = .ok (.bipush 6, 2) := dk_16 6 (dk_at dksX8_sold_0 17 rfl rfl)
theorem dX8_sold_19 : decode cX8_sold 19 = .ok (.invokestatic 154, 3) := dk_184 0 154 (dk_at dksX8_sold_0 19 rfl rfl)
theorem dX8_sold_22 : decode cX8_sold 22 = .ok (.ifCond .ne 8, 3) := dk_154 0 8 (dk_at dksX8_sold_1 0 rfl rfl)
theorem dX8_sold_25 : decode cX8_sold 25 = .ok (.aload_n 0, 1) := dk_42 (dk_at dksX8_sold_1 3 rfl rfl)
theorem dX8_sold_26 : decode cX8_sold 26 = .ok (.invokevirtual 246, 3) := dk_182 0 246 (dk_at dksX8_sold_1 4 rfl rfl)
theorem dX8_sold_29 : decode cX8_sold 29 = .ok (.ireturn, 1) := dk_172 (dk_at dksX8_sold_1 7 rfl rfl)
theorem dX8_sold_30 : decode cX8_sold 30 = .ok (.aload_n 0, 1) := dk_42 (dk_at dksX8_sold_1 8 rfl rfl)
theorem dX8_sold_31 : decode cX8_sold 31 = .ok (.iconst 0, 1) := dk_3 (dk_at dksX8_sold_1 9 rfl rfl)
theorem dX8_sold_32 : decode cX8_sold 32 = .ok (.putfield 83, 3) := dk_181 0 83 (dk_at dksX8_sold_1 10 rfl rfl)
theorem dX8_sold_35 : decode cX8_sold 35 = .ok (.aload_n 0, 1) := dk_42 (dk_at dksX8_sold_1 13 rfl rfl)
theorem dX8_sold_36 : decode cX8_sold 36 = .ok (.getfield 13, 3) := dk_180 0 13 (dk_at dksX8_sold_1 14 rfl rfl)
theorem dX8_sold_39 : decode cX8_sold 39 = .ok (.sipush 4400, 3) := dk_17 17 48 (dk_at dksX8_sold_1 17 rfl rfl)
theorem dX8_sold_42 : decode cX8_sold 42 = .ok (.bipush 7, 2) := dk_16 7 (dk_at dksX8_sold_1 20 rfl rfl)
theorem dX8_sold_44 : decode cX8_sold 44 = .ok (.iload_n 1, 1) := dk_27 (dk_at dksX8_sold_1 22 rfl rfl)
theorem dX8_sold_45 : decode cX8_sold 45 = .ok (.imul, 1) := dk_104 (dk_at dksX8_sold_1 23 rfl rfl)
theorem dX8_sold_46 : decode cX8_sold 46 = .ok (.iadd, 1) := dk_96 (dk_at dksX8_sold_2 0 rfl rfl)
theorem dX8_sold_47 : decode cX8_sold 47 = .ok (.iload_n 2, 1) := dk_28 (dk_at dksX8_sold_2 1 rfl rfl)
theorem dX8_sold_48 : decode cX8_sold 48 = .ok (.iadd, 1) := dk_96 (dk_at dksX8_sold_2 2 rfl rfl)
theorem dX8_sold_49 : decode cX8_sold 49 = .ok (.iaload, 1) := dk_46 (dk_at dksX8_sold_2 3 rfl rfl)
theorem dX8_sold_50 : decode cX8_sold 50 = .ok (.ireturn, 1) := dk_172 (dk_at dksX8_sold_2 4 rfl rfl)
abbrev cX8_payment : ByteArray := prog_18_method_74_code
def yX8_payment : MethodName := ⟨RX8, "payment", "(IIII)I"⟩
def dkwX8_payment_1 : List UInt8 := [155, 0, 7, 42, 182, 1, 69, 21, 5, 172]
abbrev dktX8_payment_1 : List UInt8 := dkwX8_payment_1 ++ []
def dkwX8_payment_0 : List UInt8 := [42, 3, 181, 0, 83, 42, 182, 0, 167, 42, 27, 28, 29, 21, 4, 182, 1, 65, 54, 5, 21, 5]
abbrev dktX8_payment_0 : List UInt8 := dkwX8_payment_0 ++ dktX8_payment_1
theorem dksX8_payment_0 : cX8_payment.data.toList.drop 0 = dktX8_payment_0 := by decide +kernel
theorem dksX8_payment_1 : cX8_payment.data.toList.drop 22 = dktX8_payment_1 := dk_seg dksX8_payment_0 22 rfl rfl
theorem dX8_payment_0 : decode cX8_payment 0 = .ok (.aload_n 0, 1) := dk_42 (dk_at dksX8_payment_0 0 rfl rfl)
theorem dX8_payment_1 : decode cX8_payment 1 = .ok (.iconst 0, 1) := dk_3 (dk_at dksX8_payment_0 1 rfl rfl)
theorem dX8_payment_2 : decode cX8_payment 2 = .ok (.putfield 83, 3) := dk_181 0 83 (dk_at dksX8_payment_0 2 rfl rfl)
theorem dX8_payment_5 : decode cX8_payment 5 = .ok (.aload_n 0, 1) := dk_42 (dk_at dksX8_payment_0 5 rfl rfl)
theorem dX8_payment_6 : decode cX8_payment 6 = .ok (.invokevirtual 167, 3) := dk_182 0 167 (dk_at dksX8_payment_0 6 rfl rfl)
theorem dX8_payment_9 : decode cX8_payment 9 = .ok (.aload_n 0, 1) := dk_42 (dk_at dksX8_payment_0 9 rfl rfl)
theorem dX8_payment_10 : decode cX8_payment 10 = .ok (.iload_n 1, 1) := dk_27 (dk_at dksX8_payment_0 10 rfl rfl)
theorem dX8_payment_11 : decode cX8_payment 11 = .ok (.iload_n 2, 1) := dk_28 (dk_at dksX8_payment_0 11 rfl rfl)
theorem dX8_payment_12 : decode cX8_payment 12 = .ok (.iload_n 3, 1) := dk_29 (dk_at dksX8_payment_0 12 rfl rfl)
theorem dX8_payment_13 : decode cX8_payment 13 = .ok (.iload 4, 2) := dk_21 4 (dk_at dksX8_payment_0 13 rfl rfl)
theorem dX8_payment_15 : decode cX8_payment 15 = .ok (.invokevirtual 321, 3) := dk_182 1 65 (dk_at dksX8_payment_0 15 rfl rfl)
theorem dX8_payment_18 : decode cX8_payment 18 = .ok (.istore 5, 2) := dk_54 5 (dk_at dksX8_payment_0 18 rfl rfl)
theorem dX8_payment_20 : decode cX8_payment 20 = .ok (.iload 5, 2) := dk_21 5 (dk_at dksX8_payment_0 20 rfl rfl)
theorem dX8_payment_22 : decode cX8_payment 22 = .ok (.ifCond .lt 7, 3) := dk_155 0 7 (dk_at dksX8_payment_1 0 rfl rfl)
theorem dX8_payment_25 : decode cX8_payment 25 = .ok (.aload_n 0, 1) := dk_42 (dk_at dksX8_payment_1 3 rfl rfl)
theorem dX8_payment_26 : decode cX8_payment 26 = .ok (.invokevirtual 325, 3) := dk_182 1 69 (dk_at dksX8_payment_1 4 rfl rfl)
theorem dX8_payment_29 : decode cX8_payment 29 = .ok (.iload 5, 2) := dk_21 5 (dk_at dksX8_payment_1 7 rfl rfl)
theorem dX8_payment_31 : decode cX8_payment 31 = .ok (.ireturn, 1) := dk_172 (dk_at dksX8_payment_1 9 rfl rfl)
abbrev cX8_layPayment : ByteArray := prog_18_method_70_code
def yX8_layPayment : MethodName := ⟨RX8, "layPayment", "(IIII)I"⟩
def dkwX8_layPayment_17 : List UInt8 := [180, 0, 49, 21, 4, 46, 16, 16, 108, 172]
abbrev dktX8_layPayment_17 : List UInt8 := dkwX8_layPayment_17 ++ []
def dkwX8_layPayment_16 : List UInt8 := [16, 6, 21, 8, 104, 21, 9, 96, 46, 100, 167, 0, 4, 3, 54, 7, 132, 8, 1, 167, 255, 155, 42]
abbrev dktX8_layPayment_16 : List UInt8 := dkwX8_layPayment_16 ++ dktX8_layPayment_17
def dkwX8_layPayment_15 : List UInt8 := [21, 7, 42, 180, 0, 46, 16, 6, 21, 8, 104, 21, 9, 96, 46, 164, 0, 22, 21, 7, 42, 180, 0, 46]
abbrev dktX8_layPayment_15 : List UInt8 := dkwX8_layPayment_15 ++ dktX8_layPayment_16
def dkwX8_layPayment_14 : List UInt8 := [159, 0, 9, 132, 9, 1, 167, 255, 227, 42, 180, 0, 55, 21, 8, 21, 9, 79, 21, 9, 158, 0, 43]
abbrev dktX8_layPayment_14 : List UInt8 := dkwX8_layPayment_14 ++ dktX8_layPayment_15
def dkwX8_layPayment_13 : List UInt8 := [42, 21, 8, 21, 7, 21, 9, 182, 1, 62, 42, 180, 0, 49, 21, 6, 21, 8, 104, 21, 7, 96, 46]
abbrev dktX8_layPayment_13 : List UInt8 := dkwX8_layPayment_13 ++ dktX8_layPayment_14
def dkwX8_layPayment_12 : List UInt8 := [161, 0, 5, 2, 172, 21, 4, 54, 7, 3, 54, 8, 21, 8, 42, 180, 1, 51, 162, 0, 98, 3, 54, 9]
abbrev dktX8_layPayment_12 : List UInt8 := dkwX8_layPayment_12 ++ dktX8_layPayment_13
def dkwX8_layPayment_11 : List UInt8 := [132, 8, 1, 167, 255, 225, 132, 7, 255, 167, 255, 211, 42, 180, 0, 49, 21, 4, 46, 19, 1, 58]
abbrev dktX8_layPayment_11 : List UInt8 := dkwX8_layPayment_11 ++ dktX8_layPayment_12
def dkwX8_layPayment_10 : List UInt8 := [163, 0, 30, 42, 180, 0, 49, 21, 6, 21, 7, 104, 21, 8, 96, 42, 21, 7, 21, 8, 182, 1, 59, 79]
abbrev dktX8_layPayment_10 : List UInt8 := dkwX8_layPayment_10 ++ dktX8_layPayment_11
def dkwX8_layPayment_9 : List UInt8 := [167, 255, 219, 42, 180, 1, 51, 4, 100, 54, 7, 21, 7, 155, 0, 46, 3, 54, 8, 21, 8, 21, 4]
abbrev dktX8_layPayment_9 : List UInt8 := dkwX8_layPayment_9 ++ dktX8_layPayment_10
def dkwX8_layPayment_8 : List UInt8 := [42, 180, 1, 51, 104, 21, 7, 96, 21, 7, 154, 0, 7, 3, 167, 0, 6, 19, 1, 58, 79, 132, 7, 1]
abbrev dktX8_layPayment_8 : List UInt8 := dkwX8_layPayment_8 ++ dktX8_layPayment_9
def dkwX8_layPayment_7 : List UInt8 := [167, 255, 152, 17, 7, 209, 54, 6, 3, 54, 7, 21, 7, 21, 4, 163, 0, 36, 42, 180, 0, 49, 21, 6]
abbrev dktX8_layPayment_7 : List UInt8 := dkwX8_layPayment_7 ++ dktX8_layPayment_8
def dkwX8_layPayment_6 : List UInt8 := [182, 1, 54, 79, 132, 7, 1, 167, 255, 214, 42, 89, 180, 1, 51, 4, 96, 181, 1, 51, 132, 6, 1]
abbrev dktX8_layPayment_6 : List UInt8 := dkwX8_layPayment_6 ++ dktX8_layPayment_7
def dkwX8_layPayment_5 : List UInt8 := [42, 180, 0, 46, 16, 6, 42, 180, 1, 51, 104, 21, 7, 96, 42, 21, 6, 21, 7, 27, 28, 29, 21, 5]
abbrev dktX8_layPayment_5 : List UInt8 := dkwX8_layPayment_5 ++ dktX8_layPayment_6
def dkwX8_layPayment_4 : List UInt8 := [180, 0, 43, 42, 180, 1, 51, 21, 6, 79, 4, 54, 7, 21, 7, 5, 42, 182, 0, 185, 96, 162, 0, 37]
abbrev dktX8_layPayment_4 : List UInt8 := dkwX8_layPayment_4 ++ dktX8_layPayment_5
def dkwX8_layPayment_3 : List UInt8 := [180, 1, 51, 16, 12, 162, 0, 92, 42, 21, 6, 4, 182, 1, 0, 27, 159, 0, 6, 167, 0, 72, 42]
abbrev dktX8_layPayment_3 : List UInt8 := dkwX8_layPayment_3 ++ dktX8_layPayment_4
def dkwX8_layPayment_2 : List UInt8 := [42, 182, 1, 32, 54, 5, 42, 3, 181, 1, 51, 3, 54, 6, 21, 6, 42, 182, 0, 188, 162, 0, 101, 42]
abbrev dktX8_layPayment_2 : List UInt8 := dkwX8_layPayment_2 ++ dktX8_layPayment_3
def dkwX8_layPayment_1 : List UInt8 := [21, 4, 4, 17, 7, 208, 184, 0, 154, 153, 0, 12, 42, 27, 28, 182, 1, 41, 153, 0, 6, 16, 254, 172]
abbrev dktX8_layPayment_1 : List UInt8 := dkwX8_layPayment_1 ++ dktX8_layPayment_2
def dkwX8_layPayment_0 : List UInt8 := [42, 27, 182, 0, 243, 153, 0, 40, 42, 28, 182, 0, 243, 153, 0, 32, 42, 29, 182, 1, 3, 153, 0, 24]
abbrev dktX8_layPayment_0 : List UInt8 := dkwX8_layPayment_0 ++ dktX8_layPayment_1
theorem dksX8_layPayment_0 : cX8_layPayment.data.toList.drop 0 = dktX8_layPayment_0 := by decide +kernel
theorem dksX8_layPayment_1 : cX8_layPayment.data.toList.drop 24 = dktX8_layPayment_1 := dk_seg dksX8_layPayment_0 24 rfl rfl
theorem dksX8_layPayment_2 : cX8_layPayment.data.toList.drop 48 = dktX8_layPayment_2 := dk_seg dksX8_layPayment_1 24 rfl rfl
theorem dksX8_layPayment_3 : cX8_layPayment.data.toList.drop 72 = dktX8_layPayment_3 := dk_seg dksX8_layPayment_2 24 rfl rfl
theorem dksX8_layPayment_4 : cX8_layPayment.data.toList.drop 95 = dktX8_layPayment_4 := dk_seg dksX8_layPayment_3 23 rfl rfl
theorem dksX8_layPayment_5 : cX8_layPayment.data.toList.drop 119 = dktX8_layPayment_5 := dk_seg dksX8_layPayment_4 24 rfl rfl
theorem dksX8_layPayment_6 : cX8_layPayment.data.toList.drop 143 = dktX8_layPayment_6 := dk_seg dksX8_layPayment_5 24 rfl rfl
theorem dksX8_layPayment_7 : cX8_layPayment.data.toList.drop 166 = dktX8_layPayment_7 := dk_seg dksX8_layPayment_6 23 rfl rfl
theorem dksX8_layPayment_8 : cX8_layPayment.data.toList.drop 190 = dktX8_layPayment_8 := dk_seg dksX8_layPayment_7 24 rfl rfl
theorem dksX8_layPayment_9 : cX8_layPayment.data.toList.drop 214 = dktX8_layPayment_9 := dk_seg dksX8_layPayment_8 24 rfl rfl
theorem dksX8_layPayment_10 : cX8_layPayment.data.toList.drop 237 = dktX8_layPayment_10 := dk_seg dksX8_layPayment_9 23 rfl rfl
theorem dksX8_layPayment_11 : cX8_layPayment.data.toList.drop 261 = dktX8_layPayment_11 := dk_seg dksX8_layPayment_10 24 rfl rfl
theorem dksX8_layPayment_12 : cX8_layPayment.data.toList.drop 283 = dktX8_layPayment_12 := dk_seg dksX8_layPayment_11 22 rfl rfl
theorem dksX8_layPayment_13 : cX8_layPayment.data.toList.drop 307 = dktX8_layPayment_13 := dk_seg dksX8_layPayment_12 24 rfl rfl
theorem dksX8_layPayment_14 : cX8_layPayment.data.toList.drop 330 = dktX8_layPayment_14 := dk_seg dksX8_layPayment_13 23 rfl rfl
theorem dksX8_layPayment_15 : cX8_layPayment.data.toList.drop 353 = dktX8_layPayment_15 := dk_seg dksX8_layPayment_14 23 rfl rfl
theorem dksX8_layPayment_16 : cX8_layPayment.data.toList.drop 377 = dktX8_layPayment_16 := dk_seg dksX8_layPayment_15 24 rfl rfl
theorem dksX8_layPayment_17 : cX8_layPayment.data.toList.drop 400 = dktX8_layPayment_17 := dk_seg dksX8_layPayment_16 23 rfl rfl
theorem dX8_layPayment_0 : decode cX8_layPayment 0 = .ok (.aload_n 0, 1) := dk_42 (dk_at dksX8_layPayment_0 0 rfl rfl)
theorem dX8_layPayment_1 : decode cX8_layPayment 1 = .ok (.iload_n 1, 1) := dk_27 (dk_at dksX8_layPayment_0 1 rfl rfl)
theorem dX8_layPayment_2 : decode cX8_layPayment 2 = .ok (.invokevirtual 243, 3) := dk_182 0 243 (dk_at dksX8_layPayment_0 2 rfl rfl)
theorem dX8_layPayment_5 : decode cX8_layPayment 5 = .ok (.ifCond .eq 40, 3) := dk_153 0 40 (dk_at dksX8_layPayment_0 5 rfl rfl)
theorem dX8_layPayment_8 : decode cX8_layPayment 8 = .ok (.aload_n 0, 1) := dk_42 (dk_at dksX8_layPayment_0 8 rfl rfl)
theorem dX8_layPayment_9 : decode cX8_layPayment 9 = .ok (.iload_n 2, 1) := dk_28 (dk_at dksX8_layPayment_0 9 rfl rfl)
theorem dX8_layPayment_10 : decode cX8_layPayment 10 = .ok (.invokevirtual 243, 3) := dk_182 0 243 (dk_at dksX8_layPayment_0 10 rfl rfl)
theorem dX8_layPayment_13 : decode cX8_layPayment 13 = .ok (.ifCond .eq 32, 3) := dk_153 0 32 (dk_at dksX8_layPayment_0 13 rfl rfl)
theorem dX8_layPayment_16 : decode cX8_layPayment 16 = .ok (.aload_n 0, 1) := dk_42 (dk_at dksX8_layPayment_0 16 rfl rfl)
theorem dX8_layPayment_17 : decode cX8_layPayment 17 = .ok (.iload_n 3, 1) := dk_29 (dk_at dksX8_layPayment_0 17 rfl rfl)
theorem dX8_layPayment_18 : decode cX8_layPayment 18 = .ok (.invokevirtual 259, 3) := dk_182 1 3 (dk_at dksX8_layPayment_0 18 rfl rfl)
theorem dX8_layPayment_21 : decode cX8_layPayment 21 = .ok (.ifCond .eq 24, 3) := dk_153 0 24 (dk_at dksX8_layPayment_0 21 rfl rfl)
theorem dX8_layPayment_24 : decode cX8_layPayment 24 = .ok (.iload 4, 2) := dk_21 4 (dk_at dksX8_layPayment_1 0 rfl rfl)
theorem dX8_layPayment_26 : decode cX8_layPayment 26 = .ok (.iconst 1, 1) := dk_4 (dk_at dksX8_layPayment_1 2 rfl rfl)
theorem dX8_layPayment_27 : decode cX8_layPayment 27 = .ok (.sipush 2000, 3) := dk_17 7 208 (dk_at dksX8_layPayment_1 3 rfl rfl)
theorem dX8_layPayment_30 : decode cX8_layPayment 30 = .ok (.invokestatic 154, 3) := dk_184 0 154 (dk_at dksX8_layPayment_1 6 rfl rfl)
theorem dX8_layPayment_33 : decode cX8_layPayment 33 = .ok (.ifCond .eq 12, 3) := dk_153 0 12 (dk_at dksX8_layPayment_1 9 rfl rfl)
theorem dX8_layPayment_36 : decode cX8_layPayment 36 = .ok (.aload_n 0, 1) := dk_42 (dk_at dksX8_layPayment_1 12 rfl rfl)
theorem dX8_layPayment_37 : decode cX8_layPayment 37 = .ok (.iload_n 1, 1) := dk_27 (dk_at dksX8_layPayment_1 13 rfl rfl)
theorem dX8_layPayment_38 : decode cX8_layPayment 38 = .ok (.iload_n 2, 1) := dk_28 (dk_at dksX8_layPayment_1 14 rfl rfl)
theorem dX8_layPayment_39 : decode cX8_layPayment 39 = .ok (.invokevirtual 297, 3) := dk_182 1 41 (dk_at dksX8_layPayment_1 15 rfl rfl)
theorem dX8_layPayment_42 : decode cX8_layPayment 42 = .ok (.ifCond .eq 6, 3) := dk_153 0 6 (dk_at dksX8_layPayment_1 18 rfl rfl)
theorem dX8_layPayment_45 : decode cX8_layPayment 45 = .ok (.bipush (-2), 2) := dk_16 254 (dk_at dksX8_layPayment_1 21 rfl rfl)
theorem dX8_layPayment_47 : decode cX8_layPayment 47 = .ok (.ireturn, 1) := dk_172 (dk_at dksX8_layPayment_1 23 rfl rfl)
theorem dX8_layPayment_48 : decode cX8_layPayment 48 = .ok (.aload_n 0, 1) := dk_42 (dk_at dksX8_layPayment_2 0 rfl rfl)
theorem dX8_layPayment_49 : decode cX8_layPayment 49 = .ok (.invokevirtual 288, 3) := dk_182 1 32 (dk_at dksX8_layPayment_2 1 rfl rfl)
theorem dX8_layPayment_52 : decode cX8_layPayment 52 = .ok (.istore 5, 2) := dk_54 5 (dk_at dksX8_layPayment_2 4 rfl rfl)
theorem dX8_layPayment_54 : decode cX8_layPayment 54 = .ok (.aload_n 0, 1) := dk_42 (dk_at dksX8_layPayment_2 6 rfl rfl)
theorem dX8_layPayment_55 : decode cX8_layPayment 55 = .ok (.iconst 0, 1) := dk_3 (dk_at dksX8_layPayment_2 7 rfl rfl)
theorem dX8_layPayment_56 : decode cX8_layPayment 56 = .ok (.putfield 307, 3) := dk_181 1 51 (dk_at dksX8_layPayment_2 8 rfl rfl)
theorem dX8_layPayment_59 : decode cX8_layPayment 59 = .ok (.iconst 0, 1) := dk_3 (dk_at dksX8_layPayment_2 11 rfl rfl)
theorem dX8_layPayment_60 : decode cX8_layPayment 60 = .ok (.istore 6, 2) := dk_54 6 (dk_at dksX8_layPayment_2 12 rfl rfl)
theorem dX8_layPayment_62 : decode cX8_layPayment 62 = .ok (.iload 6, 2) := dk_21 6 (dk_at dksX8_layPayment_2 14 rfl rfl)
theorem dX8_layPayment_64 : decode cX8_layPayment 64 = .ok (.aload_n 0, 1) := dk_42 (dk_at dksX8_layPayment_2 16 rfl rfl)
theorem dX8_layPayment_65 : decode cX8_layPayment 65 = .ok (.invokevirtual 188, 3) := dk_182 0 188 (dk_at dksX8_layPayment_2 17 rfl rfl)
theorem dX8_layPayment_68 : decode cX8_layPayment 68 = .ok (.if_icmp .ge 101, 3) := dk_162 0 101 (dk_at dksX8_layPayment_2 20 rfl rfl)
theorem dX8_layPayment_71 : decode cX8_layPayment 71 = .ok (.aload_n 0, 1) := dk_42 (dk_at dksX8_layPayment_2 23 rfl rfl)
theorem dX8_layPayment_72 : decode cX8_layPayment 72 = .ok (.getfield 307, 3) := dk_180 1 51 (dk_at dksX8_layPayment_3 0 rfl rfl)
theorem dX8_layPayment_75 : decode cX8_layPayment 75 = .ok (.bipush 12, 2) := dk_16 12 (dk_at dksX8_layPayment_3 3 rfl rfl)
theorem dX8_layPayment_77 : decode cX8_layPayment 77 = .ok (.if_icmp .ge 92, 3) := dk_162 0 92 (dk_at dksX8_layPayment_3 5 rfl rfl)
theorem dX8_layPayment_80 : decode cX8_layPayment 80 = .ok (.aload_n 0, 1) := dk_42 (dk_at dksX8_layPayment_3 8 rfl rfl)
theorem dX8_layPayment_81 : decode cX8_layPayment 81 = .ok (.iload 6, 2) := dk_21 6 (dk_at dksX8_layPayment_3 9 rfl rfl)
theorem dX8_layPayment_83 : decode cX8_layPayment 83 = .ok (.iconst 1, 1) := dk_4 (dk_at dksX8_layPayment_3 11 rfl rfl)
theorem dX8_layPayment_84 : decode cX8_layPayment 84 = .ok (.invokevirtual 256, 3) := dk_182 1 0 (dk_at dksX8_layPayment_3 12 rfl rfl)
theorem dX8_layPayment_87 : decode cX8_layPayment 87 = .ok (.iload_n 1, 1) := dk_27 (dk_at dksX8_layPayment_3 15 rfl rfl)
theorem dX8_layPayment_88 : decode cX8_layPayment 88 = .ok (.if_icmp .eq 6, 3) := dk_159 0 6 (dk_at dksX8_layPayment_3 16 rfl rfl)
theorem dX8_layPayment_91 : decode cX8_layPayment 91 = .ok (.goto 72, 3) := dk_167 0 72 (dk_at dksX8_layPayment_3 19 rfl rfl)
theorem dX8_layPayment_94 : decode cX8_layPayment 94 = .ok (.aload_n 0, 1) := dk_42 (dk_at dksX8_layPayment_3 22 rfl rfl)
theorem dX8_layPayment_95 : decode cX8_layPayment 95 = .ok (.getfield 43, 3) := dk_180 0 43 (dk_at dksX8_layPayment_4 0 rfl rfl)
theorem dX8_layPayment_98 : decode cX8_layPayment 98 = .ok (.aload_n 0, 1) := dk_42 (dk_at dksX8_layPayment_4 3 rfl rfl)
theorem dX8_layPayment_99 : decode cX8_layPayment 99 = .ok (.getfield 307, 3) := dk_180 1 51 (dk_at dksX8_layPayment_4 4 rfl rfl)
theorem dX8_layPayment_102 : decode cX8_layPayment 102 = .ok (.iload 6, 2) := dk_21 6 (dk_at dksX8_layPayment_4 7 rfl rfl)
theorem dX8_layPayment_104 : decode cX8_layPayment 104 = .ok (.iastore, 1) := dk_79 (dk_at dksX8_layPayment_4 9 rfl rfl)
theorem dX8_layPayment_105 : decode cX8_layPayment 105 = .ok (.iconst 1, 1) := dk_4 (dk_at dksX8_layPayment_4 10 rfl rfl)
theorem dX8_layPayment_106 : decode cX8_layPayment 106 = .ok (.istore 7, 2) := dk_54 7 (dk_at dksX8_layPayment_4 11 rfl rfl)
theorem dX8_layPayment_108 : decode cX8_layPayment 108 = .ok (.iload 7, 2) := dk_21 7 (dk_at dksX8_layPayment_4 13 rfl rfl)
theorem dX8_layPayment_110 : decode cX8_layPayment 110 = .ok (.iconst 2, 1) := dk_5 (dk_at dksX8_layPayment_4 15 rfl rfl)
theorem dX8_layPayment_111 : decode cX8_layPayment 111 = .ok (.aload_n 0, 1) := dk_42 (dk_at dksX8_layPayment_4 16 rfl rfl)
theorem dX8_layPayment_112 : decode cX8_layPayment 112 = .ok (.invokevirtual 185, 3) := dk_182 0 185 (dk_at dksX8_layPayment_4 17 rfl rfl)
theorem dX8_layPayment_115 : decode cX8_layPayment 115 = .ok (.iadd, 1) := dk_96 (dk_at dksX8_layPayment_4 20 rfl rfl)
theorem dX8_layPayment_116 : decode cX8_layPayment 116 = .ok (.if_icmp .ge 37, 3) := dk_162 0 37 (dk_at dksX8_layPayment_4 21 rfl rfl)
theorem dX8_layPayment_119 : decode cX8_layPayment 119 = .ok (.aload_n 0, 1) := dk_42 (dk_at dksX8_layPayment_5 0 rfl rfl)
theorem dX8_layPayment_120 : decode cX8_layPayment 120 = .ok (.getfield 46, 3) := dk_180 0 46 (dk_at dksX8_layPayment_5 1 rfl rfl)
theorem dX8_layPayment_123 : decode cX8_layPayment 123 = .ok (.bipush 6, 2) := dk_16 6 (dk_at dksX8_layPayment_5 4 rfl rfl)
theorem dX8_layPayment_125 : decode cX8_layPayment 125 = .ok (.aload_n 0, 1) := dk_42 (dk_at dksX8_layPayment_5 6 rfl rfl)
theorem dX8_layPayment_126 : decode cX8_layPayment 126 = .ok (.getfield 307, 3) := dk_180 1 51 (dk_at dksX8_layPayment_5 7 rfl rfl)
theorem dX8_layPayment_129 : decode cX8_layPayment 129 = .ok (.imul, 1) := dk_104 (dk_at dksX8_layPayment_5 10 rfl rfl)
theorem dX8_layPayment_130 : decode cX8_layPayment 130 = .ok (.iload 7, 2) := dk_21 7 (dk_at dksX8_layPayment_5 11 rfl rfl)
theorem dX8_layPayment_132 : decode cX8_layPayment 132 = .ok (.iadd, 1) := dk_96 (dk_at dksX8_layPayment_5 13 rfl rfl)
theorem dX8_layPayment_133 : decode cX8_layPayment 133 = .ok (.aload_n 0, 1) := dk_42 (dk_at dksX8_layPayment_5 14 rfl rfl)
theorem dX8_layPayment_134 : decode cX8_layPayment 134 = .ok (.iload 6, 2) := dk_21 6 (dk_at dksX8_layPayment_5 15 rfl rfl)
theorem dX8_layPayment_136 : decode cX8_layPayment 136 = .ok (.iload 7, 2) := dk_21 7 (dk_at dksX8_layPayment_5 17 rfl rfl)
theorem dX8_layPayment_138 : decode cX8_layPayment 138 = .ok (.iload_n 1, 1) := dk_27 (dk_at dksX8_layPayment_5 19 rfl rfl)
theorem dX8_layPayment_139 : decode cX8_layPayment 139 = .ok (.iload_n 2, 1) := dk_28 (dk_at dksX8_layPayment_5 20 rfl rfl)
theorem dX8_layPayment_140 : decode cX8_layPayment 140 = .ok (.iload_n 3, 1) := dk_29 (dk_at dksX8_layPayment_5 21 rfl rfl)
theorem dX8_layPayment_141 : decode cX8_layPayment 141 = .ok (.iload 5, 2) := dk_21 5 (dk_at dksX8_layPayment_5 22 rfl rfl)
theorem dX8_layPayment_143 : decode cX8_layPayment 143 = .ok (.invokevirtual 310, 3) := dk_182 1 54 (dk_at dksX8_layPayment_6 0 rfl rfl)
theorem dX8_layPayment_146 : decode cX8_layPayment 146 = .ok (.iastore, 1) := dk_79 (dk_at dksX8_layPayment_6 3 rfl rfl)
theorem dX8_layPayment_147 : decode cX8_layPayment 147 = .ok (.iinc 7 1, 3) := dk_132 7 1 (dk_at dksX8_layPayment_6 4 rfl rfl)
theorem dX8_layPayment_150 : decode cX8_layPayment 150 = .ok (.goto (-42), 3) := dk_167 255 214 (dk_at dksX8_layPayment_6 7 rfl rfl)
theorem dX8_layPayment_153 : decode cX8_layPayment 153 = .ok (.aload_n 0, 1) := dk_42 (dk_at dksX8_layPayment_6 10 rfl rfl)
theorem dX8_layPayment_154 : decode cX8_layPayment 154 = .ok (.dup, 1) := dk_89 (dk_at dksX8_layPayment_6 11 rfl rfl)
theorem dX8_layPayment_155 : decode cX8_layPayment 155 = .ok (.getfield 307, 3) := dk_180 1 51 (dk_at dksX8_layPayment_6 12 rfl rfl)
theorem dX8_layPayment_158 : decode cX8_layPayment 158 = .ok (.iconst 1, 1) := dk_4 (dk_at dksX8_layPayment_6 15 rfl rfl)
theorem dX8_layPayment_159 : decode cX8_layPayment 159 = .ok (.iadd, 1) := dk_96 (dk_at dksX8_layPayment_6 16 rfl rfl)
theorem dX8_layPayment_160 : decode cX8_layPayment 160 = .ok (.putfield 307, 3) := dk_181 1 51 (dk_at dksX8_layPayment_6 17 rfl rfl)
theorem dX8_layPayment_163 : decode cX8_layPayment 163 = .ok (.iinc 6 1, 3) := dk_132 6 1 (dk_at dksX8_layPayment_6 20 rfl rfl)
theorem dX8_layPayment_166 : decode cX8_layPayment 166 = .ok (.goto (-104), 3) := dk_167 255 152 (dk_at dksX8_layPayment_7 0 rfl rfl)
theorem dX8_layPayment_169 : decode cX8_layPayment 169 = .ok (.sipush 2001, 3) := dk_17 7 209 (dk_at dksX8_layPayment_7 3 rfl rfl)
theorem dX8_layPayment_172 : decode cX8_layPayment 172 = .ok (.istore 6, 2) := dk_54 6 (dk_at dksX8_layPayment_7 6 rfl rfl)
theorem dX8_layPayment_174 : decode cX8_layPayment 174 = .ok (.iconst 0, 1) := dk_3 (dk_at dksX8_layPayment_7 8 rfl rfl)
theorem dX8_layPayment_175 : decode cX8_layPayment 175 = .ok (.istore 7, 2) := dk_54 7 (dk_at dksX8_layPayment_7 9 rfl rfl)
theorem dX8_layPayment_177 : decode cX8_layPayment 177 = .ok (.iload 7, 2) := dk_21 7 (dk_at dksX8_layPayment_7 11 rfl rfl)
theorem dX8_layPayment_179 : decode cX8_layPayment 179 = .ok (.iload 4, 2) := dk_21 4 (dk_at dksX8_layPayment_7 13 rfl rfl)
theorem dX8_layPayment_181 : decode cX8_layPayment 181 = .ok (.if_icmp .gt 36, 3) := dk_163 0 36 (dk_at dksX8_layPayment_7 15 rfl rfl)
theorem dX8_layPayment_184 : decode cX8_layPayment 184 = .ok (.aload_n 0, 1) := dk_42 (dk_at dksX8_layPayment_7 18 rfl rfl)
theorem dX8_layPayment_185 : decode cX8_layPayment 185 = .ok (.getfield 49, 3) := dk_180 0 49 (dk_at dksX8_layPayment_7 19 rfl rfl)
theorem dX8_layPayment_188 : decode cX8_layPayment 188 = .ok (.iload 6, 2) := dk_21 6 (dk_at dksX8_layPayment_7 22 rfl rfl)
theorem dX8_layPayment_190 : decode cX8_layPayment 190 = .ok (.aload_n 0, 1) := dk_42 (dk_at dksX8_layPayment_8 0 rfl rfl)
theorem dX8_layPayment_191 : decode cX8_layPayment 191 = .ok (.getfield 307, 3) := dk_180 1 51 (dk_at dksX8_layPayment_8 1 rfl rfl)
theorem dX8_layPayment_194 : decode cX8_layPayment 194 = .ok (.imul, 1) := dk_104 (dk_at dksX8_layPayment_8 4 rfl rfl)
theorem dX8_layPayment_195 : decode cX8_layPayment 195 = .ok (.iload 7, 2) := dk_21 7 (dk_at dksX8_layPayment_8 5 rfl rfl)
theorem dX8_layPayment_197 : decode cX8_layPayment 197 = .ok (.iadd, 1) := dk_96 (dk_at dksX8_layPayment_8 7 rfl rfl)
theorem dX8_layPayment_198 : decode cX8_layPayment 198 = .ok (.iload 7, 2) := dk_21 7 (dk_at dksX8_layPayment_8 8 rfl rfl)
theorem dX8_layPayment_200 : decode cX8_layPayment 200 = .ok (.ifCond .ne 7, 3) := dk_154 0 7 (dk_at dksX8_layPayment_8 10 rfl rfl)
theorem dX8_layPayment_203 : decode cX8_layPayment 203 = .ok (.iconst 0, 1) := dk_3 (dk_at dksX8_layPayment_8 13 rfl rfl)
theorem dX8_layPayment_204 : decode cX8_layPayment 204 = .ok (.goto 6, 3) := dk_167 0 6 (dk_at dksX8_layPayment_8 14 rfl rfl)
theorem dX8_layPayment_207 : decode cX8_layPayment 207 = .ok (.ldc_w 314, 3) := dk_19 1 58 (dk_at dksX8_layPayment_8 17 rfl rfl)
theorem dX8_layPayment_210 : decode cX8_layPayment 210 = .ok (.iastore, 1) := dk_79 (dk_at dksX8_layPayment_8 20 rfl rfl)
theorem dX8_layPayment_211 : decode cX8_layPayment 211 = .ok (.iinc 7 1, 3) := dk_132 7 1 (dk_at dksX8_layPayment_8 21 rfl rfl)
theorem dX8_layPayment_214 : decode cX8_layPayment 214 = .ok (.goto (-37), 3) := dk_167 255 219 (dk_at dksX8_layPayment_9 0 rfl rfl)
theorem dX8_layPayment_217 : decode cX8_layPayment 217 = .ok (.aload_n 0, 1) := dk_42 (dk_at dksX8_layPayment_9 3 rfl rfl)
theorem dX8_layPayment_218 : decode cX8_layPayment 218 = .ok (.getfield 307, 3) := dk_180 1 51 (dk_at dksX8_layPayment_9 4 rfl rfl)
theorem dX8_layPayment_221 : decode cX8_layPayment 221 = .ok (.iconst 1, 1) := dk_4 (dk_at dksX8_layPayment_9 7 rfl rfl)
theorem dX8_layPayment_222 : decode cX8_layPayment 222 = .ok (.isub, 1) := dk_100 (dk_at dksX8_layPayment_9 8 rfl rfl)
theorem dX8_layPayment_223 : decode cX8_layPayment 223 = .ok (.istore 7, 2) := dk_54 7 (dk_at dksX8_layPayment_9 9 rfl rfl)
theorem dX8_layPayment_225 : decode cX8_layPayment 225 = .ok (.iload 7, 2) := dk_21 7 (dk_at dksX8_layPayment_9 11 rfl rfl)
theorem dX8_layPayment_227 : decode cX8_layPayment 227 = .ok (.ifCond .lt 46, 3) := dk_155 0 46 (dk_at dksX8_layPayment_9 13 rfl rfl)
theorem dX8_layPayment_230 : decode cX8_layPayment 230 = .ok (.iconst 0, 1) := dk_3 (dk_at dksX8_layPayment_9 16 rfl rfl)
theorem dX8_layPayment_231 : decode cX8_layPayment 231 = .ok (.istore 8, 2) := dk_54 8 (dk_at dksX8_layPayment_9 17 rfl rfl)
theorem dX8_layPayment_233 : decode cX8_layPayment 233 = .ok (.iload 8, 2) := dk_21 8 (dk_at dksX8_layPayment_9 19 rfl rfl)
theorem dX8_layPayment_235 : decode cX8_layPayment 235 = .ok (.iload 4, 2) := dk_21 4 (dk_at dksX8_layPayment_9 21 rfl rfl)
theorem dX8_layPayment_237 : decode cX8_layPayment 237 = .ok (.if_icmp .gt 30, 3) := dk_163 0 30 (dk_at dksX8_layPayment_10 0 rfl rfl)
theorem dX8_layPayment_240 : decode cX8_layPayment 240 = .ok (.aload_n 0, 1) := dk_42 (dk_at dksX8_layPayment_10 3 rfl rfl)
theorem dX8_layPayment_241 : decode cX8_layPayment 241 = .ok (.getfield 49, 3) := dk_180 0 49 (dk_at dksX8_layPayment_10 4 rfl rfl)
theorem dX8_layPayment_244 : decode cX8_layPayment 244 = .ok (.iload 6, 2) := dk_21 6 (dk_at dksX8_layPayment_10 7 rfl rfl)
theorem dX8_layPayment_246 : decode cX8_layPayment 246 = .ok (.iload 7, 2) := dk_21 7 (dk_at dksX8_layPayment_10 9 rfl rfl)
theorem dX8_layPayment_248 : decode cX8_layPayment 248 = .ok (.imul, 1) := dk_104 (dk_at dksX8_layPayment_10 11 rfl rfl)
theorem dX8_layPayment_249 : decode cX8_layPayment 249 = .ok (.iload 8, 2) := dk_21 8 (dk_at dksX8_layPayment_10 12 rfl rfl)
theorem dX8_layPayment_251 : decode cX8_layPayment 251 = .ok (.iadd, 1) := dk_96 (dk_at dksX8_layPayment_10 14 rfl rfl)
theorem dX8_layPayment_252 : decode cX8_layPayment 252 = .ok (.aload_n 0, 1) := dk_42 (dk_at dksX8_layPayment_10 15 rfl rfl)
theorem dX8_layPayment_253 : decode cX8_layPayment 253 = .ok (.iload 7, 2) := dk_21 7 (dk_at dksX8_layPayment_10 16 rfl rfl)
theorem dX8_layPayment_255 : decode cX8_layPayment 255 = .ok (.iload 8, 2) := dk_21 8 (dk_at dksX8_layPayment_10 18 rfl rfl)
theorem dX8_layPayment_257 : decode cX8_layPayment 257 = .ok (.invokevirtual 315, 3) := dk_182 1 59 (dk_at dksX8_layPayment_10 20 rfl rfl)
theorem dX8_layPayment_260 : decode cX8_layPayment 260 = .ok (.iastore, 1) := dk_79 (dk_at dksX8_layPayment_10 23 rfl rfl)
theorem dX8_layPayment_261 : decode cX8_layPayment 261 = .ok (.iinc 8 1, 3) := dk_132 8 1 (dk_at dksX8_layPayment_11 0 rfl rfl)
theorem dX8_layPayment_264 : decode cX8_layPayment 264 = .ok (.goto (-31), 3) := dk_167 255 225 (dk_at dksX8_layPayment_11 3 rfl rfl)
theorem dX8_layPayment_267 : decode cX8_layPayment 267 = .ok (.iinc 7 (-1), 3) := dk_132 7 255 (dk_at dksX8_layPayment_11 6 rfl rfl)
theorem dX8_layPayment_270 : decode cX8_layPayment 270 = .ok (.goto (-45), 3) := dk_167 255 211 (dk_at dksX8_layPayment_11 9 rfl rfl)
theorem dX8_layPayment_273 : decode cX8_layPayment 273 = .ok (.aload_n 0, 1) := dk_42 (dk_at dksX8_layPayment_11 12 rfl rfl)
theorem dX8_layPayment_274 : decode cX8_layPayment 274 = .ok (.getfield 49, 3) := dk_180 0 49 (dk_at dksX8_layPayment_11 13 rfl rfl)
theorem dX8_layPayment_277 : decode cX8_layPayment 277 = .ok (.iload 4, 2) := dk_21 4 (dk_at dksX8_layPayment_11 16 rfl rfl)
theorem dX8_layPayment_279 : decode cX8_layPayment 279 = .ok (.iaload, 1) := dk_46 (dk_at dksX8_layPayment_11 18 rfl rfl)
theorem dX8_layPayment_280 : decode cX8_layPayment 280 = .ok (.ldc_w 314, 3) := dk_19 1 58 (dk_at dksX8_layPayment_11 19 rfl rfl)
theorem dX8_layPayment_283 : decode cX8_layPayment 283 = .ok (.if_icmp .lt 5, 3) := dk_161 0 5 (dk_at dksX8_layPayment_12 0 rfl rfl)
theorem dX8_layPayment_286 : decode cX8_layPayment 286 = .ok (.iconst (-1), 1) := dk_2 (dk_at dksX8_layPayment_12 3 rfl rfl)
theorem dX8_layPayment_287 : decode cX8_layPayment 287 = .ok (.ireturn, 1) := dk_172 (dk_at dksX8_layPayment_12 4 rfl rfl)
theorem dX8_layPayment_288 : decode cX8_layPayment 288 = .ok (.iload 4, 2) := dk_21 4 (dk_at dksX8_layPayment_12 5 rfl rfl)
theorem dX8_layPayment_290 : decode cX8_layPayment 290 = .ok (.istore 7, 2) := dk_54 7 (dk_at dksX8_layPayment_12 7 rfl rfl)
theorem dX8_layPayment_292 : decode cX8_layPayment 292 = .ok (.iconst 0, 1) := dk_3 (dk_at dksX8_layPayment_12 9 rfl rfl)
theorem dX8_layPayment_293 : decode cX8_layPayment 293 = .ok (.istore 8, 2) := dk_54 8 (dk_at dksX8_layPayment_12 10 rfl rfl)
theorem dX8_layPayment_295 : decode cX8_layPayment 295 = .ok (.iload 8, 2) := dk_21 8 (dk_at dksX8_layPayment_12 12 rfl rfl)
theorem dX8_layPayment_297 : decode cX8_layPayment 297 = .ok (.aload_n 0, 1) := dk_42 (dk_at dksX8_layPayment_12 14 rfl rfl)
theorem dX8_layPayment_298 : decode cX8_layPayment 298 = .ok (.getfield 307, 3) := dk_180 1 51 (dk_at dksX8_layPayment_12 15 rfl rfl)
theorem dX8_layPayment_301 : decode cX8_layPayment 301 = .ok (.if_icmp .ge 98, 3) := dk_162 0 98 (dk_at dksX8_layPayment_12 18 rfl rfl)
theorem dX8_layPayment_304 : decode cX8_layPayment 304 = .ok (.iconst 0, 1) := dk_3 (dk_at dksX8_layPayment_12 21 rfl rfl)
theorem dX8_layPayment_305 : decode cX8_layPayment 305 = .ok (.istore 9, 2) := dk_54 9 (dk_at dksX8_layPayment_12 22 rfl rfl)
theorem dX8_layPayment_307 : decode cX8_layPayment 307 = .ok (.aload_n 0, 1) := dk_42 (dk_at dksX8_layPayment_13 0 rfl rfl)
theorem dX8_layPayment_308 : decode cX8_layPayment 308 = .ok (.iload 8, 2) := dk_21 8 (dk_at dksX8_layPayment_13 1 rfl rfl)
theorem dX8_layPayment_310 : decode cX8_layPayment 310 = .ok (.iload 7, 2) := dk_21 7 (dk_at dksX8_layPayment_13 3 rfl rfl)
theorem dX8_layPayment_312 : decode cX8_layPayment 312 = .ok (.iload 9, 2) := dk_21 9 (dk_at dksX8_layPayment_13 5 rfl rfl)
theorem dX8_layPayment_314 : decode cX8_layPayment 314 = .ok (.invokevirtual 318, 3) := dk_182 1 62 (dk_at dksX8_layPayment_13 7 rfl rfl)
theorem dX8_layPayment_317 : decode cX8_layPayment 317 = .ok (.aload_n 0, 1) := dk_42 (dk_at dksX8_layPayment_13 10 rfl rfl)
theorem dX8_layPayment_318 : decode cX8_layPayment 318 = .ok (.getfield 49, 3) := dk_180 0 49 (dk_at dksX8_layPayment_13 11 rfl rfl)
theorem dX8_layPayment_321 : decode cX8_layPayment 321 = .ok (.iload 6, 2) := dk_21 6 (dk_at dksX8_layPayment_13 14 rfl rfl)
theorem dX8_layPayment_323 : decode cX8_layPayment 323 = .ok (.iload 8, 2) := dk_21 8 (dk_at dksX8_layPayment_13 16 rfl rfl)
theorem dX8_layPayment_325 : decode cX8_layPayment 325 = .ok (.imul, 1) := dk_104 (dk_at dksX8_layPayment_13 18 rfl rfl)
theorem dX8_layPayment_326 : decode cX8_layPayment 326 = .ok (.iload 7, 2) := dk_21 7 (dk_at dksX8_layPayment_13 19 rfl rfl)
theorem dX8_layPayment_328 : decode cX8_layPayment 328 = .ok (.iadd, 1) := dk_96 (dk_at dksX8_layPayment_13 21 rfl rfl)
theorem dX8_layPayment_329 : decode cX8_layPayment 329 = .ok (.iaload, 1) := dk_46 (dk_at dksX8_layPayment_13 22 rfl rfl)
theorem dX8_layPayment_330 : decode cX8_layPayment 330 = .ok (.if_icmp .eq 9, 3) := dk_159 0 9 (dk_at dksX8_layPayment_14 0 rfl rfl)
theorem dX8_layPayment_333 : decode cX8_layPayment 333 = .ok (.iinc 9 1, 3) := dk_132 9 1 (dk_at dksX8_layPayment_14 3 rfl rfl)
theorem dX8_layPayment_336 : decode cX8_layPayment 336 = .ok (.goto (-29), 3) := dk_167 255 227 (dk_at dksX8_layPayment_14 6 rfl rfl)
theorem dX8_layPayment_339 : decode cX8_layPayment 339 = .ok (.aload_n 0, 1) := dk_42 (dk_at dksX8_layPayment_14 9 rfl rfl)
theorem dX8_layPayment_340 : decode cX8_layPayment 340 = .ok (.getfield 55, 3) := dk_180 0 55 (dk_at dksX8_layPayment_14 10 rfl rfl)
theorem dX8_layPayment_343 : decode cX8_layPayment 343 = .ok (.iload 8, 2) := dk_21 8 (dk_at dksX8_layPayment_14 13 rfl rfl)
theorem dX8_layPayment_345 : decode cX8_layPayment 345 = .ok (.iload 9, 2) := dk_21 9 (dk_at dksX8_layPayment_14 15 rfl rfl)
theorem dX8_layPayment_347 : decode cX8_layPayment 347 = .ok (.iastore, 1) := dk_79 (dk_at dksX8_layPayment_14 17 rfl rfl)
theorem dX8_layPayment_348 : decode cX8_layPayment 348 = .ok (.iload 9, 2) := dk_21 9 (dk_at dksX8_layPayment_14 18 rfl rfl)
theorem dX8_layPayment_350 : decode cX8_layPayment 350 = .ok (.ifCond .le 43, 3) := dk_158 0 43 (dk_at dksX8_layPayment_14 20 rfl rfl)
theorem dX8_layPayment_353 : decode cX8_layPayment 353 = .ok (.iload 7, 2) := dk_21 7 (dk_at dksX8_layPayment_15 0 rfl rfl)
theorem dX8_layPayment_355 : decode cX8_layPayment 355 = .ok (.aload_n 0, 1) := dk_42 (dk_at dksX8_layPayment_15 2 rfl rfl)
theorem dX8_layPayment_356 : decode cX8_layPayment 356 = .ok (.getfield 46, 3) := dk_180 0 46 (dk_at dksX8_layPayment_15 3 rfl rfl)
theorem dX8_layPayment_359 : decode cX8_layPayment 359 = .ok (.bipush 6, 2) := dk_16 6 (dk_at dksX8_layPayment_15 6 rfl rfl)
theorem dX8_layPayment_361 : decode cX8_layPayment 361 = .ok (.iload 8, 2) := dk_21 8 (dk_at dksX8_layPayment_15 8 rfl rfl)
theorem dX8_layPayment_363 : decode cX8_layPayment 363 = .ok (.imul, 1) := dk_104 (dk_at dksX8_layPayment_15 10 rfl rfl)
theorem dX8_layPayment_364 : decode cX8_layPayment 364 = .ok (.iload 9, 2) := dk_21 9 (dk_at dksX8_layPayment_15 11 rfl rfl)
theorem dX8_layPayment_366 : decode cX8_layPayment 366 = .ok (.iadd, 1) := dk_96 (dk_at dksX8_layPayment_15 13 rfl rfl)
theorem dX8_layPayment_367 : decode cX8_layPayment 367 = .ok (.iaload, 1) := dk_46 (dk_at dksX8_layPayment_15 14 rfl rfl)
theorem dX8_layPayment_368 : decode cX8_layPayment 368 = .ok (.if_icmp .le 22, 3) := dk_164 0 22 (dk_at dksX8_layPayment_15 15 rfl rfl)
theorem dX8_layPayment_371 : decode cX8_layPayment 371 = .ok (.iload 7, 2) := dk_21 7 (dk_at dksX8_layPayment_15 18 rfl rfl)
theorem dX8_layPayment_373 : decode cX8_layPayment 373 = .ok (.aload_n 0, 1) := dk_42 (dk_at dksX8_layPayment_15 20 rfl rfl)
theorem dX8_layPayment_374 : decode cX8_layPayment 374 = .ok (.getfield 46, 3) := dk_180 0 46 (dk_at dksX8_layPayment_15 21 rfl rfl)
theorem dX8_layPayment_377 : decode cX8_layPayment 377 = .ok (.bipush 6, 2) := dk_16 6 (dk_at dksX8_layPayment_16 0 rfl rfl)
theorem dX8_layPayment_379 : decode cX8_layPayment 379 = .ok (.iload 8, 2) := dk_21 8 (dk_at dksX8_layPayment_16 2 rfl rfl)
theorem dX8_layPayment_381 : decode cX8_layPayment 381 = .ok (.imul, 1) := dk_104 (dk_at dksX8_layPayment_16 4 rfl rfl)
theorem dX8_layPayment_382 : decode cX8_layPayment 382 = .ok (.iload 9, 2) := dk_21 9 (dk_at dksX8_layPayment_16 5 rfl rfl)
theorem dX8_layPayment_384 : decode cX8_layPayment 384 = .ok (.iadd, 1) := dk_96 (dk_at dksX8_layPayment_16 7 rfl rfl)
theorem dX8_layPayment_385 : decode cX8_layPayment 385 = .ok (.iaload, 1) := dk_46 (dk_at dksX8_layPayment_16 8 rfl rfl)
theorem dX8_layPayment_386 : decode cX8_layPayment 386 = .ok (.isub, 1) := dk_100 (dk_at dksX8_layPayment_16 9 rfl rfl)
theorem dX8_layPayment_387 : decode cX8_layPayment 387 = .ok (.goto 4, 3) := dk_167 0 4 (dk_at dksX8_layPayment_16 10 rfl rfl)
theorem dX8_layPayment_390 : decode cX8_layPayment 390 = .ok (.iconst 0, 1) := dk_3 (dk_at dksX8_layPayment_16 13 rfl rfl)
theorem dX8_layPayment_391 : decode cX8_layPayment 391 = .ok (.istore 7, 2) := dk_54 7 (dk_at dksX8_layPayment_16 14 rfl rfl)
theorem dX8_layPayment_393 : decode cX8_layPayment 393 = .ok (.iinc 8 1, 3) := dk_132 8 1 (dk_at dksX8_layPayment_16 16 rfl rfl)
theorem dX8_layPayment_396 : decode cX8_layPayment 396 = .ok (.goto (-101), 3) := dk_167 255 155 (dk_at dksX8_layPayment_16 19 rfl rfl)
theorem dX8_layPayment_399 : decode cX8_layPayment 399 = .ok (.aload_n 0, 1) := dk_42 (dk_at dksX8_layPayment_16 22 rfl rfl)
theorem dX8_layPayment_400 : decode cX8_layPayment 400 = .ok (.getfield 49, 3) := dk_180 0 49 (dk_at dksX8_layPayment_17 0 rfl rfl)
theorem dX8_layPayment_403 : decode cX8_layPayment 403 = .ok (.iload 4, 2) := dk_21 4 (dk_at dksX8_layPayment_17 3 rfl rfl)
theorem dX8_layPayment_405 : decode cX8_layPayment 405 = .ok (.iaload, 1) := dk_46 (dk_at dksX8_layPayment_17 5 rfl rfl)
theorem dX8_layPayment_406 : decode cX8_layPayment 406 = .ok (.bipush 16, 2) := dk_16 16 (dk_at dksX8_layPayment_17 6 rfl rfl)
theorem dX8_layPayment_408 : decode cX8_layPayment 408 = .ok (.idiv, 1) := dk_108 (dk_at dksX8_layPayment_17 8 rfl rfl)
theorem dX8_layPayment_409 : decode cX8_layPayment 409 = .ok (.ireturn, 1) := dk_172 (dk_at dksX8_layPayment_17 9 rfl rfl)
abbrev cX8_worthOf : ByteArray := prog_18_method_69_code
def yX8_worthOf : MethodName := ⟨RX8, "worthOf", "(IIIIII)I"⟩
def dkwX8_worthOf_4 : List UInt8 := [16, 100, 108, 172]
abbrev dktX8_worthOf_4 : List UInt8 := dkwX8_worthOf_4 ++ []
def dkwX8_worthOf_3 : List UInt8 := [182, 1, 9, 153, 0, 7, 3, 167, 0, 19, 21, 7, 42, 21, 4, 21, 9, 21, 6, 182, 1, 35, 104]
abbrev dktX8_worthOf_3 : List UInt8 := dkwX8_worthOf_3 ++ dktX8_worthOf_4
def dkwX8_worthOf_2 : List UInt8 := [5, 100, 3, 182, 1, 6, 100, 54, 7, 132, 8, 1, 29, 54, 9, 42, 21, 7, 21, 8, 21, 5]
abbrev dktX8_worthOf_2 : List UInt8 := dkwX8_worthOf_2 ++ dktX8_worthOf_3
def dkwX8_worthOf_1 : List UInt8 := [4, 164, 0, 38, 42, 21, 7, 21, 8, 28, 5, 100, 182, 1, 9, 153, 0, 5, 3, 172, 21, 7, 42, 28]
abbrev dktX8_worthOf_1 : List UInt8 := dkwX8_worthOf_1 ++ dktX8_worthOf_2
def dkwX8_worthOf_0 : List UInt8 := [42, 27, 3, 182, 1, 0, 54, 7, 42, 27, 5, 182, 1, 0, 54, 8, 42, 27, 182, 0, 253, 54, 9, 28]
abbrev dktX8_worthOf_0 : List UInt8 := dkwX8_worthOf_0 ++ dktX8_worthOf_1
theorem dksX8_worthOf_0 : cX8_worthOf.data.toList.drop 0 = dktX8_worthOf_0 := by decide +kernel
theorem dksX8_worthOf_1 : cX8_worthOf.data.toList.drop 24 = dktX8_worthOf_1 := dk_seg dksX8_worthOf_0 24 rfl rfl
theorem dksX8_worthOf_2 : cX8_worthOf.data.toList.drop 48 = dktX8_worthOf_2 := dk_seg dksX8_worthOf_1 24 rfl rfl
theorem dksX8_worthOf_3 : cX8_worthOf.data.toList.drop 70 = dktX8_worthOf_3 := dk_seg dksX8_worthOf_2 22 rfl rfl
theorem dksX8_worthOf_4 : cX8_worthOf.data.toList.drop 93 = dktX8_worthOf_4 := dk_seg dksX8_worthOf_3 23 rfl rfl
theorem dX8_worthOf_0 : decode cX8_worthOf 0 = .ok (.aload_n 0, 1) := dk_42 (dk_at dksX8_worthOf_0 0 rfl rfl)
theorem dX8_worthOf_1 : decode cX8_worthOf 1 = .ok (.iload_n 1, 1) := dk_27 (dk_at dksX8_worthOf_0 1 rfl rfl)
theorem dX8_worthOf_2 : decode cX8_worthOf 2 = .ok (.iconst 0, 1) := dk_3 (dk_at dksX8_worthOf_0 2 rfl rfl)
theorem dX8_worthOf_3 : decode cX8_worthOf 3 = .ok (.invokevirtual 256, 3) := dk_182 1 0 (dk_at dksX8_worthOf_0 3 rfl rfl)
theorem dX8_worthOf_6 : decode cX8_worthOf 6 = .ok (.istore 7, 2) := dk_54 7 (dk_at dksX8_worthOf_0 6 rfl rfl)
theorem dX8_worthOf_8 : decode cX8_worthOf 8 = .ok (.aload_n 0, 1) := dk_42 (dk_at dksX8_worthOf_0 8 rfl rfl)
theorem dX8_worthOf_9 : decode cX8_worthOf 9 = .ok (.iload_n 1, 1) := dk_27 (dk_at dksX8_worthOf_0 9 rfl rfl)
theorem dX8_worthOf_10 : decode cX8_worthOf 10 = .ok (.iconst 2, 1) := dk_5 (dk_at dksX8_worthOf_0 10 rfl rfl)
theorem dX8_worthOf_11 : decode cX8_worthOf 11 = .ok (.invokevirtual 256, 3) := dk_182 1 0 (dk_at dksX8_worthOf_0 11 rfl rfl)
theorem dX8_worthOf_14 : decode cX8_worthOf 14 = .ok (.istore 8, 2) := dk_54 8 (dk_at dksX8_worthOf_0 14 rfl rfl)
theorem dX8_worthOf_16 : decode cX8_worthOf 16 = .ok (.aload_n 0, 1) := dk_42 (dk_at dksX8_worthOf_0 16 rfl rfl)
theorem dX8_worthOf_17 : decode cX8_worthOf 17 = .ok (.iload_n 1, 1) := dk_27 (dk_at dksX8_worthOf_0 17 rfl rfl)
theorem dX8_worthOf_18 : decode cX8_worthOf 18 = .ok (.invokevirtual 253, 3) := dk_182 0 253 (dk_at dksX8_worthOf_0 18 rfl rfl)
theorem dX8_worthOf_21 : decode cX8_worthOf 21 = .ok (.istore 9, 2) := dk_54 9 (dk_at dksX8_worthOf_0 21 rfl rfl)
theorem dX8_worthOf_23 : decode cX8_worthOf 23 = .ok (.iload_n 2, 1) := dk_28 (dk_at dksX8_worthOf_0 23 rfl rfl)
theorem dX8_worthOf_24 : decode cX8_worthOf 24 = .ok (.iconst 1, 1) := dk_4 (dk_at dksX8_worthOf_1 0 rfl rfl)
theorem dX8_worthOf_25 : decode cX8_worthOf 25 = .ok (.if_icmp .le 38, 3) := dk_164 0 38 (dk_at dksX8_worthOf_1 1 rfl rfl)
theorem dX8_worthOf_28 : decode cX8_worthOf 28 = .ok (.aload_n 0, 1) := dk_42 (dk_at dksX8_worthOf_1 4 rfl rfl)
theorem dX8_worthOf_29 : decode cX8_worthOf 29 = .ok (.iload 7, 2) := dk_21 7 (dk_at dksX8_worthOf_1 5 rfl rfl)
theorem dX8_worthOf_31 : decode cX8_worthOf 31 = .ok (.iload 8, 2) := dk_21 8 (dk_at dksX8_worthOf_1 7 rfl rfl)
theorem dX8_worthOf_33 : decode cX8_worthOf 33 = .ok (.iload_n 2, 1) := dk_28 (dk_at dksX8_worthOf_1 9 rfl rfl)
theorem dX8_worthOf_34 : decode cX8_worthOf 34 = .ok (.iconst 2, 1) := dk_5 (dk_at dksX8_worthOf_1 10 rfl rfl)
theorem dX8_worthOf_35 : decode cX8_worthOf 35 = .ok (.isub, 1) := dk_100 (dk_at dksX8_worthOf_1 11 rfl rfl)
theorem dX8_worthOf_36 : decode cX8_worthOf 36 = .ok (.invokevirtual 265, 3) := dk_182 1 9 (dk_at dksX8_worthOf_1 12 rfl rfl)
theorem dX8_worthOf_39 : decode cX8_worthOf 39 = .ok (.ifCond .eq 5, 3) := dk_153 0 5 (dk_at dksX8_worthOf_1 15 rfl rfl)
theorem dX8_worthOf_42 : decode cX8_worthOf 42 = .ok (.iconst 0, 1) := dk_3 (dk_at dksX8_worthOf_1 18 rfl rfl)
theorem dX8_worthOf_43 : decode cX8_worthOf 43 = .ok (.ireturn, 1) := dk_172 (dk_at dksX8_worthOf_1 19 rfl rfl)
theorem dX8_worthOf_44 : decode cX8_worthOf 44 = .ok (.iload 7, 2) := dk_21 7 (dk_at dksX8_worthOf_1 20 rfl rfl)
theorem dX8_worthOf_46 : decode cX8_worthOf 46 = .ok (.aload_n 0, 1) := dk_42 (dk_at dksX8_worthOf_1 22 rfl rfl)
theorem dX8_worthOf_47 : decode cX8_worthOf 47 = .ok (.iload_n 2, 1) := dk_28 (dk_at dksX8_worthOf_1 23 rfl rfl)
theorem dX8_worthOf_48 : decode cX8_worthOf 48 = .ok (.iconst 2, 1) := dk_5 (dk_at dksX8_worthOf_2 0 rfl rfl)
theorem dX8_worthOf_49 : decode cX8_worthOf 49 = .ok (.isub, 1) := dk_100 (dk_at dksX8_worthOf_2 1 rfl rfl)
theorem dX8_worthOf_50 : decode cX8_worthOf 50 = .ok (.iconst 0, 1) := dk_3 (dk_at dksX8_worthOf_2 2 rfl rfl)
theorem dX8_worthOf_51 : decode cX8_worthOf 51 = .ok (.invokevirtual 262, 3) := dk_182 1 6 (dk_at dksX8_worthOf_2 3 rfl rfl)
theorem dX8_worthOf_54 : decode cX8_worthOf 54 = .ok (.isub, 1) := dk_100 (dk_at dksX8_worthOf_2 6 rfl rfl)
theorem dX8_worthOf_55 : decode cX8_worthOf 55 = .ok (.istore 7, 2) := dk_54 7 (dk_at dksX8_worthOf_2 7 rfl rfl)
theorem dX8_worthOf_57 : decode cX8_worthOf 57 = .ok (.iinc 8 1, 3) := dk_132 8 1 (dk_at dksX8_worthOf_2 9 rfl rfl)
theorem dX8_worthOf_60 : decode cX8_worthOf 60 = .ok (.iload_n 3, 1) := dk_29 (dk_at dksX8_worthOf_2 12 rfl rfl)
theorem dX8_worthOf_61 : decode cX8_worthOf 61 = .ok (.istore 9, 2) := dk_54 9 (dk_at dksX8_worthOf_2 13 rfl rfl)
theorem dX8_worthOf_63 : decode cX8_worthOf 63 = .ok (.aload_n 0, 1) := dk_42 (dk_at dksX8_worthOf_2 15 rfl rfl)
theorem dX8_worthOf_64 : decode cX8_worthOf 64 = .ok (.iload 7, 2) := dk_21 7 (dk_at dksX8_worthOf_2 16 rfl rfl)
theorem dX8_worthOf_66 : decode cX8_worthOf 66 = .ok (.iload 8, 2) := dk_21 8 (dk_at dksX8_worthOf_2 18 rfl rfl)
theorem dX8_worthOf_68 : decode cX8_worthOf 68 = .ok (.iload 5, 2) := dk_21 5 (dk_at dksX8_worthOf_2 20 rfl rfl)
theorem dX8_worthOf_70 : decode cX8_worthOf 70 = .ok (.invokevirtual 265, 3) := dk_182 1 9 (dk_at dksX8_worthOf_3 0 rfl rfl)
theorem dX8_worthOf_73 : decode cX8_worthOf 73 = .ok (.ifCond .eq 7, 3) := dk_153 0 7 (dk_at dksX8_worthOf_3 3 rfl rfl)
theorem dX8_worthOf_76 : decode cX8_worthOf 76 = .ok (.iconst 0, 1) := dk_3 (dk_at dksX8_worthOf_3 6 rfl rfl)
theorem dX8_worthOf_77 : decode cX8_worthOf 77 = .ok (.goto 19, 3) := dk_167 0 19 (dk_at dksX8_worthOf_3 7 rfl rfl)
theorem dX8_worthOf_80 : decode cX8_worthOf 80 = .ok (.iload 7, 2) := dk_21 7 (dk_at dksX8_worthOf_3 10 rfl rfl)
theorem dX8_worthOf_82 : decode cX8_worthOf 82 = .ok (.aload_n 0, 1) := dk_42 (dk_at dksX8_worthOf_3 12 rfl rfl)
theorem dX8_worthOf_83 : decode cX8_worthOf 83 = .ok (.iload 4, 2) := dk_21 4 (dk_at dksX8_worthOf_3 13 rfl rfl)
theorem dX8_worthOf_85 : decode cX8_worthOf 85 = .ok (.iload 9, 2) := dk_21 9 (dk_at dksX8_worthOf_3 15 rfl rfl)
theorem dX8_worthOf_87 : decode cX8_worthOf 87 = .ok (.iload 6, 2) := dk_21 6 (dk_at dksX8_worthOf_3 17 rfl rfl)
theorem dX8_worthOf_89 : decode cX8_worthOf 89 = .ok (.invokevirtual 291, 3) := dk_182 1 35 (dk_at dksX8_worthOf_3 19 rfl rfl)
theorem dX8_worthOf_92 : decode cX8_worthOf 92 = .ok (.imul, 1) := dk_104 (dk_at dksX8_worthOf_3 22 rfl rfl)
theorem dX8_worthOf_93 : decode cX8_worthOf 93 = .ok (.bipush 100, 2) := dk_16 100 (dk_at dksX8_worthOf_4 0 rfl rfl)
theorem dX8_worthOf_95 : decode cX8_worthOf 95 = .ok (.idiv, 1) := dk_108 (dk_at dksX8_worthOf_4 2 rfl rfl)
theorem dX8_worthOf_96 : decode cX8_worthOf 96 = .ok (.ireturn, 1) := dk_172 (dk_at dksX8_worthOf_4 3 rfl rfl)
abbrev cX8_bestOf : ByteArray := prog_18_method_72_code
def yX8_bestOf : MethodName := ⟨RX8, "bestOf", "(II)I"⟩
def dkwX8_bestOf_1 : List UInt8 := [182, 1, 62, 54, 5, 21, 5, 29, 162, 0, 6, 21, 5, 62, 132, 4, 1, 167, 255, 223, 29, 172]
abbrev dktX8_bestOf_1 : List UInt8 := dkwX8_bestOf_1 ++ []
def dkwX8_bestOf_0 : List UInt8 := [19, 1, 58, 62, 3, 54, 4, 21, 4, 5, 42, 182, 0, 185, 96, 162, 0, 28, 42, 27, 28, 21, 4]
abbrev dktX8_bestOf_0 : List UInt8 := dkwX8_bestOf_0 ++ dktX8_bestOf_1
theorem dksX8_bestOf_0 : cX8_bestOf.data.toList.drop 0 = dktX8_bestOf_0 := by decide +kernel
theorem dksX8_bestOf_1 : cX8_bestOf.data.toList.drop 23 = dktX8_bestOf_1 := dk_seg dksX8_bestOf_0 23 rfl rfl
theorem dX8_bestOf_0 : decode cX8_bestOf 0 = .ok (.ldc_w 314, 3) := dk_19 1 58 (dk_at dksX8_bestOf_0 0 rfl rfl)
theorem dX8_bestOf_3 : decode cX8_bestOf 3 = .ok (.istore_n 3, 1) := dk_62 (dk_at dksX8_bestOf_0 3 rfl rfl)
theorem dX8_bestOf_4 : decode cX8_bestOf 4 = .ok (.iconst 0, 1) := dk_3 (dk_at dksX8_bestOf_0 4 rfl rfl)
theorem dX8_bestOf_5 : decode cX8_bestOf 5 = .ok (.istore 4, 2) := dk_54 4 (dk_at dksX8_bestOf_0 5 rfl rfl)
theorem dX8_bestOf_7 : decode cX8_bestOf 7 = .ok (.iload 4, 2) := dk_21 4 (dk_at dksX8_bestOf_0 7 rfl rfl)
theorem dX8_bestOf_9 : decode cX8_bestOf 9 = .ok (.iconst 2, 1) := dk_5 (dk_at dksX8_bestOf_0 9 rfl rfl)
theorem dX8_bestOf_10 : decode cX8_bestOf 10 = .ok (.aload_n 0, 1) := dk_42 (dk_at dksX8_bestOf_0 10 rfl rfl)
theorem dX8_bestOf_11 : decode cX8_bestOf 11 = .ok (.invokevirtual 185, 3) := dk_182 0 185 (dk_at dksX8_bestOf_0 11 rfl rfl)
theorem dX8_bestOf_14 : decode cX8_bestOf 14 = .ok (.iadd, 1) := dk_96 (dk_at dksX8_bestOf_0 14 rfl rfl)
theorem dX8_bestOf_15 : decode cX8_bestOf 15 = .ok (.if_icmp .ge 28, 3) := dk_162 0 28 (dk_at dksX8_bestOf_0 15 rfl rfl)
theorem dX8_bestOf_18 : decode cX8_bestOf 18 = .ok (.aload_n 0, 1) := dk_42 (dk_at dksX8_bestOf_0 18 rfl rfl)
theorem dX8_bestOf_19 : decode cX8_bestOf 19 = .ok (.iload_n 1, 1) := dk_27 (dk_at dksX8_bestOf_0 19 rfl rfl)
theorem dX8_bestOf_20 : decode cX8_bestOf 20 = .ok (.iload_n 2, 1) := dk_28 (dk_at dksX8_bestOf_0 20 rfl rfl)
theorem dX8_bestOf_21 : decode cX8_bestOf 21 = .ok (.iload 4, 2) := dk_21 4 (dk_at dksX8_bestOf_0 21 rfl rfl)
theorem dX8_bestOf_23 : decode cX8_bestOf 23 = .ok (.invokevirtual 318, 3) := dk_182 1 62 (dk_at dksX8_bestOf_1 0 rfl rfl)
theorem dX8_bestOf_26 : decode cX8_bestOf 26 = .ok (.istore 5, 2) := dk_54 5 (dk_at dksX8_bestOf_1 3 rfl rfl)
theorem dX8_bestOf_28 : decode cX8_bestOf 28 = .ok (.iload 5, 2) := dk_21 5 (dk_at dksX8_bestOf_1 5 rfl rfl)
theorem dX8_bestOf_30 : decode cX8_bestOf 30 = .ok (.iload_n 3, 1) := dk_29 (dk_at dksX8_bestOf_1 7 rfl rfl)
theorem dX8_bestOf_31 : decode cX8_bestOf 31 = .ok (.if_icmp .ge 6, 3) := dk_162 0 6 (dk_at dksX8_bestOf_1 8 rfl rfl)
theorem dX8_bestOf_34 : decode cX8_bestOf 34 = .ok (.iload 5, 2) := dk_21 5 (dk_at dksX8_bestOf_1 11 rfl rfl)
theorem dX8_bestOf_36 : decode cX8_bestOf 36 = .ok (.istore_n 3, 1) := dk_62 (dk_at dksX8_bestOf_1 13 rfl rfl)
theorem dX8_bestOf_37 : decode cX8_bestOf 37 = .ok (.iinc 4 1, 3) := dk_132 4 1 (dk_at dksX8_bestOf_1 14 rfl rfl)
theorem dX8_bestOf_40 : decode cX8_bestOf 40 = .ok (.goto (-33), 3) := dk_167 255 223 (dk_at dksX8_bestOf_1 17 rfl rfl)
theorem dX8_bestOf_43 : decode cX8_bestOf 43 = .ok (.iload_n 3, 1) := dk_29 (dk_at dksX8_bestOf_1 20 rfl rfl)
theorem dX8_bestOf_44 : decode cX8_bestOf 44 = .ok (.ireturn, 1) := dk_172 (dk_at dksX8_bestOf_1 21 rfl rfl)
abbrev cX8_costOf : ByteArray := prog_18_method_71_code
def yX8_costOf : MethodName := ⟨RX8, "costOf", "(III)I"⟩
def dkwX8_costOf_4 : List UInt8 := [180, 0, 43, 27, 46, 3, 182, 1, 0, 104, 96, 4, 96, 172]
abbrev dktX8_costOf_4 : List UInt8 := dkwX8_costOf_4 ++ []
def dkwX8_costOf_3 : List UInt8 := [46, 54, 6, 21, 6, 19, 1, 58, 161, 0, 9, 19, 1, 58, 167, 0, 22, 21, 6, 16, 16, 42, 42]
abbrev dktX8_costOf_3 : List UInt8 := dkwX8_costOf_3 ++ dktX8_costOf_4
def dkwX8_costOf_2 : List UInt8 := [180, 0, 49, 21, 4, 27, 4, 96, 104, 28, 21, 5, 164, 0, 10, 28, 21, 5, 100, 167, 0, 4, 3, 96]
abbrev dktX8_costOf_2 : List UInt8 := dkwX8_costOf_2 ++ dktX8_costOf_3
def dkwX8_costOf_1 : List UInt8 := [180, 0, 46, 16, 6, 27, 104, 29, 96, 46, 54, 5, 21, 5, 154, 0, 7, 19, 1, 58, 172, 42]
abbrev dktX8_costOf_1 : List UInt8 := dkwX8_costOf_1 ++ dktX8_costOf_2
def dkwX8_costOf_0 : List UInt8 := [17, 7, 209, 54, 4, 29, 154, 0, 17, 42, 180, 0, 49, 21, 4, 27, 4, 96, 104, 28, 96, 46, 172, 42]
abbrev dktX8_costOf_0 : List UInt8 := dkwX8_costOf_0 ++ dktX8_costOf_1
theorem dksX8_costOf_0 : cX8_costOf.data.toList.drop 0 = dktX8_costOf_0 := by decide +kernel
theorem dksX8_costOf_1 : cX8_costOf.data.toList.drop 24 = dktX8_costOf_1 := dk_seg dksX8_costOf_0 24 rfl rfl
theorem dksX8_costOf_2 : cX8_costOf.data.toList.drop 46 = dktX8_costOf_2 := dk_seg dksX8_costOf_1 22 rfl rfl
theorem dksX8_costOf_3 : cX8_costOf.data.toList.drop 70 = dktX8_costOf_3 := dk_seg dksX8_costOf_2 24 rfl rfl
theorem dksX8_costOf_4 : cX8_costOf.data.toList.drop 93 = dktX8_costOf_4 := dk_seg dksX8_costOf_3 23 rfl rfl
theorem dX8_costOf_0 : decode cX8_costOf 0 = .ok (.sipush 2001, 3) := dk_17 7 209 (dk_at dksX8_costOf_0 0 rfl rfl)
theorem dX8_costOf_3 : decode cX8_costOf 3 = .ok (.istore 4, 2) := dk_54 4 (dk_at dksX8_costOf_0 3 rfl rfl)
theorem dX8_costOf_5 : decode cX8_costOf 5 = .ok (.iload_n 3, 1) := dk_29 (dk_at dksX8_costOf_0 5 rfl rfl)
theorem dX8_costOf_6 : decode cX8_costOf 6 = .ok (.ifCond .ne 17, 3) := dk_154 0 17 (dk_at dksX8_costOf_0 6 rfl rfl)
theorem dX8_costOf_9 : decode cX8_costOf 9 = .ok (.aload_n 0, 1) := dk_42 (dk_at dksX8_costOf_0 9 rfl rfl)
theorem dX8_costOf_10 : decode cX8_costOf 10 = .ok (.getfield 49, 3) := dk_180 0 49 (dk_at dksX8_costOf_0 10 rfl rfl)
theorem dX8_costOf_13 : decode cX8_costOf 13 = .ok (.iload 4, 2) := dk_21 4 (dk_at dksX8_costOf_0 13 rfl rfl)
theorem dX8_costOf_15 : decode cX8_costOf 15 = .ok (.iload_n 1, 1) := dk_27 (dk_at dksX8_costOf_0 15 rfl rfl)
theorem dX8_costOf_16 : decode cX8_costOf 16 = .ok (.iconst 1, 1) := dk_4 (dk_at dksX8_costOf_0 16 rfl rfl)
theorem dX8_costOf_17 : decode cX8_costOf 17 = .ok (.iadd, 1) := dk_96 (dk_at dksX8_costOf_0 17 rfl rfl)
theorem dX8_costOf_18 : decode cX8_costOf 18 = .ok (.imul, 1) := dk_104 (dk_at dksX8_costOf_0 18 rfl rfl)
theorem dX8_costOf_19 : decode cX8_costOf 19 = .ok (.iload_n 2, 1) := dk_28 (dk_at dksX8_costOf_0 19 rfl rfl)
theorem dX8_costOf_20 : decode cX8_costOf 20 = .ok (.iadd, 1) := dk_96 (dk_at dksX8_costOf_0 20 rfl rfl)
theorem dX8_costOf_21 : decode cX8_costOf 21 = .ok (.iaload, 1) := dk_46 (dk_at dksX8_costOf_0 21 rfl rfl)
theorem dX8_costOf_22 : decode cX8_costOf 22 = .ok (.ireturn, 1) := dk_172 (dk_at dksX8_costOf_0 22 rfl rfl)
theorem dX8_costOf_23 : decode cX8_costOf 23 = .ok (.aload_n 0, 1) := dk_42 (dk_at dksX8_costOf_0 23 rfl rfl)
theorem dX8_costOf_24 : decode cX8_costOf 24 = .ok (.getfield 46, 3) := dk_180 0 46 (dk_at dksX8_costOf_1 0 rfl rfl)
theorem dX8_costOf_27 : decode cX8_costOf 27 = .ok (.bipush 6, 2) := dk_16 6 (dk_at dksX8_costOf_1 3 rfl rfl)
theorem dX8_costOf_29 : decode cX8_costOf 29 = .ok (.iload_n 1, 1) := dk_27 (dk_at dksX8_costOf_1 5 rfl rfl)
theorem dX8_costOf_30 : decode cX8_costOf 30 = .ok (.imul, 1) := dk_104 (dk_at dksX8_costOf_1 6 rfl rfl)
theorem dX8_costOf_31 : decode cX8_costOf 31 = .ok (.iload_n 3, 1) := dk_29 (dk_at dksX8_costOf_1 7 rfl rfl)
theorem dX8_costOf_32 : decode cX8_costOf 32 = .ok (.iadd, 1) := dk_96 (dk_at dksX8_costOf_1 8 rfl rfl)
theorem dX8_costOf_33 : decode cX8_costOf 33 = .ok (.iaload, 1) := dk_46 (dk_at dksX8_costOf_1 9 rfl rfl)
theorem dX8_costOf_34 : decode cX8_costOf 34 = .ok (.istore 5, 2) := dk_54 5 (dk_at dksX8_costOf_1 10 rfl rfl)
theorem dX8_costOf_36 : decode cX8_costOf 36 = .ok (.iload 5, 2) := dk_21 5 (dk_at dksX8_costOf_1 12 rfl rfl)
theorem dX8_costOf_38 : decode cX8_costOf 38 = .ok (.ifCond .ne 7, 3) := dk_154 0 7 (dk_at dksX8_costOf_1 14 rfl rfl)
theorem dX8_costOf_41 : decode cX8_costOf 41 = .ok (.ldc_w 314, 3) := dk_19 1 58 (dk_at dksX8_costOf_1 17 rfl rfl)
theorem dX8_costOf_44 : decode cX8_costOf 44 = .ok (.ireturn, 1) := dk_172 (dk_at dksX8_costOf_1 20 rfl rfl)
theorem dX8_costOf_45 : decode cX8_costOf 45 = .ok (.aload_n 0, 1) := dk_42 (dk_at dksX8_costOf_1 21 rfl rfl)
theorem dX8_costOf_46 : decode cX8_costOf 46 = .ok (.getfield 49, 3) := dk_180 0 49 (dk_at dksX8_costOf_2 0 rfl rfl)
theorem dX8_costOf_49 : decode cX8_costOf 49 = .ok (.iload 4, 2) := dk_21 4 (dk_at dksX8_costOf_2 3 rfl rfl)
theorem dX8_costOf_51 : decode cX8_costOf 51 = .ok (.iload_n 1, 1) := dk_27 (dk_at dksX8_costOf_2 5 rfl rfl)
theorem dX8_costOf_52 : decode cX8_costOf 52 = .ok (.iconst 1, 1) := dk_4 (dk_at dksX8_costOf_2 6 rfl rfl)
theorem dX8_costOf_53 : decode cX8_costOf 53 = .ok (.iadd, 1) := dk_96 (dk_at dksX8_costOf_2 7 rfl rfl)
theorem dX8_costOf_54 : decode cX8_costOf 54 = .ok (.imul, 1) := dk_104 (dk_at dksX8_costOf_2 8 rfl rfl)
theorem dX8_costOf_55 : decode cX8_costOf 55 = .ok (.iload_n 2, 1) := dk_28 (dk_at dksX8_costOf_2 9 rfl rfl)
theorem dX8_costOf_56 : decode cX8_costOf 56 = .ok (.iload 5, 2) := dk_21 5 (dk_at dksX8_costOf_2 10 rfl rfl)
theorem dX8_costOf_58 : decode cX8_costOf 58 = .ok (.if_icmp .le 10, 3) := dk_164 0 10 (dk_at dksX8_costOf_2 12 rfl rfl)
theorem dX8_costOf_61 : decode cX8_costOf 61 = .ok (.iload_n 2, 1) := dk_28 (dk_at dksX8_costOf_2 15 rfl rfl)
theorem dX8_costOf_62 : decode cX8_costOf 62 = .ok (.iload 5, 2) := dk_21 5 (dk_at dksX8_costOf_2 16 rfl rfl)
theorem dX8_costOf_64 : decode cX8_costOf 64 = .ok (.isub, 1) := dk_100 (dk_at dksX8_costOf_2 18 rfl rfl)
theorem dX8_costOf_65 : decode cX8_costOf 65 = .ok (.goto 4, 3) := dk_167 0 4 (dk_at dksX8_costOf_2 19 rfl rfl)
theorem dX8_costOf_68 : decode cX8_costOf 68 = .ok (.iconst 0, 1) := dk_3 (dk_at dksX8_costOf_2 22 rfl rfl)
theorem dX8_costOf_69 : decode cX8_costOf 69 = .ok (.iadd, 1) := dk_96 (dk_at dksX8_costOf_2 23 rfl rfl)
theorem dX8_costOf_70 : decode cX8_costOf 70 = .ok (.iaload, 1) := dk_46 (dk_at dksX8_costOf_3 0 rfl rfl)
theorem dX8_costOf_71 : decode cX8_costOf 71 = .ok (.istore 6, 2) := dk_54 6 (dk_at dksX8_costOf_3 1 rfl rfl)
theorem dX8_costOf_73 : decode cX8_costOf 73 = .ok (.iload 6, 2) := dk_21 6 (dk_at dksX8_costOf_3 3 rfl rfl)
theorem dX8_costOf_75 : decode cX8_costOf 75 = .ok (.ldc_w 314, 3) := dk_19 1 58 (dk_at dksX8_costOf_3 5 rfl rfl)
theorem dX8_costOf_78 : decode cX8_costOf 78 = .ok (.if_icmp .lt 9, 3) := dk_161 0 9 (dk_at dksX8_costOf_3 8 rfl rfl)
theorem dX8_costOf_81 : decode cX8_costOf 81 = .ok (.ldc_w 314, 3) := dk_19 1 58 (dk_at dksX8_costOf_3 11 rfl rfl)
theorem dX8_costOf_84 : decode cX8_costOf 84 = .ok (.goto 22, 3) := dk_167 0 22 (dk_at dksX8_costOf_3 14 rfl rfl)
theorem dX8_costOf_87 : decode cX8_costOf 87 = .ok (.iload 6, 2) := dk_21 6 (dk_at dksX8_costOf_3 17 rfl rfl)
theorem dX8_costOf_89 : decode cX8_costOf 89 = .ok (.bipush 16, 2) := dk_16 16 (dk_at dksX8_costOf_3 19 rfl rfl)
theorem dX8_costOf_91 : decode cX8_costOf 91 = .ok (.aload_n 0, 1) := dk_42 (dk_at dksX8_costOf_3 21 rfl rfl)
theorem dX8_costOf_92 : decode cX8_costOf 92 = .ok (.aload_n 0, 1) := dk_42 (dk_at dksX8_costOf_3 22 rfl rfl)
theorem dX8_costOf_93 : decode cX8_costOf 93 = .ok (.getfield 43, 3) := dk_180 0 43 (dk_at dksX8_costOf_4 0 rfl rfl)
theorem dX8_costOf_96 : decode cX8_costOf 96 = .ok (.iload_n 1, 1) := dk_27 (dk_at dksX8_costOf_4 3 rfl rfl)
theorem dX8_costOf_97 : decode cX8_costOf 97 = .ok (.iaload, 1) := dk_46 (dk_at dksX8_costOf_4 4 rfl rfl)
theorem dX8_costOf_98 : decode cX8_costOf 98 = .ok (.iconst 0, 1) := dk_3 (dk_at dksX8_costOf_4 5 rfl rfl)
theorem dX8_costOf_99 : decode cX8_costOf 99 = .ok (.invokevirtual 256, 3) := dk_182 1 0 (dk_at dksX8_costOf_4 6 rfl rfl)
theorem dX8_costOf_102 : decode cX8_costOf 102 = .ok (.imul, 1) := dk_104 (dk_at dksX8_costOf_4 9 rfl rfl)
theorem dX8_costOf_103 : decode cX8_costOf 103 = .ok (.iadd, 1) := dk_96 (dk_at dksX8_costOf_4 10 rfl rfl)
theorem dX8_costOf_104 : decode cX8_costOf 104 = .ok (.iconst 1, 1) := dk_4 (dk_at dksX8_costOf_4 11 rfl rfl)
theorem dX8_costOf_105 : decode cX8_costOf 105 = .ok (.iadd, 1) := dk_96 (dk_at dksX8_costOf_4 12 rfl rfl)
theorem dX8_costOf_106 : decode cX8_costOf 106 = .ok (.ireturn, 1) := dk_172 (dk_at dksX8_costOf_4 13 rfl rfl)
abbrev cX8_tellPaid : ByteArray := prog_18_method_73_code
def yX8_tellPaid : MethodName := ⟨RX8, "tellPaid", "()V"⟩
def dkwX8_tellPaid_2 : List UInt8 := [27, 46, 42, 180, 0, 55, 27, 46, 79, 132, 1, 1, 167, 255, 228, 177]
abbrev dktX8_tellPaid_2 : List UInt8 := dkwX8_tellPaid_2 ++ []
def dkwX8_tellPaid_1 : List UInt8 := [132, 1, 1, 167, 255, 240, 3, 60, 27, 42, 180, 1, 51, 162, 0, 26, 42, 180, 0, 52, 42, 180, 0, 43]
abbrev dktX8_tellPaid_1 : List UInt8 := dkwX8_tellPaid_1 ++ dktX8_tellPaid_2
def dkwX8_tellPaid_0 : List UInt8 := [42, 42, 180, 1, 51, 181, 0, 58, 3, 60, 27, 16, 40, 162, 0, 16, 42, 180, 0, 52, 27, 2, 79]
abbrev dktX8_tellPaid_0 : List UInt8 := dkwX8_tellPaid_0 ++ dktX8_tellPaid_1
theorem dksX8_tellPaid_0 : cX8_tellPaid.data.toList.drop 0 = dktX8_tellPaid_0 := by decide +kernel
theorem dksX8_tellPaid_1 : cX8_tellPaid.data.toList.drop 23 = dktX8_tellPaid_1 := dk_seg dksX8_tellPaid_0 23 rfl rfl
theorem dksX8_tellPaid_2 : cX8_tellPaid.data.toList.drop 47 = dktX8_tellPaid_2 := dk_seg dksX8_tellPaid_1 24 rfl rfl
theorem dX8_tellPaid_0 : decode cX8_tellPaid 0 = .ok (.aload_n 0, 1) := dk_42 (dk_at dksX8_tellPaid_0 0 rfl rfl)
theorem dX8_tellPaid_1 : decode cX8_tellPaid 1 = .ok (.aload_n 0, 1) := dk_42 (dk_at dksX8_tellPaid_0 1 rfl rfl)
theorem dX8_tellPaid_2 : decode cX8_tellPaid 2 = .ok (.getfield 307, 3) := dk_180 1 51 (dk_at dksX8_tellPaid_0 2 rfl rfl)
theorem dX8_tellPaid_5 : decode cX8_tellPaid 5 = .ok (.putfield 58, 3) := dk_181 0 58 (dk_at dksX8_tellPaid_0 5 rfl rfl)
theorem dX8_tellPaid_8 : decode cX8_tellPaid 8 = .ok (.iconst 0, 1) := dk_3 (dk_at dksX8_tellPaid_0 8 rfl rfl)
theorem dX8_tellPaid_9 : decode cX8_tellPaid 9 = .ok (.istore_n 1, 1) := dk_60 (dk_at dksX8_tellPaid_0 9 rfl rfl)
theorem dX8_tellPaid_10 : decode cX8_tellPaid 10 = .ok (.iload_n 1, 1) := dk_27 (dk_at dksX8_tellPaid_0 10 rfl rfl)
theorem dX8_tellPaid_11 : decode cX8_tellPaid 11 = .ok (.bipush 40, 2) := dk_16 40 (dk_at dksX8_tellPaid_0 11 rfl rfl)
theorem dX8_tellPaid_13 : decode cX8_tellPaid 13 = .ok (.if_icmp .ge 16, 3) := dk_162 0 16 (dk_at dksX8_tellPaid_0 13 rfl rfl)
theorem dX8_tellPaid_16 : decode cX8_tellPaid 16 = .ok (.aload_n 0, 1) := dk_42 (dk_at dksX8_tellPaid_0 16 rfl rfl)
theorem dX8_tellPaid_17 : decode cX8_tellPaid 17 = .ok (.getfield 52, 3) := dk_180 0 52 (dk_at dksX8_tellPaid_0 17 rfl rfl)
theorem dX8_tellPaid_20 : decode cX8_tellPaid 20 = .ok (.iload_n 1, 1) := dk_27 (dk_at dksX8_tellPaid_0 20 rfl rfl)
theorem dX8_tellPaid_21 : decode cX8_tellPaid 21 = .ok (.iconst (-1), 1) := dk_2 (dk_at dksX8_tellPaid_0 21 rfl rfl)
theorem dX8_tellPaid_22 : decode cX8_tellPaid 22 = .ok (.iastore, 1) := dk_79 (dk_at dksX8_tellPaid_0 22 rfl rfl)
theorem dX8_tellPaid_23 : decode cX8_tellPaid 23 = .ok (.iinc 1 1, 3) := dk_132 1 1 (dk_at dksX8_tellPaid_1 0 rfl rfl)
theorem dX8_tellPaid_26 : decode cX8_tellPaid 26 = .ok (.goto (-16), 3) := dk_167 255 240 (dk_at dksX8_tellPaid_1 3 rfl rfl)
theorem dX8_tellPaid_29 : decode cX8_tellPaid 29 = .ok (.iconst 0, 1) := dk_3 (dk_at dksX8_tellPaid_1 6 rfl rfl)
theorem dX8_tellPaid_30 : decode cX8_tellPaid 30 = .ok (.istore_n 1, 1) := dk_60 (dk_at dksX8_tellPaid_1 7 rfl rfl)
theorem dX8_tellPaid_31 : decode cX8_tellPaid 31 = .ok (.iload_n 1, 1) := dk_27 (dk_at dksX8_tellPaid_1 8 rfl rfl)
theorem dX8_tellPaid_32 : decode cX8_tellPaid 32 = .ok (.aload_n 0, 1) := dk_42 (dk_at dksX8_tellPaid_1 9 rfl rfl)
theorem dX8_tellPaid_33 : decode cX8_tellPaid 33 = .ok (.getfield 307, 3) := dk_180 1 51 (dk_at dksX8_tellPaid_1 10 rfl rfl)
theorem dX8_tellPaid_36 : decode cX8_tellPaid 36 = .ok (.if_icmp .ge 26, 3) := dk_162 0 26 (dk_at dksX8_tellPaid_1 13 rfl rfl)
theorem dX8_tellPaid_39 : decode cX8_tellPaid 39 = .ok (.aload_n 0, 1) := dk_42 (dk_at dksX8_tellPaid_1 16 rfl rfl)
theorem dX8_tellPaid_40 : decode cX8_tellPaid 40 = .ok (.getfield 52, 3) := dk_180 0 52 (dk_at dksX8_tellPaid_1 17 rfl rfl)
theorem dX8_tellPaid_43 : decode cX8_tellPaid 43 = .ok (.aload_n 0, 1) := dk_42 (dk_at dksX8_tellPaid_1 20 rfl rfl)
theorem dX8_tellPaid_44 : decode cX8_tellPaid 44 = .ok (.getfield 43, 3) := dk_180 0 43 (dk_at dksX8_tellPaid_1 21 rfl rfl)
theorem dX8_tellPaid_47 : decode cX8_tellPaid 47 = .ok (.iload_n 1, 1) := dk_27 (dk_at dksX8_tellPaid_2 0 rfl rfl)
theorem dX8_tellPaid_48 : decode cX8_tellPaid 48 = .ok (.iaload, 1) := dk_46 (dk_at dksX8_tellPaid_2 1 rfl rfl)
theorem dX8_tellPaid_49 : decode cX8_tellPaid 49 = .ok (.aload_n 0, 1) := dk_42 (dk_at dksX8_tellPaid_2 2 rfl rfl)
theorem dX8_tellPaid_50 : decode cX8_tellPaid 50 = .ok (.getfield 55, 3) := dk_180 0 55 (dk_at dksX8_tellPaid_2 3 rfl rfl)
theorem dX8_tellPaid_53 : decode cX8_tellPaid 53 = .ok (.iload_n 1, 1) := dk_27 (dk_at dksX8_tellPaid_2 6 rfl rfl)
theorem dX8_tellPaid_54 : decode cX8_tellPaid 54 = .ok (.iaload, 1) := dk_46 (dk_at dksX8_tellPaid_2 7 rfl rfl)
theorem dX8_tellPaid_55 : decode cX8_tellPaid 55 = .ok (.iastore, 1) := dk_79 (dk_at dksX8_tellPaid_2 8 rfl rfl)
theorem dX8_tellPaid_56 : decode cX8_tellPaid 56 = .ok (.iinc 1 1, 3) := dk_132 1 1 (dk_at dksX8_tellPaid_2 9 rfl rfl)
theorem dX8_tellPaid_59 : decode cX8_tellPaid 59 = .ok (.goto (-28), 3) := dk_167 255 228 (dk_at dksX8_tellPaid_2 12 rfl rfl)
theorem dX8_tellPaid_62 : decode cX8_tellPaid 62 = .ok (.return_, 1) := dk_177 (dk_at dksX8_tellPaid_2 15 rfl rfl)
abbrev cX8_paid : ByteArray := prog_18_method_75_code
def yX8_paid : MethodName := ⟨RX8, "paid", "(I)I"⟩
def dkwX8_paid_1 : List UInt8 := [167, 0, 9, 42, 180, 0, 52, 27, 46, 172]
abbrev dktX8_paid_1 : List UInt8 := dkwX8_paid_1 ++ []
def dkwX8_paid_0 : List UInt8 := [42, 3, 181, 0, 83, 42, 180, 0, 58, 2, 159, 0, 13, 27, 3, 16, 39, 184, 0, 154, 154, 0, 7, 2]
abbrev dktX8_paid_0 : List UInt8 := dkwX8_paid_0 ++ dktX8_paid_1
theorem dksX8_paid_0 : cX8_paid.data.toList.drop 0 = dktX8_paid_0 := by decide +kernel
theorem dksX8_paid_1 : cX8_paid.data.toList.drop 24 = dktX8_paid_1 := dk_seg dksX8_paid_0 24 rfl rfl
theorem dX8_paid_0 : decode cX8_paid 0 = .ok (.aload_n 0, 1) := dk_42 (dk_at dksX8_paid_0 0 rfl rfl)
theorem dX8_paid_1 : decode cX8_paid 1 = .ok (.iconst 0, 1) := dk_3 (dk_at dksX8_paid_0 1 rfl rfl)
theorem dX8_paid_2 : decode cX8_paid 2 = .ok (.putfield 83, 3) := dk_181 0 83 (dk_at dksX8_paid_0 2 rfl rfl)
theorem dX8_paid_5 : decode cX8_paid 5 = .ok (.aload_n 0, 1) := dk_42 (dk_at dksX8_paid_0 5 rfl rfl)
theorem dX8_paid_6 : decode cX8_paid 6 = .ok (.getfield 58, 3) := dk_180 0 58 (dk_at dksX8_paid_0 6 rfl rfl)
theorem dX8_paid_9 : decode cX8_paid 9 = .ok (.iconst (-1), 1) := dk_2 (dk_at dksX8_paid_0 9 rfl rfl)
theorem dX8_paid_10 : decode cX8_paid 10 = .ok (.if_icmp .eq 13, 3) := dk_159 0 13 (dk_at dksX8_paid_0 10 rfl rfl)
theorem dX8_paid_13 : decode cX8_paid 13 = .ok (.iload_n 1, 1) := dk_27 (dk_at dksX8_paid_0 13 rfl rfl)
theorem dX8_paid_14 : decode cX8_paid 14 = .ok (.iconst 0, 1) := dk_3 (dk_at dksX8_paid_0 14 rfl rfl)
theorem dX8_paid_15 : decode cX8_paid 15 = .ok (.bipush 39, 2) := dk_16 39 (dk_at dksX8_paid_0 15 rfl rfl)
theorem dX8_paid_17 : decode cX8_paid 17 = .ok (.invokestatic 154, 3) := dk_184 0 154 (dk_at dksX8_paid_0 17 rfl rfl)
theorem dX8_paid_20 : decode cX8_paid 20 = .ok (.ifCond .ne 7, 3) := dk_154 0 7 (dk_at dksX8_paid_0 20 rfl rfl)
theorem dX8_paid_23 : decode cX8_paid 23 = .ok (.iconst (-1), 1) := dk_2 (dk_at dksX8_paid_0 23 rfl rfl)
theorem dX8_paid_24 : decode cX8_paid 24 = .ok (.goto 9, 3) := dk_167 0 9 (dk_at dksX8_paid_1 0 rfl rfl)
theorem dX8_paid_27 : decode cX8_paid 27 = .ok (.aload_n 0, 1) := dk_42 (dk_at dksX8_paid_1 3 rfl rfl)
theorem dX8_paid_28 : decode cX8_paid 28 = .ok (.getfield 52, 3) := dk_180 0 52 (dk_at dksX8_paid_1 4 rfl rfl)
theorem dX8_paid_31 : decode cX8_paid 31 = .ok (.iload_n 1, 1) := dk_27 (dk_at dksX8_paid_1 7 rfl rfl)
theorem dX8_paid_32 : decode cX8_paid 32 = .ok (.iaload, 1) := dk_46 (dk_at dksX8_paid_1 8 rfl rfl)
theorem dX8_paid_33 : decode cX8_paid 33 = .ok (.ireturn, 1) := dk_172 (dk_at dksX8_paid_1 9 rfl rfl)
abbrev cX8_buy : ByteArray := prog_18_method_78_code
def yX8_buy : MethodName := ⟨RX8, "buy", "(IIII)I"⟩
def dkwX8_buy_2 : List UInt8 := [182, 1, 16, 42, 27, 28, 29, 21, 4, 182, 1, 75, 21, 5, 172]
abbrev dktX8_buy_2 : List UInt8 := dkwX8_buy_2 ++ []
def dkwX8_buy_1 : List UInt8 := [156, 0, 6, 21, 5, 172, 42, 182, 1, 69, 42, 42, 182, 1, 72, 182, 1, 13, 153, 0, 5, 2, 172, 42]
abbrev dktX8_buy_1 : List UInt8 := dkwX8_buy_1 ++ dktX8_buy_2
def dkwX8_buy_0 : List UInt8 := [42, 3, 181, 0, 83, 42, 182, 0, 167, 42, 27, 28, 29, 21, 4, 182, 1, 65, 54, 5, 21, 5]
abbrev dktX8_buy_0 : List UInt8 := dkwX8_buy_0 ++ dktX8_buy_1
theorem dksX8_buy_0 : cX8_buy.data.toList.drop 0 = dktX8_buy_0 := by decide +kernel
theorem dksX8_buy_1 : cX8_buy.data.toList.drop 22 = dktX8_buy_1 := dk_seg dksX8_buy_0 22 rfl rfl
theorem dksX8_buy_2 : cX8_buy.data.toList.drop 46 = dktX8_buy_2 := dk_seg dksX8_buy_1 24 rfl rfl
theorem dX8_buy_0 : decode cX8_buy 0 = .ok (.aload_n 0, 1) := dk_42 (dk_at dksX8_buy_0 0 rfl rfl)
theorem dX8_buy_1 : decode cX8_buy 1 = .ok (.iconst 0, 1) := dk_3 (dk_at dksX8_buy_0 1 rfl rfl)
theorem dX8_buy_2 : decode cX8_buy 2 = .ok (.putfield 83, 3) := dk_181 0 83 (dk_at dksX8_buy_0 2 rfl rfl)
theorem dX8_buy_5 : decode cX8_buy 5 = .ok (.aload_n 0, 1) := dk_42 (dk_at dksX8_buy_0 5 rfl rfl)
theorem dX8_buy_6 : decode cX8_buy 6 = .ok (.invokevirtual 167, 3) := dk_182 0 167 (dk_at dksX8_buy_0 6 rfl rfl)
theorem dX8_buy_9 : decode cX8_buy 9 = .ok (.aload_n 0, 1) := dk_42 (dk_at dksX8_buy_0 9 rfl rfl)
theorem dX8_buy_10 : decode cX8_buy 10 = .ok (.iload_n 1, 1) := dk_27 (dk_at dksX8_buy_0 10 rfl rfl)
theorem dX8_buy_11 : decode cX8_buy 11 = .ok (.iload_n 2, 1) := dk_28 (dk_at dksX8_buy_0 11 rfl rfl)
theorem dX8_buy_12 : decode cX8_buy 12 = .ok (.iload_n 3, 1) := dk_29 (dk_at dksX8_buy_0 12 rfl rfl)
theorem dX8_buy_13 : decode cX8_buy 13 = .ok (.iload 4, 2) := dk_21 4 (dk_at dksX8_buy_0 13 rfl rfl)
theorem dX8_buy_15 : decode cX8_buy 15 = .ok (.invokevirtual 321, 3) := dk_182 1 65 (dk_at dksX8_buy_0 15 rfl rfl)
theorem dX8_buy_18 : decode cX8_buy 18 = .ok (.istore 5, 2) := dk_54 5 (dk_at dksX8_buy_0 18 rfl rfl)
theorem dX8_buy_20 : decode cX8_buy 20 = .ok (.iload 5, 2) := dk_21 5 (dk_at dksX8_buy_0 20 rfl rfl)
theorem dX8_buy_22 : decode cX8_buy 22 = .ok (.ifCond .ge 6, 3) := dk_156 0 6 (dk_at dksX8_buy_1 0 rfl rfl)
theorem dX8_buy_25 : decode cX8_buy 25 = .ok (.iload 5, 2) := dk_21 5 (dk_at dksX8_buy_1 3 rfl rfl)
theorem dX8_buy_27 : decode cX8_buy 27 = .ok (.ireturn, 1) := dk_172 (dk_at dksX8_buy_1 5 rfl rfl)
theorem dX8_buy_28 : decode cX8_buy 28 = .ok (.aload_n 0, 1) := dk_42 (dk_at dksX8_buy_1 6 rfl rfl)
theorem dX8_buy_29 : decode cX8_buy 29 = .ok (.invokevirtual 325, 3) := dk_182 1 69 (dk_at dksX8_buy_1 7 rfl rfl)
theorem dX8_buy_32 : decode cX8_buy 32 = .ok (.aload_n 0, 1) := dk_42 (dk_at dksX8_buy_1 10 rfl rfl)
theorem dX8_buy_33 : decode cX8_buy 33 = .ok (.aload_n 0, 1) := dk_42 (dk_at dksX8_buy_1 11 rfl rfl)
theorem dX8_buy_34 : decode cX8_buy 34 = .ok (.invokevirtual 328, 3) := dk_182 1 72 (dk_at dksX8_buy_1 12 rfl rfl)
theorem dX8_buy_37 : decode cX8_buy 37 = .ok (.invokevirtual 269, 3) := dk_182 1 13 (dk_at dksX8_buy_1 15 rfl rfl)
theorem dX8_buy_40 : decode cX8_buy 40 = .ok (.ifCond .eq 5, 3) := dk_153 0 5 (dk_at dksX8_buy_1 18 rfl rfl)
theorem dX8_buy_43 : decode cX8_buy 43 = .ok (.iconst (-1), 1) := dk_2 (dk_at dksX8_buy_1 21 rfl rfl)
theorem dX8_buy_44 : decode cX8_buy 44 = .ok (.ireturn, 1) := dk_172 (dk_at dksX8_buy_1 22 rfl rfl)
theorem dX8_buy_45 : decode cX8_buy 45 = .ok (.aload_n 0, 1) := dk_42 (dk_at dksX8_buy_1 23 rfl rfl)
theorem dX8_buy_46 : decode cX8_buy 46 = .ok (.invokevirtual 272, 3) := dk_182 1 16 (dk_at dksX8_buy_2 0 rfl rfl)
theorem dX8_buy_49 : decode cX8_buy 49 = .ok (.aload_n 0, 1) := dk_42 (dk_at dksX8_buy_2 3 rfl rfl)
theorem dX8_buy_50 : decode cX8_buy 50 = .ok (.iload_n 1, 1) := dk_27 (dk_at dksX8_buy_2 4 rfl rfl)
theorem dX8_buy_51 : decode cX8_buy 51 = .ok (.iload_n 2, 1) := dk_28 (dk_at dksX8_buy_2 5 rfl rfl)
theorem dX8_buy_52 : decode cX8_buy 52 = .ok (.iload_n 3, 1) := dk_29 (dk_at dksX8_buy_2 6 rfl rfl)
theorem dX8_buy_53 : decode cX8_buy 53 = .ok (.iload 4, 2) := dk_21 4 (dk_at dksX8_buy_2 7 rfl rfl)
theorem dX8_buy_55 : decode cX8_buy 55 = .ok (.invokevirtual 331, 3) := dk_182 1 75 (dk_at dksX8_buy_2 9 rfl rfl)
theorem dX8_buy_58 : decode cX8_buy 58 = .ok (.iload 5, 2) := dk_21 5 (dk_at dksX8_buy_2 12 rfl rfl)
theorem dX8_buy_60 : decode cX8_buy 60 = .ok (.ireturn, 1) := dk_172 (dk_at dksX8_buy_2 14 rfl rfl)
abbrev cX8_strokesToPay : ByteArray := prog_18_method_76_code
def yX8_strokesToPay : MethodName := ⟨RX8, "strokesToPay", "()I"⟩
def dkwX8_strokesToPay_1 : List UInt8 := [167, 0, 9, 42, 180, 0, 55, 28, 46, 96, 60, 132, 2, 1, 167, 255, 222, 27, 172]
abbrev dktX8_strokesToPay_1 : List UInt8 := dkwX8_strokesToPay_1 ++ []
def dkwX8_strokesToPay_0 : List UInt8 := [3, 60, 3, 61, 28, 42, 180, 1, 51, 162, 0, 32, 27, 42, 180, 0, 55, 28, 46, 4, 164, 0, 7, 5]
abbrev dktX8_strokesToPay_0 : List UInt8 := dkwX8_strokesToPay_0 ++ dktX8_strokesToPay_1
theorem dksX8_strokesToPay_0 : cX8_strokesToPay.data.toList.drop 0 = dktX8_strokesToPay_0 := by decide +kernel
theorem dksX8_strokesToPay_1 : cX8_strokesToPay.data.toList.drop 24 = dktX8_strokesToPay_1 := dk_seg dksX8_strokesToPay_0 24 rfl rfl
theorem dX8_strokesToPay_0 : decode cX8_strokesToPay 0 = .ok (.iconst 0, 1) := dk_3 (dk_at dksX8_strokesToPay_0 0 rfl rfl)
theorem dX8_strokesToPay_1 : decode cX8_strokesToPay 1 = .ok (.istore_n 1, 1) := dk_60 (dk_at dksX8_strokesToPay_0 1 rfl rfl)
theorem dX8_strokesToPay_2 : decode cX8_strokesToPay 2 = .ok (.iconst 0, 1) := dk_3 (dk_at dksX8_strokesToPay_0 2 rfl rfl)
theorem dX8_strokesToPay_3 : decode cX8_strokesToPay 3 = .ok (.istore_n 2, 1) := dk_61 (dk_at dksX8_strokesToPay_0 3 rfl rfl)
theorem dX8_strokesToPay_4 : decode cX8_strokesToPay 4 = .ok (.iload_n 2, 1) := dk_28 (dk_at dksX8_strokesToPay_0 4 rfl rfl)
theorem dX8_strokesToPay_5 : decode cX8_strokesToPay 5 = .ok (.aload_n 0, 1) := dk_42 (dk_at dksX8_strokesToPay_0 5 rfl rfl)
theorem dX8_strokesToPay_6 : decode cX8_strokesToPay 6 = .ok (.getfield 307, 3) := dk_180 1 51 (dk_at dksX8_strokesToPay_0 6 rfl rfl)
theorem dX8_strokesToPay_9 : decode cX8_strokesToPay 9 = .ok (.if_icmp .ge 32, 3) := dk_162 0 32 (dk_at dksX8_strokesToPay_0 9 rfl rfl)
theorem dX8_strokesToPay_12 : decode cX8_strokesToPay 12 = .ok (.iload_n 1, 1) := dk_27 (dk_at dksX8_strokesToPay_0 12 rfl rfl)
theorem dX8_strokesToPay_13 : decode cX8_strokesToPay 13 = .ok (.aload_n 0, 1) := dk_42 (dk_at dksX8_strokesToPay_0 13 rfl rfl)
theorem dX8_strokesToPay_14 : decode cX8_strokesToPay 14 = .ok (.getfield 55, 3) := dk_180 0 55 (dk_at dksX8_strokesToPay_0 14 rfl rfl)
theorem dX8_strokesToPay_17 : decode cX8_strokesToPay 17 = .ok (.iload_n 2, 1) := dk_28 (dk_at dksX8_strokesToPay_0 17 rfl rfl)
theorem dX8_strokesToPay_18 : decode cX8_strokesToPay 18 = .ok (.iaload, 1) := dk_46 (dk_at dksX8_strokesToPay_0 18 rfl rfl)
theorem dX8_strokesToPay_19 : decode cX8_strokesToPay 19 = .ok (.iconst 1, 1) := dk_4 (dk_at dksX8_strokesToPay_0 19 rfl rfl)
theorem dX8_strokesToPay_20 : decode cX8_strokesToPay 20 = .ok (.if_icmp .le 7, 3) := dk_164 0 7 (dk_at dksX8_strokesToPay_0 20 rfl rfl)
theorem dX8_strokesToPay_23 : decode cX8_strokesToPay 23 = .ok (.iconst 2, 1) := dk_5 (dk_at dksX8_strokesToPay_0 23 rfl rfl)
theorem dX8_strokesToPay_24 : decode cX8_strokesToPay 24 = .ok (.goto 9, 3) := dk_167 0 9 (dk_at dksX8_strokesToPay_1 0 rfl rfl)
theorem dX8_strokesToPay_27 : decode cX8_strokesToPay 27 = .ok (.aload_n 0, 1) := dk_42 (dk_at dksX8_strokesToPay_1 3 rfl rfl)
theorem dX8_strokesToPay_28 : decode cX8_strokesToPay 28 = .ok (.getfield 55, 3) := dk_180 0 55 (dk_at dksX8_strokesToPay_1 4 rfl rfl)
theorem dX8_strokesToPay_31 : decode cX8_strokesToPay 31 = .ok (.iload_n 2, 1) := dk_28 (dk_at dksX8_strokesToPay_1 7 rfl rfl)
theorem dX8_strokesToPay_32 : decode cX8_strokesToPay 32 = .ok (.iaload, 1) := dk_46 (dk_at dksX8_strokesToPay_1 8 rfl rfl)
theorem dX8_strokesToPay_33 : decode cX8_strokesToPay 33 = .ok (.iadd, 1) := dk_96 (dk_at dksX8_strokesToPay_1 9 rfl rfl)
theorem dX8_strokesToPay_34 : decode cX8_strokesToPay 34 = .ok (.istore_n 1, 1) := dk_60 (dk_at dksX8_strokesToPay_1 10 rfl rfl)
theorem dX8_strokesToPay_35 : decode cX8_strokesToPay 35 = .ok (.iinc 2 1, 3) := dk_132 2 1 (dk_at dksX8_strokesToPay_1 11 rfl rfl)
theorem dX8_strokesToPay_38 : decode cX8_strokesToPay 38 = .ok (.goto (-34), 3) := dk_167 255 222 (dk_at dksX8_strokesToPay_1 14 rfl rfl)
theorem dX8_strokesToPay_41 : decode cX8_strokesToPay 41 = .ok (.iload_n 1, 1) := dk_27 (dk_at dksX8_strokesToPay_1 17 rfl rfl)
theorem dX8_strokesToPay_42 : decode cX8_strokesToPay 42 = .ok (.ireturn, 1) := dk_172 (dk_at dksX8_strokesToPay_1 18 rfl rfl)
abbrev cX8_pay : ByteArray := prog_18_method_77_code
def yX8_pay : MethodName := ⟨RX8, "pay", "(IIII)V"⟩
def dkwX8_pay_7 : List UInt8 := [132, 7, 1, 167, 255, 189, 42, 27, 28, 29, 21, 4, 21, 5, 21, 6, 182, 1, 47, 177]
abbrev dktX8_pay_7 : List UInt8 := dkwX8_pay_7 ++ []
def dkwX8_pay_6 : List UInt8 := [182, 1, 19, 42, 180, 0, 13, 16, 120, 16, 32, 42, 180, 0, 43, 21, 7, 46, 104, 96, 4, 96, 28, 79]
abbrev dktX8_pay_6 : List UInt8 := dkwX8_pay_6 ++ dktX8_pay_7
def dkwX8_pay_5 : List UInt8 := [154, 0, 6, 167, 0, 45, 42, 42, 180, 0, 43, 21, 7, 46, 28, 29, 42, 180, 0, 13, 16, 113, 46, 3]
abbrev dktX8_pay_5 : List UInt8 := dkwX8_pay_5 ++ dktX8_pay_6
def dkwX8_pay_4 : List UInt8 := [167, 255, 171, 3, 54, 7, 21, 7, 42, 180, 1, 51, 162, 0, 64, 42, 180, 0, 55, 21, 7, 46]
abbrev dktX8_pay_4 : List UInt8 := dkwX8_pay_4 ++ dktX8_pay_5
def dkwX8_pay_3 : List UInt8 := [180, 0, 43, 21, 7, 46, 27, 42, 180, 0, 55, 21, 7, 46, 5, 100, 2, 3, 182, 1, 19, 132, 7, 1]
abbrev dktX8_pay_3 : List UInt8 := dkwX8_pay_3 ++ dktX8_pay_4
def dkwX8_pay_2 : List UInt8 := [180, 0, 55, 21, 7, 46, 96, 46, 96, 54, 6, 42, 180, 0, 55, 21, 7, 46, 4, 164, 0, 26, 42, 42]
abbrev dktX8_pay_2 : List UInt8 := dkwX8_pay_2 ++ dktX8_pay_3
def dkwX8_pay_1 : List UInt8 := [46, 154, 0, 6, 167, 0, 63, 132, 5, 1, 21, 6, 42, 180, 0, 46, 16, 6, 21, 7, 104, 42]
abbrev dktX8_pay_1 : List UInt8 := dkwX8_pay_1 ++ dktX8_pay_2
def dkwX8_pay_0 : List UInt8 := [3, 54, 5, 3, 54, 6, 3, 54, 7, 21, 7, 42, 180, 1, 51, 162, 0, 82, 42, 180, 0, 55, 21, 7]
abbrev dktX8_pay_0 : List UInt8 := dkwX8_pay_0 ++ dktX8_pay_1
theorem dksX8_pay_0 : cX8_pay.data.toList.drop 0 = dktX8_pay_0 := by decide +kernel
theorem dksX8_pay_1 : cX8_pay.data.toList.drop 24 = dktX8_pay_1 := dk_seg dksX8_pay_0 24 rfl rfl
theorem dksX8_pay_2 : cX8_pay.data.toList.drop 46 = dktX8_pay_2 := dk_seg dksX8_pay_1 22 rfl rfl
theorem dksX8_pay_3 : cX8_pay.data.toList.drop 70 = dktX8_pay_3 := dk_seg dksX8_pay_2 24 rfl rfl
theorem dksX8_pay_4 : cX8_pay.data.toList.drop 94 = dktX8_pay_4 := dk_seg dksX8_pay_3 24 rfl rfl
theorem dksX8_pay_5 : cX8_pay.data.toList.drop 116 = dktX8_pay_5 := dk_seg dksX8_pay_4 22 rfl rfl
theorem dksX8_pay_6 : cX8_pay.data.toList.drop 140 = dktX8_pay_6 := dk_seg dksX8_pay_5 24 rfl rfl
theorem dksX8_pay_7 : cX8_pay.data.toList.drop 164 = dktX8_pay_7 := dk_seg dksX8_pay_6 24 rfl rfl
theorem dX8_pay_0 : decode cX8_pay 0 = .ok (.iconst 0, 1) := dk_3 (dk_at dksX8_pay_0 0 rfl rfl)
theorem dX8_pay_1 : decode cX8_pay 1 = .ok (.istore 5, 2) := dk_54 5 (dk_at dksX8_pay_0 1 rfl rfl)
theorem dX8_pay_3 : decode cX8_pay 3 = .ok (.iconst 0, 1) := dk_3 (dk_at dksX8_pay_0 3 rfl rfl)
theorem dX8_pay_4 : decode cX8_pay 4 = .ok (.istore 6, 2) := dk_54 6 (dk_at dksX8_pay_0 4 rfl rfl)
theorem dX8_pay_6 : decode cX8_pay 6 = .ok (.iconst 0, 1) := dk_3 (dk_at dksX8_pay_0 6 rfl rfl)
theorem dX8_pay_7 : decode cX8_pay 7 = .ok (.istore 7, 2) := dk_54 7 (dk_at dksX8_pay_0 7 rfl rfl)
theorem dX8_pay_9 : decode cX8_pay 9 = .ok (.iload 7, 2) := dk_21 7 (dk_at dksX8_pay_0 9 rfl rfl)
theorem dX8_pay_11 : decode cX8_pay 11 = .ok (.aload_n 0, 1) := dk_42 (dk_at dksX8_pay_0 11 rfl rfl)
theorem dX8_pay_12 : decode cX8_pay 12 = .ok (.getfield 307, 3) := dk_180 1 51 (dk_at dksX8_pay_0 12 rfl rfl)
theorem dX8_pay_15 : decode cX8_pay 15 = .ok (.if_icmp .ge 82, 3) := dk_162 0 82 (dk_at dksX8_pay_0 15 rfl rfl)
theorem dX8_pay_18 : decode cX8_pay 18 = .ok (.aload_n 0, 1) := dk_42 (dk_at dksX8_pay_0 18 rfl rfl)
theorem dX8_pay_19 : decode cX8_pay 19 = .ok (.getfield 55, 3) := dk_180 0 55 (dk_at dksX8_pay_0 19 rfl rfl)
theorem dX8_pay_22 : decode cX8_pay 22 = .ok (.iload 7, 2) := dk_21 7 (dk_at dksX8_pay_0 22 rfl rfl)
theorem dX8_pay_24 : decode cX8_pay 24 = .ok (.iaload, 1) := dk_46 (dk_at dksX8_pay_1 0 rfl rfl)
theorem dX8_pay_25 : decode cX8_pay 25 = .ok (.ifCond .ne 6, 3) := dk_154 0 6 (dk_at dksX8_pay_1 1 rfl rfl)
theorem dX8_pay_28 : decode cX8_pay 28 = .ok (.goto 63, 3) := dk_167 0 63 (dk_at dksX8_pay_1 4 rfl rfl)
theorem dX8_pay_31 : decode cX8_pay 31 = .ok (.iinc 5 1, 3) := dk_132 5 1 (dk_at dksX8_pay_1 7 rfl rfl)
theorem dX8_pay_34 : decode cX8_pay 34 = .ok (.iload 6, 2) := dk_21 6 (dk_at dksX8_pay_1 10 rfl rfl)
theorem dX8_pay_36 : decode cX8_pay 36 = .ok (.aload_n 0, 1) := dk_42 (dk_at dksX8_pay_1 12 rfl rfl)
theorem dX8_pay_37 : decode cX8_pay 37 = .ok (.getfield 46, 3) := dk_180 0 46 (dk_at dksX8_pay_1 13 rfl rfl)
theorem dX8_pay_40 : decode cX8_pay 40 = .ok (.bipush 6, 2) := dk_16 6 (dk_at dksX8_pay_1 16 rfl rfl)
theorem dX8_pay_42 : decode cX8_pay 42 = .ok (.iload 7, 2) := dk_21 7 (dk_at dksX8_pay_1 18 rfl rfl)
theorem dX8_pay_44 : decode cX8_pay 44 = .ok (.imul, 1) := dk_104 (dk_at dksX8_pay_1 20 rfl rfl)
theorem dX8_pay_45 : decode cX8_pay 45 = .ok (.aload_n 0, 1) := dk_42 (dk_at dksX8_pay_1 21 rfl rfl)
theorem dX8_pay_46 : decode cX8_pay 46 = .ok (.getfield 55, 3) := dk_180 0 55 (dk_at dksX8_pay_2 0 rfl rfl)
theorem dX8_pay_49 : decode cX8_pay 49 = .ok (.iload 7, 2) := dk_21 7 (dk_at dksX8_pay_2 3 rfl rfl)
theorem dX8_pay_51 : decode cX8_pay 51 = .ok (.iaload, 1) := dk_46 (dk_at dksX8_pay_2 5 rfl rfl)
theorem dX8_pay_52 : decode cX8_pay 52 = .ok (.iadd, 1) := dk_96 (dk_at dksX8_pay_2 6 rfl rfl)
theorem dX8_pay_53 : decode cX8_pay 53 = .ok (.iaload, 1) := dk_46 (dk_at dksX8_pay_2 7 rfl rfl)
theorem dX8_pay_54 : decode cX8_pay 54 = .ok (.iadd, 1) := dk_96 (dk_at dksX8_pay_2 8 rfl rfl)
theorem dX8_pay_55 : decode cX8_pay 55 = .ok (.istore 6, 2) := dk_54 6 (dk_at dksX8_pay_2 9 rfl rfl)
theorem dX8_pay_57 : decode cX8_pay 57 = .ok (.aload_n 0, 1) := dk_42 (dk_at dksX8_pay_2 11 rfl rfl)
theorem dX8_pay_58 : decode cX8_pay 58 = .ok (.getfield 55, 3) := dk_180 0 55 (dk_at dksX8_pay_2 12 rfl rfl)
theorem dX8_pay_61 : decode cX8_pay 61 = .ok (.iload 7, 2) := dk_21 7 (dk_at dksX8_pay_2 15 rfl rfl)
theorem dX8_pay_63 : decode cX8_pay 63 = .ok (.iaload, 1) := dk_46 (dk_at dksX8_pay_2 17 rfl rfl)
theorem dX8_pay_64 : decode cX8_pay 64 = .ok (.iconst 1, 1) := dk_4 (dk_at dksX8_pay_2 18 rfl rfl)
theorem dX8_pay_65 : decode cX8_pay 65 = .ok (.if_icmp .le 26, 3) := dk_164 0 26 (dk_at dksX8_pay_2 19 rfl rfl)
theorem dX8_pay_68 : decode cX8_pay 68 = .ok (.aload_n 0, 1) := dk_42 (dk_at dksX8_pay_2 22 rfl rfl)
theorem dX8_pay_69 : decode cX8_pay 69 = .ok (.aload_n 0, 1) := dk_42 (dk_at dksX8_pay_2 23 rfl rfl)
theorem dX8_pay_70 : decode cX8_pay 70 = .ok (.getfield 43, 3) := dk_180 0 43 (dk_at dksX8_pay_3 0 rfl rfl)
theorem dX8_pay_73 : decode cX8_pay 73 = .ok (.iload 7, 2) := dk_21 7 (dk_at dksX8_pay_3 3 rfl rfl)
theorem dX8_pay_75 : decode cX8_pay 75 = .ok (.iaload, 1) := dk_46 (dk_at dksX8_pay_3 5 rfl rfl)
theorem dX8_pay_76 : decode cX8_pay 76 = .ok (.iload_n 1, 1) := dk_27 (dk_at dksX8_pay_3 6 rfl rfl)
theorem dX8_pay_77 : decode cX8_pay 77 = .ok (.aload_n 0, 1) := dk_42 (dk_at dksX8_pay_3 7 rfl rfl)
theorem dX8_pay_78 : decode cX8_pay 78 = .ok (.getfield 55, 3) := dk_180 0 55 (dk_at dksX8_pay_3 8 rfl rfl)
theorem dX8_pay_81 : decode cX8_pay 81 = .ok (.iload 7, 2) := dk_21 7 (dk_at dksX8_pay_3 11 rfl rfl)
theorem dX8_pay_83 : decode cX8_pay 83 = .ok (.iaload, 1) := dk_46 (dk_at dksX8_pay_3 13 rfl rfl)
theorem dX8_pay_84 : decode cX8_pay 84 = .ok (.iconst 2, 1) := dk_5 (dk_at dksX8_pay_3 14 rfl rfl)
theorem dX8_pay_85 : decode cX8_pay 85 = .ok (.isub, 1) := dk_100 (dk_at dksX8_pay_3 15 rfl rfl)
theorem dX8_pay_86 : decode cX8_pay 86 = .ok (.iconst (-1), 1) := dk_2 (dk_at dksX8_pay_3 16 rfl rfl)
theorem dX8_pay_87 : decode cX8_pay 87 = .ok (.iconst 0, 1) := dk_3 (dk_at dksX8_pay_3 17 rfl rfl)
theorem dX8_pay_88 : decode cX8_pay 88 = .ok (.invokevirtual 275, 3) := dk_182 1 19 (dk_at dksX8_pay_3 18 rfl rfl)
theorem dX8_pay_91 : decode cX8_pay 91 = .ok (.iinc 7 1, 3) := dk_132 7 1 (dk_at dksX8_pay_3 21 rfl rfl)
theorem dX8_pay_94 : decode cX8_pay 94 = .ok (.goto (-85), 3) := dk_167 255 171 (dk_at dksX8_pay_4 0 rfl rfl)
theorem dX8_pay_97 : decode cX8_pay 97 = .ok (.iconst 0, 1) := dk_3 (dk_at dksX8_pay_4 3 rfl rfl)
theorem dX8_pay_98 : decode cX8_pay 98 = .ok (.istore 7, 2) := dk_54 7 (dk_at dksX8_pay_4 4 rfl rfl)
theorem dX8_pay_100 : decode cX8_pay 100 = .ok (.iload 7, 2) := dk_21 7 (dk_at dksX8_pay_4 6 rfl rfl)
theorem dX8_pay_102 : decode cX8_pay 102 = .ok (.aload_n 0, 1) := dk_42 (dk_at dksX8_pay_4 8 rfl rfl)
theorem dX8_pay_103 : decode cX8_pay 103 = .ok (.getfield 307, 3) := dk_180 1 51 (dk_at dksX8_pay_4 9 rfl rfl)
theorem dX8_pay_106 : decode cX8_pay 106 = .ok (.if_icmp .ge 64, 3) := dk_162 0 64 (dk_at dksX8_pay_4 12 rfl rfl)
theorem dX8_pay_109 : decode cX8_pay 109 = .ok (.aload_n 0, 1) := dk_42 (dk_at dksX8_pay_4 15 rfl rfl)
theorem dX8_pay_110 : decode cX8_pay 110 = .ok (.getfield 55, 3) := dk_180 0 55 (dk_at dksX8_pay_4 16 rfl rfl)
theorem dX8_pay_113 : decode cX8_pay 113 = .ok (.iload 7, 2) := dk_21 7 (dk_at dksX8_pay_4 19 rfl rfl)
theorem dX8_pay_115 : decode cX8_pay 115 = .ok (.iaload, 1) := dk_46 (dk_at dksX8_pay_4 21 rfl rfl)
theorem dX8_pay_116 : decode cX8_pay 116 = .ok (.ifCond .ne 6, 3) := dk_154 0 6 (dk_at dksX8_pay_5 0 rfl rfl)
theorem dX8_pay_119 : decode cX8_pay 119 = .ok (.goto 45, 3) := dk_167 0 45 (dk_at dksX8_pay_5 3 rfl rfl)
theorem dX8_pay_122 : decode cX8_pay 122 = .ok (.aload_n 0, 1) := dk_42 (dk_at dksX8_pay_5 6 rfl rfl)
theorem dX8_pay_123 : decode cX8_pay 123 = .ok (.aload_n 0, 1) := dk_42 (dk_at dksX8_pay_5 7 rfl rfl)
theorem dX8_pay_124 : decode cX8_pay 124 = .ok (.getfield 43, 3) := dk_180 0 43 (dk_at dksX8_pay_5 8 rfl rfl)
theorem dX8_pay_127 : decode cX8_pay 127 = .ok (.iload 7, 2) := dk_21 7 (dk_at dksX8_pay_5 11 rfl rfl)
theorem dX8_pay_129 : decode cX8_pay 129 = .ok (.iaload, 1) := dk_46 (dk_at dksX8_pay_5 13 rfl rfl)
theorem dX8_pay_130 : decode cX8_pay 130 = .ok (.iload_n 2, 1) := dk_28 (dk_at dksX8_pay_5 14 rfl rfl)
theorem dX8_pay_131 : decode cX8_pay 131 = .ok (.iload_n 3, 1) := dk_29 (dk_at dksX8_pay_5 15 rfl rfl)
theorem dX8_pay_132 : decode cX8_pay 132 = .ok (.aload_n 0, 1) := dk_42 (dk_at dksX8_pay_5 16 rfl rfl)
theorem dX8_pay_133 : decode cX8_pay 133 = .ok (.getfield 13, 3) := dk_180 0 13 (dk_at dksX8_pay_5 17 rfl rfl)
theorem dX8_pay_136 : decode cX8_pay 136 = .ok (.bipush 113, 2) := dk_16 113 (dk_at dksX8_pay_5 20 rfl rfl)
theorem dX8_pay_138 : decode cX8_pay 138 = .ok (.iaload, 1) := dk_46 (dk_at dksX8_pay_5 22 rfl rfl)
theorem dX8_pay_139 : decode cX8_pay 139 = .ok (.iconst 0, 1) := dk_3 (dk_at dksX8_pay_5 23 rfl rfl)
theorem dX8_pay_140 : decode cX8_pay 140 = .ok (.invokevirtual 275, 3) := dk_182 1 19 (dk_at dksX8_pay_6 0 rfl rfl)
theorem dX8_pay_143 : decode cX8_pay 143 = .ok (.aload_n 0, 1) := dk_42 (dk_at dksX8_pay_6 3 rfl rfl)
theorem dX8_pay_144 : decode cX8_pay 144 = .ok (.getfield 13, 3) := dk_180 0 13 (dk_at dksX8_pay_6 4 rfl rfl)
theorem dX8_pay_147 : decode cX8_pay 147 = .ok (.bipush 120, 2) := dk_16 120 (dk_at dksX8_pay_6 7 rfl rfl)
theorem dX8_pay_149 : decode cX8_pay 149 = .ok (.bipush 32, 2) := dk_16 32 (dk_at dksX8_pay_6 9 rfl rfl)
theorem dX8_pay_151 : decode cX8_pay 151 = .ok (.aload_n 0, 1) := dk_42 (dk_at dksX8_pay_6 11 rfl rfl)
theorem dX8_pay_152 : decode cX8_pay 152 = .ok (.getfield 43, 3) := dk_180 0 43 (dk_at dksX8_pay_6 12 rfl rfl)
theorem dX8_pay_155 : decode cX8_pay 155 = .ok (.iload 7, 2) := dk_21 7 (dk_at dksX8_pay_6 15 rfl rfl)
theorem dX8_pay_157 : decode cX8_pay 157 = .ok (.iaload, 1) := dk_46 (dk_at dksX8_pay_6 17 rfl rfl)
theorem dX8_pay_158 : decode cX8_pay 158 = .ok (.imul, 1) := dk_104 (dk_at dksX8_pay_6 18 rfl rfl)
theorem dX8_pay_159 : decode cX8_pay 159 = .ok (.iadd, 1) := dk_96 (dk_at dksX8_pay_6 19 rfl rfl)
theorem dX8_pay_160 : decode cX8_pay 160 = .ok (.iconst 1, 1) := dk_4 (dk_at dksX8_pay_6 20 rfl rfl)
theorem dX8_pay_161 : decode cX8_pay 161 = .ok (.iadd, 1) := dk_96 (dk_at dksX8_pay_6 21 rfl rfl)
theorem dX8_pay_162 : decode cX8_pay 162 = .ok (.iload_n 2, 1) := dk_28 (dk_at dksX8_pay_6 22 rfl rfl)
theorem dX8_pay_163 : decode cX8_pay 163 = .ok (.iastore, 1) := dk_79 (dk_at dksX8_pay_6 23 rfl rfl)
theorem dX8_pay_164 : decode cX8_pay 164 = .ok (.iinc 7 1, 3) := dk_132 7 1 (dk_at dksX8_pay_7 0 rfl rfl)
theorem dX8_pay_167 : decode cX8_pay 167 = .ok (.goto (-67), 3) := dk_167 255 189 (dk_at dksX8_pay_7 3 rfl rfl)
theorem dX8_pay_170 : decode cX8_pay 170 = .ok (.aload_n 0, 1) := dk_42 (dk_at dksX8_pay_7 6 rfl rfl)
theorem dX8_pay_171 : decode cX8_pay 171 = .ok (.iload_n 1, 1) := dk_27 (dk_at dksX8_pay_7 7 rfl rfl)
theorem dX8_pay_172 : decode cX8_pay 172 = .ok (.iload_n 2, 1) := dk_28 (dk_at dksX8_pay_7 8 rfl rfl)
theorem dX8_pay_173 : decode cX8_pay 173 = .ok (.iload_n 3, 1) := dk_29 (dk_at dksX8_pay_7 9 rfl rfl)
theorem dX8_pay_174 : decode cX8_pay 174 = .ok (.iload 4, 2) := dk_21 4 (dk_at dksX8_pay_7 10 rfl rfl)
theorem dX8_pay_176 : decode cX8_pay 176 = .ok (.iload 5, 2) := dk_21 5 (dk_at dksX8_pay_7 12 rfl rfl)
theorem dX8_pay_178 : decode cX8_pay 178 = .ok (.iload 6, 2) := dk_21 6 (dk_at dksX8_pay_7 14 rfl rfl)
theorem dX8_pay_180 : decode cX8_pay 180 = .ok (.invokevirtual 303, 3) := dk_182 1 47 (dk_at dksX8_pay_7 16 rfl rfl)
theorem dX8_pay_183 : decode cX8_pay 183 = .ok (.return_, 1) := dk_177 (dk_at dksX8_pay_7 19 rfl rfl)
abbrev cX8_steal : ByteArray := prog_18_method_79_code
def yX8_steal : MethodName := ⟨RX8, "steal", "(II)Z"⟩
def dkwX8_steal_2 : List UInt8 := [172, 42, 182, 1, 16, 42, 180, 0, 13, 16, 110, 28, 79, 42, 180, 0, 13, 16, 111, 27, 79, 4, 172]
abbrev dktX8_steal_2 : List UInt8 := dkwX8_steal_2 ++ []
def dkwX8_steal_1 : List UInt8 := [153, 0, 23, 42, 27, 28, 182, 1, 41, 154, 0, 14, 42, 180, 0, 13, 16, 110, 46, 2, 159, 0, 5, 3]
abbrev dktX8_steal_1 : List UInt8 := dkwX8_steal_1 ++ dktX8_steal_2
def dkwX8_steal_0 : List UInt8 := [42, 3, 181, 0, 83, 42, 182, 0, 167, 42, 27, 182, 0, 243, 153, 0, 31, 42, 28, 182, 0, 243]
abbrev dktX8_steal_0 : List UInt8 := dkwX8_steal_0 ++ dktX8_steal_1
theorem dksX8_steal_0 : cX8_steal.data.toList.drop 0 = dktX8_steal_0 := by decide +kernel
theorem dksX8_steal_1 : cX8_steal.data.toList.drop 22 = dktX8_steal_1 := dk_seg dksX8_steal_0 22 rfl rfl
theorem dksX8_steal_2 : cX8_steal.data.toList.drop 46 = dktX8_steal_2 := dk_seg dksX8_steal_1 24 rfl rfl
theorem dX8_steal_0 : decode cX8_steal 0 = .ok (.aload_n 0, 1) := dk_42 (dk_at dksX8_steal_0 0 rfl rfl)
theorem dX8_steal_1 : decode cX8_steal 1 = .ok (.iconst 0, 1) := dk_3 (dk_at dksX8_steal_0 1 rfl rfl)
theorem dX8_steal_2 : decode cX8_steal 2 = .ok (.putfield 83, 3) := dk_181 0 83 (dk_at dksX8_steal_0 2 rfl rfl)
theorem dX8_steal_5 : decode cX8_steal 5 = .ok (.aload_n 0, 1) := dk_42 (dk_at dksX8_steal_0 5 rfl rfl)
theorem dX8_steal_6 : decode cX8_steal 6 = .ok (.invokevirtual 167, 3) := dk_182 0 167 (dk_at dksX8_steal_0 6 rfl rfl)
theorem dX8_steal_9 : decode cX8_steal 9 = .ok (.aload_n 0, 1) := dk_42 (dk_at dksX8_steal_0 9 rfl rfl)
theorem dX8_steal_10 : decode cX8_steal 10 = .ok (.iload_n 1, 1) := dk_27 (dk_at dksX8_steal_0 10 rfl rfl)
theorem dX8_steal_11 : decode cX8_steal 11 = .ok (.invokevirtual 243, 3) := dk_182 0 243 (dk_at dksX8_steal_0 11 rfl rfl)
theorem dX8_steal_14 : decode cX8_steal 14 = .ok (.ifCond .eq 31, 3) := dk_153 0 31 (dk_at dksX8_steal_0 14 rfl rfl)
theorem dX8_steal_17 : decode cX8_steal 17 = .ok (.aload_n 0, 1) := dk_42 (dk_at dksX8_steal_0 17 rfl rfl)
theorem dX8_steal_18 : decode cX8_steal 18 = .ok (.iload_n 2, 1) := dk_28 (dk_at dksX8_steal_0 18 rfl rfl)
theorem dX8_steal_19 : decode cX8_steal 19 = .ok (.invokevirtual 243, 3) := dk_182 0 243 (dk_at dksX8_steal_0 19 rfl rfl)
theorem dX8_steal_22 : decode cX8_steal 22 = .ok (.ifCond .eq 23, 3) := dk_153 0 23 (dk_at dksX8_steal_1 0 rfl rfl)
theorem dX8_steal_25 : decode cX8_steal 25 = .ok (.aload_n 0, 1) := dk_42 (dk_at dksX8_steal_1 3 rfl rfl)
theorem dX8_steal_26 : decode cX8_steal 26 = .ok (.iload_n 1, 1) := dk_27 (dk_at dksX8_steal_1 4 rfl rfl)
theorem dX8_steal_27 : decode cX8_steal 27 = .ok (.iload_n 2, 1) := dk_28 (dk_at dksX8_steal_1 5 rfl rfl)
theorem dX8_steal_28 : decode cX8_steal 28 = .ok (.invokevirtual 297, 3) := dk_182 1 41 (dk_at dksX8_steal_1 6 rfl rfl)
theorem dX8_steal_31 : decode cX8_steal 31 = .ok (.ifCond .ne 14, 3) := dk_154 0 14 (dk_at dksX8_steal_1 9 rfl rfl)
theorem dX8_steal_34 : decode cX8_steal 34 = .ok (.aload_n 0, 1) := dk_42 (dk_at dksX8_steal_1 12 rfl rfl)
theorem dX8_steal_35 : decode cX8_steal 35 = .ok (.getfield 13, 3) := dk_180 0 13 (dk_at dksX8_steal_1 13 rfl rfl)
theorem dX8_steal_38 : decode cX8_steal 38 = .ok (.bipush 110, 2) := dk_16 110 (dk_at dksX8_steal_1 16 rfl rfl)
theorem dX8_steal_40 : decode cX8_steal 40 = .ok (.iaload, 1) := dk_46 (dk_at dksX8_steal_1 18 rfl rfl)
theorem dX8_steal_41 : decode cX8_steal 41 = .ok (.iconst (-1), 1) := dk_2 (dk_at dksX8_steal_1 19 rfl rfl)
theorem dX8_steal_42 : decode cX8_steal 42 = .ok (.if_icmp .eq 5, 3) := dk_159 0 5 (dk_at dksX8_steal_1 20 rfl rfl)
theorem dX8_steal_45 : decode cX8_steal 45 = .ok (.iconst 0, 1) := dk_3 (dk_at dksX8_steal_1 23 rfl rfl)
theorem dX8_steal_46 : decode cX8_steal 46 = .ok (.ireturn, 1) := dk_172 (dk_at dksX8_steal_2 0 rfl rfl)
theorem dX8_steal_47 : decode cX8_steal 47 = .ok (.aload_n 0, 1) := dk_42 (dk_at dksX8_steal_2 1 rfl rfl)
theorem dX8_steal_48 : decode cX8_steal 48 = .ok (.invokevirtual 272, 3) := dk_182 1 16 (dk_at dksX8_steal_2 2 rfl rfl)
theorem dX8_steal_51 : decode cX8_steal 51 = .ok (.aload_n 0, 1) := dk_42 (dk_at dksX8_steal_2 5 rfl rfl)
theorem dX8_steal_52 : decode cX8_steal 52 = .ok (.getfield 13, 3) := dk_180 0 13 (dk_at dksX8_steal_2 6 rfl rfl)
theorem dX8_steal_55 : decode cX8_steal 55 = .ok (.bipush 110, 2) := dk_16 110 (dk_at dksX8_steal_2 9 rfl rfl)
theorem dX8_steal_57 : decode cX8_steal 57 = .ok (.iload_n 2, 1) := dk_28 (dk_at dksX8_steal_2 11 rfl rfl)
theorem dX8_steal_58 : decode cX8_steal 58 = .ok (.iastore, 1) := dk_79 (dk_at dksX8_steal_2 12 rfl rfl)
theorem dX8_steal_59 : decode cX8_steal 59 = .ok (.aload_n 0, 1) := dk_42 (dk_at dksX8_steal_2 13 rfl rfl)
theorem dX8_steal_60 : decode cX8_steal 60 = .ok (.getfield 13, 3) := dk_180 0 13 (dk_at dksX8_steal_2 14 rfl rfl)
theorem dX8_steal_63 : decode cX8_steal 63 = .ok (.bipush 111, 2) := dk_16 111 (dk_at dksX8_steal_2 17 rfl rfl)
theorem dX8_steal_65 : decode cX8_steal 65 = .ok (.iload_n 1, 1) := dk_27 (dk_at dksX8_steal_2 19 rfl rfl)
theorem dX8_steal_66 : decode cX8_steal 66 = .ok (.iastore, 1) := dk_79 (dk_at dksX8_steal_2 20 rfl rfl)
theorem dX8_steal_67 : decode cX8_steal 67 = .ok (.iconst 1, 1) := dk_4 (dk_at dksX8_steal_2 21 rfl rfl)
theorem dX8_steal_68 : decode cX8_steal 68 = .ok (.ireturn, 1) := dk_172 (dk_at dksX8_steal_2 22 rfl rfl)
abbrev cX8_forge : ByteArray := prog_18_method_81_code
def yX8_forge : MethodName := ⟨RX8, "forge", "(II)I"⟩
def dkwX8_forge_4 : List UInt8 := [2, 4, 182, 1, 19, 3, 172]
abbrev dktX8_forge_4 : List UInt8 := dkwX8_forge_4 ++ []
def dkwX8_forge_3 : List UInt8 := [182, 1, 44, 62, 29, 153, 0, 5, 29, 172, 42, 182, 1, 16, 42, 27, 42, 180, 0, 13, 16, 110, 46, 28]
abbrev dktX8_forge_3 : List UInt8 := dkwX8_forge_3 ++ dktX8_forge_4
def dkwX8_forge_2 : List UInt8 := [4, 172, 42, 27, 4, 182, 1, 0, 42, 180, 0, 13, 16, 111, 46, 159, 0, 5, 5, 172, 42, 27, 28]
abbrev dktX8_forge_2 : List UInt8 := dkwX8_forge_2 ++ dktX8_forge_3
def dkwX8_forge_1 : List UInt8 := [153, 0, 11, 42, 4, 182, 1, 13, 153, 0, 5, 2, 172, 42, 180, 0, 13, 16, 110, 46, 2, 160, 0, 5]
abbrev dktX8_forge_1 : List UInt8 := dkwX8_forge_1 ++ dktX8_forge_2
def dkwX8_forge_0 : List UInt8 := [42, 3, 181, 0, 83, 42, 182, 0, 167, 42, 27, 182, 1, 26, 153, 0, 19, 42, 28, 182, 1, 3]
abbrev dktX8_forge_0 : List UInt8 := dkwX8_forge_0 ++ dktX8_forge_1
theorem dksX8_forge_0 : cX8_forge.data.toList.drop 0 = dktX8_forge_0 := by decide +kernel
theorem dksX8_forge_1 : cX8_forge.data.toList.drop 22 = dktX8_forge_1 := dk_seg dksX8_forge_0 22 rfl rfl
theorem dksX8_forge_2 : cX8_forge.data.toList.drop 46 = dktX8_forge_2 := dk_seg dksX8_forge_1 24 rfl rfl
theorem dksX8_forge_3 : cX8_forge.data.toList.drop 69 = dktX8_forge_3 := dk_seg dksX8_forge_2 23 rfl rfl
theorem dksX8_forge_4 : cX8_forge.data.toList.drop 93 = dktX8_forge_4 := dk_seg dksX8_forge_3 24 rfl rfl
theorem dX8_forge_0 : decode cX8_forge 0 = .ok (.aload_n 0, 1) := dk_42 (dk_at dksX8_forge_0 0 rfl rfl)
theorem dX8_forge_1 : decode cX8_forge 1 = .ok (.iconst 0, 1) := dk_3 (dk_at dksX8_forge_0 1 rfl rfl)
theorem dX8_forge_2 : decode cX8_forge 2 = .ok (.putfield 83, 3) := dk_181 0 83 (dk_at dksX8_forge_0 2 rfl rfl)
theorem dX8_forge_5 : decode cX8_forge 5 = .ok (.aload_n 0, 1) := dk_42 (dk_at dksX8_forge_0 5 rfl rfl)
theorem dX8_forge_6 : decode cX8_forge 6 = .ok (.invokevirtual 167, 3) := dk_182 0 167 (dk_at dksX8_forge_0 6 rfl rfl)
theorem dX8_forge_9 : decode cX8_forge 9 = .ok (.aload_n 0, 1) := dk_42 (dk_at dksX8_forge_0 9 rfl rfl)
theorem dX8_forge_10 : decode cX8_forge 10 = .ok (.iload_n 1, 1) := dk_27 (dk_at dksX8_forge_0 10 rfl rfl)
theorem dX8_forge_11 : decode cX8_forge 11 = .ok (.invokevirtual 282, 3) := dk_182 1 26 (dk_at dksX8_forge_0 11 rfl rfl)
theorem dX8_forge_14 : decode cX8_forge 14 = .ok (.ifCond .eq 19, 3) := dk_153 0 19 (dk_at dksX8_forge_0 14 rfl rfl)
theorem dX8_forge_17 : decode cX8_forge 17 = .ok (.aload_n 0, 1) := dk_42 (dk_at dksX8_forge_0 17 rfl rfl)
theorem dX8_forge_18 : decode cX8_forge 18 = .ok (.iload_n 2, 1) := dk_28 (dk_at dksX8_forge_0 18 rfl rfl)
theorem dX8_forge_19 : decode cX8_forge 19 = .ok (.invokevirtual 259, 3) := dk_182 1 3 (dk_at dksX8_forge_0 19 rfl rfl)
theorem dX8_forge_22 : decode cX8_forge 22 = .ok (.ifCond .eq 11, 3) := dk_153 0 11 (dk_at dksX8_forge_1 0 rfl rfl)
theorem dX8_forge_25 : decode cX8_forge 25 = .ok (.aload_n 0, 1) := dk_42 (dk_at dksX8_forge_1 3 rfl rfl)
theorem dX8_forge_26 : decode cX8_forge 26 = .ok (.iconst 1, 1) := dk_4 (dk_at dksX8_forge_1 4 rfl rfl)
theorem dX8_forge_27 : decode cX8_forge 27 = .ok (.invokevirtual 269, 3) := dk_182 1 13 (dk_at dksX8_forge_1 5 rfl rfl)
theorem dX8_forge_30 : decode cX8_forge 30 = .ok (.ifCond .eq 5, 3) := dk_153 0 5 (dk_at dksX8_forge_1 8 rfl rfl)
theorem dX8_forge_33 : decode cX8_forge 33 = .ok (.iconst (-1), 1) := dk_2 (dk_at dksX8_forge_1 11 rfl rfl)
theorem dX8_forge_34 : decode cX8_forge 34 = .ok (.ireturn, 1) := dk_172 (dk_at dksX8_forge_1 12 rfl rfl)
theorem dX8_forge_35 : decode cX8_forge 35 = .ok (.aload_n 0, 1) := dk_42 (dk_at dksX8_forge_1 13 rfl rfl)
theorem dX8_forge_36 : decode cX8_forge 36 = .ok (.getfield 13, 3) := dk_180 0 13 (dk_at dksX8_forge_1 14 rfl rfl)
theorem dX8_forge_39 : decode cX8_forge 39 = .ok (.bipush 110, 2) := dk_16 110 (dk_at dksX8_forge_1 17 rfl rfl)
theorem dX8_forge_41 : decode cX8_forge 41 = .ok (.iaload, 1) := dk_46 (dk_at dksX8_forge_1 19 rfl rfl)
theorem dX8_forge_42 : decode cX8_forge 42 = .ok (.iconst (-1), 1) := dk_2 (dk_at dksX8_forge_1 20 rfl rfl)
theorem dX8_forge_43 : decode cX8_forge 43 = .ok (.if_icmp .ne 5, 3) := dk_160 0 5 (dk_at dksX8_forge_1 21 rfl rfl)
theorem dX8_forge_46 : decode cX8_forge 46 = .ok (.iconst 1, 1) := dk_4 (dk_at dksX8_forge_2 0 rfl rfl)
theorem dX8_forge_47 : decode cX8_forge 47 = .ok (.ireturn, 1) := dk_172 (dk_at dksX8_forge_2 1 rfl rfl)
theorem dX8_forge_48 : decode cX8_forge 48 = .ok (.aload_n 0, 1) := dk_42 (dk_at dksX8_forge_2 2 rfl rfl)
theorem dX8_forge_49 : decode cX8_forge 49 = .ok (.iload_n 1, 1) := dk_27 (dk_at dksX8_forge_2 3 rfl rfl)
theorem dX8_forge_50 : decode cX8_forge 50 = .ok (.iconst 1, 1) := dk_4 (dk_at dksX8_forge_2 4 rfl rfl)
theorem dX8_forge_51 : decode cX8_forge 51 = .ok (.invokevirtual 256, 3) := dk_182 1 0 (dk_at dksX8_forge_2 5 rfl rfl)
theorem dX8_forge_54 : decode cX8_forge 54 = .ok (.aload_n 0, 1) := dk_42 (dk_at dksX8_forge_2 8 rfl rfl)
theorem dX8_forge_55 : decode cX8_forge 55 = .ok (.getfield 13, 3) := dk_180 0 13 (dk_at dksX8_forge_2 9 rfl rfl)
theorem dX8_forge_58 : decode cX8_forge 58 = .ok (.bipush 111, 2) := dk_16 111 (dk_at dksX8_forge_2 12 rfl rfl)
theorem dX8_forge_60 : decode cX8_forge 60 = .ok (.iaload, 1) := dk_46 (dk_at dksX8_forge_2 14 rfl rfl)
theorem dX8_forge_61 : decode cX8_forge 61 = .ok (.if_icmp .eq 5, 3) := dk_159 0 5 (dk_at dksX8_forge_2 15 rfl rfl)
theorem dX8_forge_64 : decode cX8_forge 64 = .ok (.iconst 2, 1) := dk_5 (dk_at dksX8_forge_2 18 rfl rfl)
theorem dX8_forge_65 : decode cX8_forge 65 = .ok (.ireturn, 1) := dk_172 (dk_at dksX8_forge_2 19 rfl rfl)
theorem dX8_forge_66 : decode cX8_forge 66 = .ok (.aload_n 0, 1) := dk_42 (dk_at dksX8_forge_2 20 rfl rfl)
theorem dX8_forge_67 : decode cX8_forge 67 = .ok (.iload_n 1, 1) := dk_27 (dk_at dksX8_forge_2 21 rfl rfl)
theorem dX8_forge_68 : decode cX8_forge 68 = .ok (.iload_n 2, 1) := dk_28 (dk_at dksX8_forge_2 22 rfl rfl)
theorem dX8_forge_69 : decode cX8_forge 69 = .ok (.invokevirtual 300, 3) := dk_182 1 44 (dk_at dksX8_forge_3 0 rfl rfl)
theorem dX8_forge_72 : decode cX8_forge 72 = .ok (.istore_n 3, 1) := dk_62 (dk_at dksX8_forge_3 3 rfl rfl)
theorem dX8_forge_73 : decode cX8_forge 73 = .ok (.iload_n 3, 1) := dk_29 (dk_at dksX8_forge_3 4 rfl rfl)
theorem dX8_forge_74 : decode cX8_forge 74 = .ok (.ifCond .eq 5, 3) := dk_153 0 5 (dk_at dksX8_forge_3 5 rfl rfl)
theorem dX8_forge_77 : decode cX8_forge 77 = .ok (.iload_n 3, 1) := dk_29 (dk_at dksX8_forge_3 8 rfl rfl)
theorem dX8_forge_78 : decode cX8_forge 78 = .ok (.ireturn, 1) := dk_172 (dk_at dksX8_forge_3 9 rfl rfl)
theorem dX8_forge_79 : decode cX8_forge 79 = .ok (.aload_n 0, 1) := dk_42 (dk_at dksX8_forge_3 10 rfl rfl)
theorem dX8_forge_80 : decode cX8_forge 80 = .ok (.invokevirtual 272, 3) := dk_182 1 16 (dk_at dksX8_forge_3 11 rfl rfl)
theorem dX8_forge_83 : decode cX8_forge 83 = .ok (.aload_n 0, 1) := dk_42 (dk_at dksX8_forge_3 14 rfl rfl)
theorem dX8_forge_84 : decode cX8_forge 84 = .ok (.iload_n 1, 1) := dk_27 (dk_at dksX8_forge_3 15 rfl rfl)
theorem dX8_forge_85 : decode cX8_forge 85 = .ok (.aload_n 0, 1) := dk_42 (dk_at dksX8_forge_3 16 rfl rfl)
theorem dX8_forge_86 : decode cX8_forge 86 = .ok (.getfield 13, 3) := dk_180 0 13 (dk_at dksX8_forge_3 17 rfl rfl)
theorem dX8_forge_89 : decode cX8_forge 89 = .ok (.bipush 110, 2) := dk_16 110 (dk_at dksX8_forge_3 20 rfl rfl)
theorem dX8_forge_91 : decode cX8_forge 91 = .ok (.iaload, 1) := dk_46 (dk_at dksX8_forge_3 22 rfl rfl)
theorem dX8_forge_92 : decode cX8_forge 92 = .ok (.iload_n 2, 1) := dk_28 (dk_at dksX8_forge_3 23 rfl rfl)
theorem dX8_forge_93 : decode cX8_forge 93 = .ok (.iconst (-1), 1) := dk_2 (dk_at dksX8_forge_4 0 rfl rfl)
theorem dX8_forge_94 : decode cX8_forge 94 = .ok (.iconst 1, 1) := dk_4 (dk_at dksX8_forge_4 1 rfl rfl)
theorem dX8_forge_95 : decode cX8_forge 95 = .ok (.invokevirtual 275, 3) := dk_182 1 19 (dk_at dksX8_forge_4 2 rfl rfl)
theorem dX8_forge_98 : decode cX8_forge 98 = .ok (.iconst 0, 1) := dk_3 (dk_at dksX8_forge_4 5 rfl rfl)
theorem dX8_forge_99 : decode cX8_forge 99 = .ok (.ireturn, 1) := dk_172 (dk_at dksX8_forge_4 6 rfl rfl)
abbrev cX8_day : ByteArray := prog_18_method_82_code
def yX8_day : MethodName := ⟨RX8, "day", "()I"⟩
def dkwX8_day_2 : List UInt8 := [16, 109, 46, 172]
abbrev dktX8_day_2 : List UInt8 := dkwX8_day_2 ++ []
def dkwX8_day_1 : List UInt8 := [42, 182, 1, 16, 42, 180, 0, 13, 16, 109, 92, 46, 4, 96, 79, 42, 182, 1, 79, 42, 180, 0, 13]
abbrev dktX8_day_1 : List UInt8 := dkwX8_day_1 ++ dktX8_day_2
def dkwX8_day_0 : List UInt8 := [42, 3, 181, 0, 83, 42, 182, 0, 167, 42, 180, 0, 13, 16, 109, 46, 17, 39, 15, 160, 0, 5, 2, 172]
abbrev dktX8_day_0 : List UInt8 := dkwX8_day_0 ++ dktX8_day_1
theorem dksX8_day_0 : cX8_day.data.toList.drop 0 = dktX8_day_0 := by decide +kernel
theorem dksX8_day_1 : cX8_day.data.toList.drop 24 = dktX8_day_1 := dk_seg dksX8_day_0 24 rfl rfl
theorem dksX8_day_2 : cX8_day.data.toList.drop 47 = dktX8_day_2 := dk_seg dksX8_day_1 23 rfl rfl
theorem dX8_day_0 : decode cX8_day 0 = .ok (.aload_n 0, 1) := dk_42 (dk_at dksX8_day_0 0 rfl rfl)
theorem dX8_day_1 : decode cX8_day 1 = .ok (.iconst 0, 1) := dk_3 (dk_at dksX8_day_0 1 rfl rfl)
theorem dX8_day_2 : decode cX8_day 2 = .ok (.putfield 83, 3) := dk_181 0 83 (dk_at dksX8_day_0 2 rfl rfl)
theorem dX8_day_5 : decode cX8_day 5 = .ok (.aload_n 0, 1) := dk_42 (dk_at dksX8_day_0 5 rfl rfl)
theorem dX8_day_6 : decode cX8_day 6 = .ok (.invokevirtual 167, 3) := dk_182 0 167 (dk_at dksX8_day_0 6 rfl rfl)
theorem dX8_day_9 : decode cX8_day 9 = .ok (.aload_n 0, 1) := dk_42 (dk_at dksX8_day_0 9 rfl rfl)
theorem dX8_day_10 : decode cX8_day 10 = .ok (.getfield 13, 3) := dk_180 0 13 (dk_at dksX8_day_0 10 rfl rfl)
theorem dX8_day_13 : decode cX8_day 13 = .ok (.bipush 109, 2) := dk_16 109 (dk_at dksX8_day_0 13 rfl rfl)
theorem dX8_day_15 : decode cX8_day 15 = .ok (.iaload, 1) := dk_46 (dk_at dksX8_day_0 15 rfl rfl)
theorem dX8_day_16 : decode cX8_day 16 = .ok (.sipush 9999, 3) := dk_17 39 15 (dk_at dksX8_day_0 16 rfl rfl)
theorem dX8_day_19 : decode cX8_day 19 = .ok (.if_icmp .ne 5, 3) := dk_160 0 5 (dk_at dksX8_day_0 19 rfl rfl)
theorem dX8_day_22 : decode cX8_day 22 = .ok (.iconst (-1), 1) := dk_2 (dk_at dksX8_day_0 22 rfl rfl)
theorem dX8_day_23 : decode cX8_day 23 = .ok (.ireturn, 1) := dk_172 (dk_at dksX8_day_0 23 rfl rfl)
theorem dX8_day_24 : decode cX8_day 24 = .ok (.aload_n 0, 1) := dk_42 (dk_at dksX8_day_1 0 rfl rfl)
theorem dX8_day_25 : decode cX8_day 25 = .ok (.invokevirtual 272, 3) := dk_182 1 16 (dk_at dksX8_day_1 1 rfl rfl)
theorem dX8_day_28 : decode cX8_day 28 = .ok (.aload_n 0, 1) := dk_42 (dk_at dksX8_day_1 4 rfl rfl)
theorem dX8_day_29 : decode cX8_day 29 = .ok (.getfield 13, 3) := dk_180 0 13 (dk_at dksX8_day_1 5 rfl rfl)
theorem dX8_day_32 : decode cX8_day 32 = .ok (.bipush 109, 2) := dk_16 109 (dk_at dksX8_day_1 8 rfl rfl)
theorem dX8_day_34 : decode cX8_day 34 = .ok (.dup2, 1) := dk_92 (dk_at dksX8_day_1 10 rfl rfl)
theorem dX8_day_35 : decode cX8_day 35 = .ok (.iaload, 1) := dk_46 (dk_at dksX8_day_1 11 rfl rfl)
theorem dX8_day_36 : decode cX8_day 36 = .ok (.iconst 1, 1) := dk_4 (dk_at dksX8_day_1 12 rfl rfl)
theorem dX8_day_37 : decode cX8_day 37 = .ok (.iadd, 1) := dk_96 (dk_at dksX8_day_1 13 rfl rfl)
theorem dX8_day_38 : decode cX8_day 38 = .ok (.iastore, 1) := dk_79 (dk_at dksX8_day_1 14 rfl rfl)
theorem dX8_day_39 : decode cX8_day 39 = .ok (.aload_n 0, 1) := dk_42 (dk_at dksX8_day_1 15 rfl rfl)
theorem dX8_day_40 : decode cX8_day 40 = .ok (.invokevirtual 335, 3) := dk_182 1 79 (dk_at dksX8_day_1 16 rfl rfl)
theorem dX8_day_43 : decode cX8_day 43 = .ok (.aload_n 0, 1) := dk_42 (dk_at dksX8_day_1 19 rfl rfl)
theorem dX8_day_44 : decode cX8_day 44 = .ok (.getfield 13, 3) := dk_180 0 13 (dk_at dksX8_day_1 20 rfl rfl)
theorem dX8_day_47 : decode cX8_day 47 = .ok (.bipush 109, 2) := dk_16 109 (dk_at dksX8_day_2 0 rfl rfl)
theorem dX8_day_49 : decode cX8_day 49 = .ok (.iaload, 1) := dk_46 (dk_at dksX8_day_2 2 rfl rfl)
theorem dX8_day_50 : decode cX8_day 50 = .ok (.ireturn, 1) := dk_172 (dk_at dksX8_day_2 3 rfl rfl)
abbrev cX8_giveBack : ByteArray := prog_18_method_80_code
def yX8_giveBack : MethodName := ⟨RX8, "giveBack", "()V"⟩
def dkwX8_giveBack_0 : List UInt8 := [42, 180, 0, 13, 16, 110, 2, 79, 42, 180, 0, 13, 16, 111, 2, 79, 177]
abbrev dktX8_giveBack_0 : List UInt8 := dkwX8_giveBack_0 ++ []
theorem dksX8_giveBack_0 : cX8_giveBack.data.toList.drop 0 = dktX8_giveBack_0 := by decide +kernel
theorem dX8_giveBack_0 : decode cX8_giveBack 0 = .ok (.aload_n 0, 1) := dk_42 (dk_at dksX8_giveBack_0 0 rfl rfl)
theorem dX8_giveBack_1 : decode cX8_giveBack 1 = .ok (.getfield 13, 3) := dk_180 0 13 (dk_at dksX8_giveBack_0 1 rfl rfl)
theorem dX8_giveBack_4 : decode cX8_giveBack 4 = .ok (.bipush 110, 2) := dk_16 110 (dk_at dksX8_giveBack_0 4 rfl rfl)
theorem dX8_giveBack_6 : decode cX8_giveBack 6 = .ok (.iconst (-1), 1) := dk_2 (dk_at dksX8_giveBack_0 6 rfl rfl)
theorem dX8_giveBack_7 : decode cX8_giveBack 7 = .ok (.iastore, 1) := dk_79 (dk_at dksX8_giveBack_0 7 rfl rfl)
theorem dX8_giveBack_8 : decode cX8_giveBack 8 = .ok (.aload_n 0, 1) := dk_42 (dk_at dksX8_giveBack_0 8 rfl rfl)
theorem dX8_giveBack_9 : decode cX8_giveBack 9 = .ok (.getfield 13, 3) := dk_180 0 13 (dk_at dksX8_giveBack_0 9 rfl rfl)
theorem dX8_giveBack_12 : decode cX8_giveBack 12 = .ok (.bipush 111, 2) := dk_16 111 (dk_at dksX8_giveBack_0 12 rfl rfl)
theorem dX8_giveBack_14 : decode cX8_giveBack 14 = .ok (.iconst (-1), 1) := dk_2 (dk_at dksX8_giveBack_0 14 rfl rfl)
theorem dX8_giveBack_15 : decode cX8_giveBack 15 = .ok (.iastore, 1) := dk_79 (dk_at dksX8_giveBack_0 15 rfl rfl)
theorem dX8_giveBack_16 : decode cX8_giveBack 16 = .ok (.return_, 1) := dk_177 (dk_at dksX8_giveBack_0 16 rfl rfl)
abbrev cX8_rob : ByteArray := prog_18_method_83_code
def yX8_rob : MethodName := ⟨RX8, "rob", "(II)Z"⟩
def dkwX8_rob_2 : List UInt8 := [42, 182, 1, 16, 42, 180, 0, 13, 16, 120, 16, 32, 28, 104, 96, 4, 96, 27, 79, 4, 172]
abbrev dktX8_rob_2 : List UInt8 := dkwX8_rob_2 ++ []
def dkwX8_rob_1 : List UInt8 := [153, 0, 22, 42, 28, 4, 182, 1, 0, 27, 159, 0, 12, 42, 27, 5, 182, 0, 249, 158, 0, 5, 3, 172]
abbrev dktX8_rob_1 : List UInt8 := dkwX8_rob_1 ++ dktX8_rob_2
def dkwX8_rob_0 : List UInt8 := [42, 3, 181, 0, 83, 42, 182, 0, 167, 42, 27, 182, 0, 243, 153, 0, 30, 42, 28, 182, 1, 26]
abbrev dktX8_rob_0 : List UInt8 := dkwX8_rob_0 ++ dktX8_rob_1
theorem dksX8_rob_0 : cX8_rob.data.toList.drop 0 = dktX8_rob_0 := by decide +kernel
theorem dksX8_rob_1 : cX8_rob.data.toList.drop 22 = dktX8_rob_1 := dk_seg dksX8_rob_0 22 rfl rfl
theorem dksX8_rob_2 : cX8_rob.data.toList.drop 46 = dktX8_rob_2 := dk_seg dksX8_rob_1 24 rfl rfl
theorem dX8_rob_0 : decode cX8_rob 0 = .ok (.aload_n 0, 1) := dk_42 (dk_at dksX8_rob_0 0 rfl rfl)
theorem dX8_rob_1 : decode cX8_rob 1 = .ok (.iconst 0, 1) := dk_3 (dk_at dksX8_rob_0 1 rfl rfl)
theorem dX8_rob_2 : decode cX8_rob 2 = .ok (.putfield 83, 3) := dk_181 0 83 (dk_at dksX8_rob_0 2 rfl rfl)
theorem dX8_rob_5 : decode cX8_rob 5 = .ok (.aload_n 0, 1) := dk_42 (dk_at dksX8_rob_0 5 rfl rfl)
theorem dX8_rob_6 : decode cX8_rob 6 = .ok (.invokevirtual 167, 3) := dk_182 0 167 (dk_at dksX8_rob_0 6 rfl rfl)
theorem dX8_rob_9 : decode cX8_rob 9 = .ok (.aload_n 0, 1) := dk_42 (dk_at dksX8_rob_0 9 rfl rfl)
theorem dX8_rob_10 : decode cX8_rob 10 = .ok (.iload_n 1, 1) := dk_27 (dk_at dksX8_rob_0 10 rfl rfl)
theorem dX8_rob_11 : decode cX8_rob 11 = .ok (.invokevirtual 243, 3) := dk_182 0 243 (dk_at dksX8_rob_0 11 rfl rfl)
theorem dX8_rob_14 : decode cX8_rob 14 = .ok (.ifCond .eq 30, 3) := dk_153 0 30 (dk_at dksX8_rob_0 14 rfl rfl)
theorem dX8_rob_17 : decode cX8_rob 17 = .ok (.aload_n 0, 1) := dk_42 (dk_at dksX8_rob_0 17 rfl rfl)
theorem dX8_rob_18 : decode cX8_rob 18 = .ok (.iload_n 2, 1) := dk_28 (dk_at dksX8_rob_0 18 rfl rfl)
theorem dX8_rob_19 : decode cX8_rob 19 = .ok (.invokevirtual 282, 3) := dk_182 1 26 (dk_at dksX8_rob_0 19 rfl rfl)
theorem dX8_rob_22 : decode cX8_rob 22 = .ok (.ifCond .eq 22, 3) := dk_153 0 22 (dk_at dksX8_rob_1 0 rfl rfl)
theorem dX8_rob_25 : decode cX8_rob 25 = .ok (.aload_n 0, 1) := dk_42 (dk_at dksX8_rob_1 3 rfl rfl)
theorem dX8_rob_26 : decode cX8_rob 26 = .ok (.iload_n 2, 1) := dk_28 (dk_at dksX8_rob_1 4 rfl rfl)
theorem dX8_rob_27 : decode cX8_rob 27 = .ok (.iconst 1, 1) := dk_4 (dk_at dksX8_rob_1 5 rfl rfl)
theorem dX8_rob_28 : decode cX8_rob 28 = .ok (.invokevirtual 256, 3) := dk_182 1 0 (dk_at dksX8_rob_1 6 rfl rfl)
theorem dX8_rob_31 : decode cX8_rob 31 = .ok (.iload_n 1, 1) := dk_27 (dk_at dksX8_rob_1 9 rfl rfl)
theorem dX8_rob_32 : decode cX8_rob 32 = .ok (.if_icmp .eq 12, 3) := dk_159 0 12 (dk_at dksX8_rob_1 10 rfl rfl)
theorem dX8_rob_35 : decode cX8_rob 35 = .ok (.aload_n 0, 1) := dk_42 (dk_at dksX8_rob_1 13 rfl rfl)
theorem dX8_rob_36 : decode cX8_rob 36 = .ok (.iload_n 1, 1) := dk_27 (dk_at dksX8_rob_1 14 rfl rfl)
theorem dX8_rob_37 : decode cX8_rob 37 = .ok (.iconst 2, 1) := dk_5 (dk_at dksX8_rob_1 15 rfl rfl)
theorem dX8_rob_38 : decode cX8_rob 38 = .ok (.invokevirtual 249, 3) := dk_182 0 249 (dk_at dksX8_rob_1 16 rfl rfl)
theorem dX8_rob_41 : decode cX8_rob 41 = .ok (.ifCond .le 5, 3) := dk_158 0 5 (dk_at dksX8_rob_1 19 rfl rfl)
theorem dX8_rob_44 : decode cX8_rob 44 = .ok (.iconst 0, 1) := dk_3 (dk_at dksX8_rob_1 22 rfl rfl)
theorem dX8_rob_45 : decode cX8_rob 45 = .ok (.ireturn, 1) := dk_172 (dk_at dksX8_rob_1 23 rfl rfl)
theorem dX8_rob_46 : decode cX8_rob 46 = .ok (.aload_n 0, 1) := dk_42 (dk_at dksX8_rob_2 0 rfl rfl)
theorem dX8_rob_47 : decode cX8_rob 47 = .ok (.invokevirtual 272, 3) := dk_182 1 16 (dk_at dksX8_rob_2 1 rfl rfl)
theorem dX8_rob_50 : decode cX8_rob 50 = .ok (.aload_n 0, 1) := dk_42 (dk_at dksX8_rob_2 4 rfl rfl)
theorem dX8_rob_51 : decode cX8_rob 51 = .ok (.getfield 13, 3) := dk_180 0 13 (dk_at dksX8_rob_2 5 rfl rfl)
theorem dX8_rob_54 : decode cX8_rob 54 = .ok (.bipush 120, 2) := dk_16 120 (dk_at dksX8_rob_2 8 rfl rfl)
theorem dX8_rob_56 : decode cX8_rob 56 = .ok (.bipush 32, 2) := dk_16 32 (dk_at dksX8_rob_2 10 rfl rfl)
theorem dX8_rob_58 : decode cX8_rob 58 = .ok (.iload_n 2, 1) := dk_28 (dk_at dksX8_rob_2 12 rfl rfl)
theorem dX8_rob_59 : decode cX8_rob 59 = .ok (.imul, 1) := dk_104 (dk_at dksX8_rob_2 13 rfl rfl)
theorem dX8_rob_60 : decode cX8_rob 60 = .ok (.iadd, 1) := dk_96 (dk_at dksX8_rob_2 14 rfl rfl)
theorem dX8_rob_61 : decode cX8_rob 61 = .ok (.iconst 1, 1) := dk_4 (dk_at dksX8_rob_2 15 rfl rfl)
theorem dX8_rob_62 : decode cX8_rob 62 = .ok (.iadd, 1) := dk_96 (dk_at dksX8_rob_2 16 rfl rfl)
theorem dX8_rob_63 : decode cX8_rob 63 = .ok (.iload_n 1, 1) := dk_27 (dk_at dksX8_rob_2 17 rfl rfl)
theorem dX8_rob_64 : decode cX8_rob 64 = .ok (.iastore, 1) := dk_79 (dk_at dksX8_rob_2 18 rfl rfl)
theorem dX8_rob_65 : decode cX8_rob 65 = .ok (.iconst 1, 1) := dk_4 (dk_at dksX8_rob_2 19 rfl rfl)
theorem dX8_rob_66 : decode cX8_rob 66 = .ok (.ireturn, 1) := dk_172 (dk_at dksX8_rob_2 20 rfl rfl)
abbrev cX8_dies : ByteArray := prog_18_method_84_code
def yX8_dies : MethodName := ⟨RX8, "dies", "(II)I"⟩
def dkwX8_dies_5 : List UInt8 := [159, 0, 14, 42, 180, 0, 13, 16, 111, 46, 27, 160, 0, 7, 42, 182, 1, 79, 29, 172]
abbrev dktX8_dies_5 : List UInt8 := dkwX8_dies_5 ++ []
def dkwX8_dies_4 : List UInt8 := [96, 4, 96, 28, 79, 132, 3, 1, 132, 4, 1, 167, 255, 211, 42, 180, 0, 13, 16, 110, 46, 27]
abbrev dktX8_dies_4 : List UInt8 := dkwX8_dies_4 ++ dktX8_dies_5
def dkwX8_dies_3 : List UInt8 := [21, 4, 4, 182, 1, 0, 27, 159, 0, 6, 167, 0, 22, 42, 180, 0, 13, 16, 120, 16, 32, 21, 4, 104]
abbrev dktX8_dies_3 : List UInt8 := dkwX8_dies_3 ++ dktX8_dies_4
def dkwX8_dies_2 : List UInt8 := [6, 27, 104, 96, 5, 96, 4, 79, 3, 62, 3, 54, 4, 21, 4, 42, 182, 0, 188, 162, 0, 42, 42]
abbrev dktX8_dies_2 : List UInt8 := dkwX8_dies_2 ++ dktX8_dies_3
def dkwX8_dies_1 : List UInt8 := [153, 0, 12, 42, 27, 28, 182, 1, 41, 153, 0, 5, 2, 172, 42, 182, 1, 16, 42, 180, 0, 13, 16, 8]
abbrev dktX8_dies_1 : List UInt8 := dkwX8_dies_1 ++ dktX8_dies_2
def dkwX8_dies_0 : List UInt8 := [42, 3, 181, 0, 83, 42, 182, 0, 167, 42, 27, 182, 0, 243, 153, 0, 20, 42, 28, 182, 0, 243]
abbrev dktX8_dies_0 : List UInt8 := dkwX8_dies_0 ++ dktX8_dies_1
theorem dksX8_dies_0 : cX8_dies.data.toList.drop 0 = dktX8_dies_0 := by decide +kernel
theorem dksX8_dies_1 : cX8_dies.data.toList.drop 22 = dktX8_dies_1 := dk_seg dksX8_dies_0 22 rfl rfl
theorem dksX8_dies_2 : cX8_dies.data.toList.drop 46 = dktX8_dies_2 := dk_seg dksX8_dies_1 24 rfl rfl
theorem dksX8_dies_3 : cX8_dies.data.toList.drop 69 = dktX8_dies_3 := dk_seg dksX8_dies_2 23 rfl rfl
theorem dksX8_dies_4 : cX8_dies.data.toList.drop 93 = dktX8_dies_4 := dk_seg dksX8_dies_3 24 rfl rfl
theorem dksX8_dies_5 : cX8_dies.data.toList.drop 115 = dktX8_dies_5 := dk_seg dksX8_dies_4 22 rfl rfl
theorem dX8_dies_0 : decode cX8_dies 0 = .ok (.aload_n 0, 1) := dk_42 (dk_at dksX8_dies_0 0 rfl rfl)
theorem dX8_dies_1 : decode cX8_dies 1 = .ok (.iconst 0, 1) := dk_3 (dk_at dksX8_dies_0 1 rfl rfl)
theorem dX8_dies_2 : decode cX8_dies 2 = .ok (.putfield 83, 3) := dk_181 0 83 (dk_at dksX8_dies_0 2 rfl rfl)
theorem dX8_dies_5 : decode cX8_dies 5 = .ok (.aload_n 0, 1) := dk_42 (dk_at dksX8_dies_0 5 rfl rfl)
theorem dX8_dies_6 : decode cX8_dies 6 = .ok (.invokevirtual 167, 3) := dk_182 0 167 (dk_at dksX8_dies_0 6 rfl rfl)
theorem dX8_dies_9 : decode cX8_dies 9 = .ok (.aload_n 0, 1) := dk_42 (dk_at dksX8_dies_0 9 rfl rfl)
theorem dX8_dies_10 : decode cX8_dies 10 = .ok (.iload_n 1, 1) := dk_27 (dk_at dksX8_dies_0 10 rfl rfl)
theorem dX8_dies_11 : decode cX8_dies 11 = .ok (.invokevirtual 243, 3) := dk_182 0 243 (dk_at dksX8_dies_0 11 rfl rfl)
theorem dX8_dies_14 : decode cX8_dies 14 = .ok (.ifCond .eq 20, 3) := dk_153 0 20 (dk_at dksX8_dies_0 14 rfl rfl)
theorem dX8_dies_17 : decode cX8_dies 17 = .ok (.aload_n 0, 1) := dk_42 (dk_at dksX8_dies_0 17 rfl rfl)
theorem dX8_dies_18 : decode cX8_dies 18 = .ok (.iload_n 2, 1) := dk_28 (dk_at dksX8_dies_0 18 rfl rfl)
theorem dX8_dies_19 : decode cX8_dies 19 = .ok (.invokevirtual 243, 3) := dk_182 0 243 (dk_at dksX8_dies_0 19 rfl rfl)
theorem dX8_dies_22 : decode cX8_dies 22 = .ok (.ifCond .eq 12, 3) := dk_153 0 12 (dk_at dksX8_dies_1 0 rfl rfl)
theorem dX8_dies_25 : decode cX8_dies 25 = .ok (.aload_n 0, 1) := dk_42 (dk_at dksX8_dies_1 3 rfl rfl)
theorem dX8_dies_26 : decode cX8_dies 26 = .ok (.iload_n 1, 1) := dk_27 (dk_at dksX8_dies_1 4 rfl rfl)
theorem dX8_dies_27 : decode cX8_dies 27 = .ok (.iload_n 2, 1) := dk_28 (dk_at dksX8_dies_1 5 rfl rfl)
theorem dX8_dies_28 : decode cX8_dies 28 = .ok (.invokevirtual 297, 3) := dk_182 1 41 (dk_at dksX8_dies_1 6 rfl rfl)
theorem dX8_dies_31 : decode cX8_dies 31 = .ok (.ifCond .eq 5, 3) := dk_153 0 5 (dk_at dksX8_dies_1 9 rfl rfl)
theorem dX8_dies_34 : decode cX8_dies 34 = .ok (.iconst (-1), 1) := dk_2 (dk_at dksX8_dies_1 12 rfl rfl)
theorem dX8_dies_35 : decode cX8_dies 35 = .ok (.ireturn, 1) := dk_172 (dk_at dksX8_dies_1 13 rfl rfl)
theorem dX8_dies_36 : decode cX8_dies 36 = .ok (.aload_n 0, 1) := dk_42 (dk_at dksX8_dies_1 14 rfl rfl)
theorem dX8_dies_37 : decode cX8_dies 37 = .ok (.invokevirtual 272, 3) := dk_182 1 16 (dk_at dksX8_dies_1 15 rfl rfl)
theorem dX8_dies_40 : decode cX8_dies 40 = .ok (.aload_n 0, 1) := dk_42 (dk_at dksX8_dies_1 18 rfl rfl)
theorem dX8_dies_41 : decode cX8_dies 41 = .ok (.getfield 13, 3) := dk_180 0 13 (dk_at dksX8_dies_1 19 rfl rfl)
theorem dX8_dies_44 : decode cX8_dies 44 = .ok (.bipush 8, 2) := dk_16 8 (dk_at dksX8_dies_1 22 rfl rfl)
theorem dX8_dies_46 : decode cX8_dies 46 = .ok (.iconst 3, 1) := dk_6 (dk_at dksX8_dies_2 0 rfl rfl)
theorem dX8_dies_47 : decode cX8_dies 47 = .ok (.iload_n 1, 1) := dk_27 (dk_at dksX8_dies_2 1 rfl rfl)
theorem dX8_dies_48 : decode cX8_dies 48 = .ok (.imul, 1) := dk_104 (dk_at dksX8_dies_2 2 rfl rfl)
theorem dX8_dies_49 : decode cX8_dies 49 = .ok (.iadd, 1) := dk_96 (dk_at dksX8_dies_2 3 rfl rfl)
theorem dX8_dies_50 : decode cX8_dies 50 = .ok (.iconst 2, 1) := dk_5 (dk_at dksX8_dies_2 4 rfl rfl)
theorem dX8_dies_51 : decode cX8_dies 51 = .ok (.iadd, 1) := dk_96 (dk_at dksX8_dies_2 5 rfl rfl)
theorem dX8_dies_52 : decode cX8_dies 52 = .ok (.iconst 1, 1) := dk_4 (dk_at dksX8_dies_2 6 rfl rfl)
theorem dX8_dies_53 : decode cX8_dies 53 = .ok (.iastore, 1) := dk_79 (dk_at dksX8_dies_2 7 rfl rfl)
theorem dX8_dies_54 : decode cX8_dies 54 = .ok (.iconst 0, 1) := dk_3 (dk_at dksX8_dies_2 8 rfl rfl)
theorem dX8_dies_55 : decode cX8_dies 55 = .ok (.istore_n 3, 1) := dk_62 (dk_at dksX8_dies_2 9 rfl rfl)
theorem dX8_dies_56 : decode cX8_dies 56 = .ok (.iconst 0, 1) := dk_3 (dk_at dksX8_dies_2 10 rfl rfl)
theorem dX8_dies_57 : decode cX8_dies 57 = .ok (.istore 4, 2) := dk_54 4 (dk_at dksX8_dies_2 11 rfl rfl)
theorem dX8_dies_59 : decode cX8_dies 59 = .ok (.iload 4, 2) := dk_21 4 (dk_at dksX8_dies_2 13 rfl rfl)
theorem dX8_dies_61 : decode cX8_dies 61 = .ok (.aload_n 0, 1) := dk_42 (dk_at dksX8_dies_2 15 rfl rfl)
theorem dX8_dies_62 : decode cX8_dies 62 = .ok (.invokevirtual 188, 3) := dk_182 0 188 (dk_at dksX8_dies_2 16 rfl rfl)
theorem dX8_dies_65 : decode cX8_dies 65 = .ok (.if_icmp .ge 42, 3) := dk_162 0 42 (dk_at dksX8_dies_2 19 rfl rfl)
theorem dX8_dies_68 : decode cX8_dies 68 = .ok (.aload_n 0, 1) := dk_42 (dk_at dksX8_dies_2 22 rfl rfl)
theorem dX8_dies_69 : decode cX8_dies 69 = .ok (.iload 4, 2) := dk_21 4 (dk_at dksX8_dies_3 0 rfl rfl)
theorem dX8_dies_71 : decode cX8_dies 71 = .ok (.iconst 1, 1) := dk_4 (dk_at dksX8_dies_3 2 rfl rfl)
theorem dX8_dies_72 : decode cX8_dies 72 = .ok (.invokevirtual 256, 3) := dk_182 1 0 (dk_at dksX8_dies_3 3 rfl rfl)
theorem dX8_dies_75 : decode cX8_dies 75 = .ok (.iload_n 1, 1) := dk_27 (dk_at dksX8_dies_3 6 rfl rfl)
theorem dX8_dies_76 : decode cX8_dies 76 = .ok (.if_icmp .eq 6, 3) := dk_159 0 6 (dk_at dksX8_dies_3 7 rfl rfl)
theorem dX8_dies_79 : decode cX8_dies 79 = .ok (.goto 22, 3) := dk_167 0 22 (dk_at dksX8_dies_3 10 rfl rfl)
theorem dX8_dies_82 : decode cX8_dies 82 = .ok (.aload_n 0, 1) := dk_42 (dk_at dksX8_dies_3 13 rfl rfl)
theorem dX8_dies_83 : decode cX8_dies 83 = .ok (.getfield 13, 3) := dk_180 0 13 (dk_at dksX8_dies_3 14 rfl rfl)
theorem dX8_dies_86 : decode cX8_dies 86 = .ok (.bipush 120, 2) := dk_16 120 (dk_at dksX8_dies_3 17 rfl rfl)
theorem dX8_dies_88 : decode cX8_dies 88 = .ok (.bipush 32, 2) := dk_16 32 (dk_at dksX8_dies_3 19 rfl rfl)
theorem dX8_dies_90 : decode cX8_dies 90 = .ok (.iload 4, 2) := dk_21 4 (dk_at dksX8_dies_3 21 rfl rfl)
theorem dX8_dies_92 : decode cX8_dies 92 = .ok (.imul, 1) := dk_104 (dk_at dksX8_dies_3 23 rfl rfl)
theorem dX8_dies_93 : decode cX8_dies 93 = .ok (.iadd, 1) := dk_96 (dk_at dksX8_dies_4 0 rfl rfl)
theorem dX8_dies_94 : decode cX8_dies 94 = .ok (.iconst 1, 1) := dk_4 (dk_at dksX8_dies_4 1 rfl rfl)
theorem dX8_dies_95 : decode cX8_dies 95 = .ok (.iadd, 1) := dk_96 (dk_at dksX8_dies_4 2 rfl rfl)
theorem dX8_dies_96 : decode cX8_dies 96 = .ok (.iload_n 2, 1) := dk_28 (dk_at dksX8_dies_4 3 rfl rfl)
theorem dX8_dies_97 : decode cX8_dies 97 = .ok (.iastore, 1) := dk_79 (dk_at dksX8_dies_4 4 rfl rfl)
theorem dX8_dies_98 : decode cX8_dies 98 = .ok (.iinc 3 1, 3) := dk_132 3 1 (dk_at dksX8_dies_4 5 rfl rfl)
theorem dX8_dies_101 : decode cX8_dies 101 = .ok (.iinc 4 1, 3) := dk_132 4 1 (dk_at dksX8_dies_4 8 rfl rfl)
theorem dX8_dies_104 : decode cX8_dies 104 = .ok (.goto (-45), 3) := dk_167 255 211 (dk_at dksX8_dies_4 11 rfl rfl)
theorem dX8_dies_107 : decode cX8_dies 107 = .ok (.aload_n 0, 1) := dk_42 (dk_at dksX8_dies_4 14 rfl rfl)
theorem dX8_dies_108 : decode cX8_dies 108 = .ok (.getfield 13, 3) := dk_180 0 13 (dk_at dksX8_dies_4 15 rfl rfl)
theorem dX8_dies_111 : decode cX8_dies 111 = .ok (.bipush 110, 2) := dk_16 110 (dk_at dksX8_dies_4 18 rfl rfl)
theorem dX8_dies_113 : decode cX8_dies 113 = .ok (.iaload, 1) := dk_46 (dk_at dksX8_dies_4 20 rfl rfl)
theorem dX8_dies_114 : decode cX8_dies 114 = .ok (.iload_n 1, 1) := dk_27 (dk_at dksX8_dies_4 21 rfl rfl)
theorem dX8_dies_115 : decode cX8_dies 115 = .ok (.if_icmp .eq 14, 3) := dk_159 0 14 (dk_at dksX8_dies_5 0 rfl rfl)
theorem dX8_dies_118 : decode cX8_dies 118 = .ok (.aload_n 0, 1) := dk_42 (dk_at dksX8_dies_5 3 rfl rfl)
theorem dX8_dies_119 : decode cX8_dies 119 = .ok (.getfield 13, 3) := dk_180 0 13 (dk_at dksX8_dies_5 4 rfl rfl)
theorem dX8_dies_122 : decode cX8_dies 122 = .ok (.bipush 111, 2) := dk_16 111 (dk_at dksX8_dies_5 7 rfl rfl)
theorem dX8_dies_124 : decode cX8_dies 124 = .ok (.iaload, 1) := dk_46 (dk_at dksX8_dies_5 9 rfl rfl)
theorem dX8_dies_125 : decode cX8_dies 125 = .ok (.iload_n 1, 1) := dk_27 (dk_at dksX8_dies_5 10 rfl rfl)
theorem dX8_dies_126 : decode cX8_dies 126 = .ok (.if_icmp .ne 7, 3) := dk_160 0 7 (dk_at dksX8_dies_5 11 rfl rfl)
theorem dX8_dies_129 : decode cX8_dies 129 = .ok (.aload_n 0, 1) := dk_42 (dk_at dksX8_dies_5 14 rfl rfl)
theorem dX8_dies_130 : decode cX8_dies 130 = .ok (.invokevirtual 335, 3) := dk_182 1 79 (dk_at dksX8_dies_5 15 rfl rfl)
theorem dX8_dies_133 : decode cX8_dies 133 = .ok (.iload_n 3, 1) := dk_29 (dk_at dksX8_dies_5 18 rfl rfl)
theorem dX8_dies_134 : decode cX8_dies 134 = .ok (.ireturn, 1) := dk_172 (dk_at dksX8_dies_5 19 rfl rfl)
abbrev cX8_close : ByteArray := prog_18_method_85_code
def yX8_close : MethodName := ⟨RX8, "close", "(I)Z"⟩
def dkwX8_close_2 : List UInt8 := [172]
abbrev dktX8_close_2 : List UInt8 := dkwX8_close_2 ++ []
def dkwX8_close_1 : List UInt8 := [158, 0, 5, 3, 172, 42, 182, 1, 16, 42, 180, 0, 13, 16, 32, 6, 27, 104, 96, 5, 96, 4, 79, 4]
abbrev dktX8_close_1 : List UInt8 := dkwX8_close_1 ++ dktX8_close_2
def dkwX8_close_0 : List UInt8 := [42, 3, 181, 0, 83, 42, 182, 0, 167, 42, 27, 182, 1, 3, 153, 0, 12, 42, 27, 5, 182, 1, 6]
abbrev dktX8_close_0 : List UInt8 := dkwX8_close_0 ++ dktX8_close_1
theorem dksX8_close_0 : cX8_close.data.toList.drop 0 = dktX8_close_0 := by decide +kernel
theorem dksX8_close_1 : cX8_close.data.toList.drop 23 = dktX8_close_1 := dk_seg dksX8_close_0 23 rfl rfl
theorem dksX8_close_2 : cX8_close.data.toList.drop 47 = dktX8_close_2 := dk_seg dksX8_close_1 24 rfl rfl
theorem dX8_close_0 : decode cX8_close 0 = .ok (.aload_n 0, 1) := dk_42 (dk_at dksX8_close_0 0 rfl rfl)
theorem dX8_close_1 : decode cX8_close 1 = .ok (.iconst 0, 1) := dk_3 (dk_at dksX8_close_0 1 rfl rfl)
theorem dX8_close_2 : decode cX8_close 2 = .ok (.putfield 83, 3) := dk_181 0 83 (dk_at dksX8_close_0 2 rfl rfl)
theorem dX8_close_5 : decode cX8_close 5 = .ok (.aload_n 0, 1) := dk_42 (dk_at dksX8_close_0 5 rfl rfl)
theorem dX8_close_6 : decode cX8_close 6 = .ok (.invokevirtual 167, 3) := dk_182 0 167 (dk_at dksX8_close_0 6 rfl rfl)
theorem dX8_close_9 : decode cX8_close 9 = .ok (.aload_n 0, 1) := dk_42 (dk_at dksX8_close_0 9 rfl rfl)
theorem dX8_close_10 : decode cX8_close 10 = .ok (.iload_n 1, 1) := dk_27 (dk_at dksX8_close_0 10 rfl rfl)
theorem dX8_close_11 : decode cX8_close 11 = .ok (.invokevirtual 259, 3) := dk_182 1 3 (dk_at dksX8_close_0 11 rfl rfl)
theorem dX8_close_14 : decode cX8_close 14 = .ok (.ifCond .eq 12, 3) := dk_153 0 12 (dk_at dksX8_close_0 14 rfl rfl)
theorem dX8_close_17 : decode cX8_close 17 = .ok (.aload_n 0, 1) := dk_42 (dk_at dksX8_close_0 17 rfl rfl)
theorem dX8_close_18 : decode cX8_close 18 = .ok (.iload_n 1, 1) := dk_27 (dk_at dksX8_close_0 18 rfl rfl)
theorem dX8_close_19 : decode cX8_close 19 = .ok (.iconst 2, 1) := dk_5 (dk_at dksX8_close_0 19 rfl rfl)
theorem dX8_close_20 : decode cX8_close 20 = .ok (.invokevirtual 262, 3) := dk_182 1 6 (dk_at dksX8_close_0 20 rfl rfl)
theorem dX8_close_23 : decode cX8_close 23 = .ok (.ifCond .le 5, 3) := dk_158 0 5 (dk_at dksX8_close_1 0 rfl rfl)
theorem dX8_close_26 : decode cX8_close 26 = .ok (.iconst 0, 1) := dk_3 (dk_at dksX8_close_1 3 rfl rfl)
theorem dX8_close_27 : decode cX8_close 27 = .ok (.ireturn, 1) := dk_172 (dk_at dksX8_close_1 4 rfl rfl)
theorem dX8_close_28 : decode cX8_close 28 = .ok (.aload_n 0, 1) := dk_42 (dk_at dksX8_close_1 5 rfl rfl)
theorem dX8_close_29 : decode cX8_close 29 = .ok (.invokevirtual 272, 3) := dk_182 1 16 (dk_at dksX8_close_1 6 rfl rfl)
theorem dX8_close_32 : decode cX8_close 32 = .ok (.aload_n 0, 1) := dk_42 (dk_at dksX8_close_1 9 rfl rfl)
theorem dX8_close_33 : decode cX8_close 33 = .ok (.getfield 13, 3) := dk_180 0 13 (dk_at dksX8_close_1 10 rfl rfl)
theorem dX8_close_36 : decode cX8_close 36 = .ok (.bipush 32, 2) := dk_16 32 (dk_at dksX8_close_1 13 rfl rfl)
theorem dX8_close_38 : decode cX8_close 38 = .ok (.iconst 3, 1) := dk_6 (dk_at dksX8_close_1 15 rfl rfl)
theorem dX8_close_39 : decode cX8_close 39 = .ok (.iload_n 1, 1) := dk_27 (dk_at dksX8_close_1 16 rfl rfl)
theorem dX8_close_40 : decode cX8_close 40 = .ok (.imul, 1) := dk_104 (dk_at dksX8_close_1 17 rfl rfl)
theorem dX8_close_41 : decode cX8_close 41 = .ok (.iadd, 1) := dk_96 (dk_at dksX8_close_1 18 rfl rfl)
theorem dX8_close_42 : decode cX8_close 42 = .ok (.iconst 2, 1) := dk_5 (dk_at dksX8_close_1 19 rfl rfl)
theorem dX8_close_43 : decode cX8_close 43 = .ok (.iadd, 1) := dk_96 (dk_at dksX8_close_1 20 rfl rfl)
theorem dX8_close_44 : decode cX8_close 44 = .ok (.iconst 1, 1) := dk_4 (dk_at dksX8_close_1 21 rfl rfl)
theorem dX8_close_45 : decode cX8_close 45 = .ok (.iastore, 1) := dk_79 (dk_at dksX8_close_1 22 rfl rfl)
theorem dX8_close_46 : decode cX8_close 46 = .ok (.iconst 1, 1) := dk_4 (dk_at dksX8_close_1 23 rfl rfl)
theorem dX8_close_47 : decode cX8_close 47 = .ok (.ireturn, 1) := dk_172 (dk_at dksX8_close_2 0 rfl rfl)
abbrev cX8_strokes : ByteArray := prog_18_method_86_code
def yX8_strokes : MethodName := ⟨RX8, "strokes", "()I"⟩
def dkwX8_strokes_0 : List UInt8 := [42, 3, 181, 0, 83, 42, 180, 0, 13, 16, 112, 46, 172]
abbrev dktX8_strokes_0 : List UInt8 := dkwX8_strokes_0 ++ []
theorem dksX8_strokes_0 : cX8_strokes.data.toList.drop 0 = dktX8_strokes_0 := by decide +kernel
theorem dX8_strokes_0 : decode cX8_strokes 0 = .ok (.aload_n 0, 1) := dk_42 (dk_at dksX8_strokes_0 0 rfl rfl)
theorem dX8_strokes_1 : decode cX8_strokes 1 = .ok (.iconst 0, 1) := dk_3 (dk_at dksX8_strokes_0 1 rfl rfl)
theorem dX8_strokes_2 : decode cX8_strokes 2 = .ok (.putfield 83, 3) := dk_181 0 83 (dk_at dksX8_strokes_0 2 rfl rfl)
theorem dX8_strokes_5 : decode cX8_strokes 5 = .ok (.aload_n 0, 1) := dk_42 (dk_at dksX8_strokes_0 5 rfl rfl)
theorem dX8_strokes_6 : decode cX8_strokes 6 = .ok (.getfield 13, 3) := dk_180 0 13 (dk_at dksX8_strokes_0 6 rfl rfl)
theorem dX8_strokes_9 : decode cX8_strokes 9 = .ok (.bipush 112, 2) := dk_16 112 (dk_at dksX8_strokes_0 9 rfl rfl)
theorem dX8_strokes_11 : decode cX8_strokes 11 = .ok (.iaload, 1) := dk_46 (dk_at dksX8_strokes_0 11 rfl rfl)
theorem dX8_strokes_12 : decode cX8_strokes 12 = .ok (.ireturn, 1) := dk_172 (dk_at dksX8_strokes_0 12 rfl rfl)
abbrev cX8_stroke : ByteArray := prog_18_method_88_code
def yX8_stroke : MethodName := ⟨RX8, "stroke", "(II)I"⟩
def dkwX8_stroke_2 : List UInt8 := [17, 5, 120, 16, 6, 27, 104, 96, 28, 96, 46, 167, 0, 8, 42, 27, 182, 1, 82, 172]
abbrev dktX8_stroke_2 : List UInt8 := dkwX8_stroke_2 ++ []
def dkwX8_stroke_1 : List UInt8 := [154, 0, 8, 42, 182, 0, 246, 172, 42, 3, 181, 0, 83, 28, 16, 6, 162, 0, 21, 42, 180, 0, 13]
abbrev dktX8_stroke_1 : List UInt8 := dkwX8_stroke_1 ++ dktX8_stroke_2
def dkwX8_stroke_0 : List UInt8 := [27, 155, 0, 24, 27, 42, 180, 0, 13, 16, 112, 46, 162, 0, 13, 28, 3, 16, 6, 184, 0, 154]
abbrev dktX8_stroke_0 : List UInt8 := dkwX8_stroke_0 ++ dktX8_stroke_1
theorem dksX8_stroke_0 : cX8_stroke.data.toList.drop 0 = dktX8_stroke_0 := by decide +kernel
theorem dksX8_stroke_1 : cX8_stroke.data.toList.drop 22 = dktX8_stroke_1 := dk_seg dksX8_stroke_0 22 rfl rfl
theorem dksX8_stroke_2 : cX8_stroke.data.toList.drop 45 = dktX8_stroke_2 := dk_seg dksX8_stroke_1 23 rfl rfl
theorem dX8_stroke_0 : decode cX8_stroke 0 = .ok (.iload_n 1, 1) := dk_27 (dk_at dksX8_stroke_0 0 rfl rfl)
theorem dX8_stroke_1 : decode cX8_stroke 1 = .ok (.ifCond .lt 24, 3) := dk_155 0 24 (dk_at dksX8_stroke_0 1 rfl rfl)
theorem dX8_stroke_4 : decode cX8_stroke 4 = .ok (.iload_n 1, 1) := dk_27 (dk_at dksX8_stroke_0 4 rfl rfl)
theorem dX8_stroke_5 : decode cX8_stroke 5 = .ok (.aload_n 0, 1) := dk_42 (dk_at dksX8_stroke_0 5 rfl rfl)
theorem dX8_stroke_6 : decode cX8_stroke 6 = .ok (.getfield 13, 3) := dk_180 0 13 (dk_at dksX8_stroke_0 6 rfl rfl)
theorem dX8_stroke_9 : decode cX8_stroke 9 = .ok (.bipush 112, 2) := dk_16 112 (dk_at dksX8_stroke_0 9 rfl rfl)
theorem dX8_stroke_11 : decode cX8_stroke 11 = .ok (.iaload, 1) := dk_46 (dk_at dksX8_stroke_0 11 rfl rfl)
theorem dX8_stroke_12 : decode cX8_stroke 12 = .ok (.if_icmp .ge 13, 3) := dk_162 0 13 (dk_at dksX8_stroke_0 12 rfl rfl)
theorem dX8_stroke_15 : decode cX8_stroke 15 = .ok (.iload_n 2, 1) := dk_28 (dk_at dksX8_stroke_0 15 rfl rfl)
theorem dX8_stroke_16 : decode cX8_stroke 16 = .ok (.iconst 0, 1) := dk_3 (dk_at dksX8_stroke_0 16 rfl rfl)
theorem dX8_stroke_17 : decode cX8_stroke 17 = .ok (.bipush 6, 2) := dk_16 6 (dk_at dksX8_stroke_0 17 rfl rfl)
theorem dX8_stroke_19 : decode cX8_stroke 19 = .ok (.invokestatic 154, 3) := dk_184 0 154 (dk_at dksX8_stroke_0 19 rfl rfl)
theorem dX8_stroke_22 : decode cX8_stroke 22 = .ok (.ifCond .ne 8, 3) := dk_154 0 8 (dk_at dksX8_stroke_1 0 rfl rfl)
theorem dX8_stroke_25 : decode cX8_stroke 25 = .ok (.aload_n 0, 1) := dk_42 (dk_at dksX8_stroke_1 3 rfl rfl)
theorem dX8_stroke_26 : decode cX8_stroke 26 = .ok (.invokevirtual 246, 3) := dk_182 0 246 (dk_at dksX8_stroke_1 4 rfl rfl)
theorem dX8_stroke_29 : decode cX8_stroke 29 = .ok (.ireturn, 1) := dk_172 (dk_at dksX8_stroke_1 7 rfl rfl)
theorem dX8_stroke_30 : decode cX8_stroke 30 = .ok (.aload_n 0, 1) := dk_42 (dk_at dksX8_stroke_1 8 rfl rfl)
theorem dX8_stroke_31 : decode cX8_stroke 31 = .ok (.iconst 0, 1) := dk_3 (dk_at dksX8_stroke_1 9 rfl rfl)
theorem dX8_stroke_32 : decode cX8_stroke 32 = .ok (.putfield 83, 3) := dk_181 0 83 (dk_at dksX8_stroke_1 10 rfl rfl)
theorem dX8_stroke_35 : decode cX8_stroke 35 = .ok (.iload_n 2, 1) := dk_28 (dk_at dksX8_stroke_1 13 rfl rfl)
theorem dX8_stroke_36 : decode cX8_stroke 36 = .ok (.bipush 6, 2) := dk_16 6 (dk_at dksX8_stroke_1 14 rfl rfl)
theorem dX8_stroke_38 : decode cX8_stroke 38 = .ok (.if_icmp .ge 21, 3) := dk_162 0 21 (dk_at dksX8_stroke_1 16 rfl rfl)
theorem dX8_stroke_41 : decode cX8_stroke 41 = .ok (.aload_n 0, 1) := dk_42 (dk_at dksX8_stroke_1 19 rfl rfl)
theorem dX8_stroke_42 : decode cX8_stroke 42 = .ok (.getfield 13, 3) := dk_180 0 13 (dk_at dksX8_stroke_1 20 rfl rfl)
theorem dX8_stroke_45 : decode cX8_stroke 45 = .ok (.sipush 1400, 3) := dk_17 5 120 (dk_at dksX8_stroke_2 0 rfl rfl)
theorem dX8_stroke_48 : decode cX8_stroke 48 = .ok (.bipush 6, 2) := dk_16 6 (dk_at dksX8_stroke_2 3 rfl rfl)
theorem dX8_stroke_50 : decode cX8_stroke 50 = .ok (.iload_n 1, 1) := dk_27 (dk_at dksX8_stroke_2 5 rfl rfl)
theorem dX8_stroke_51 : decode cX8_stroke 51 = .ok (.imul, 1) := dk_104 (dk_at dksX8_stroke_2 6 rfl rfl)
theorem dX8_stroke_52 : decode cX8_stroke 52 = .ok (.iadd, 1) := dk_96 (dk_at dksX8_stroke_2 7 rfl rfl)
theorem dX8_stroke_53 : decode cX8_stroke 53 = .ok (.iload_n 2, 1) := dk_28 (dk_at dksX8_stroke_2 8 rfl rfl)
theorem dX8_stroke_54 : decode cX8_stroke 54 = .ok (.iadd, 1) := dk_96 (dk_at dksX8_stroke_2 9 rfl rfl)
theorem dX8_stroke_55 : decode cX8_stroke 55 = .ok (.iaload, 1) := dk_46 (dk_at dksX8_stroke_2 10 rfl rfl)
theorem dX8_stroke_56 : decode cX8_stroke 56 = .ok (.goto 8, 3) := dk_167 0 8 (dk_at dksX8_stroke_2 11 rfl rfl)
theorem dX8_stroke_59 : decode cX8_stroke 59 = .ok (.aload_n 0, 1) := dk_42 (dk_at dksX8_stroke_2 14 rfl rfl)
theorem dX8_stroke_60 : decode cX8_stroke 60 = .ok (.iload_n 1, 1) := dk_27 (dk_at dksX8_stroke_2 15 rfl rfl)
theorem dX8_stroke_61 : decode cX8_stroke 61 = .ok (.invokevirtual 338, 3) := dk_182 1 82 (dk_at dksX8_stroke_2 16 rfl rfl)
theorem dX8_stroke_64 : decode cX8_stroke 64 = .ok (.ireturn, 1) := dk_172 (dk_at dksX8_stroke_2 19 rfl rfl)
abbrev cX8_isShown : ByteArray := prog_18_method_87_code
def yX8_isShown : MethodName := ⟨RX8, "isShown", "(I)I"⟩
def dkwX8_isShown_2 : List UInt8 := [167, 255, 225, 3, 172]
abbrev dktX8_isShown_2 : List UInt8 := dkwX8_isShown_2 ++ []
def dkwX8_isShown_1 : List UInt8 := [162, 0, 27, 42, 28, 7, 6, 29, 104, 96, 5, 96, 182, 1, 0, 27, 160, 0, 5, 4, 172, 132, 3, 1]
abbrev dktX8_isShown_1 : List UInt8 := dkwX8_isShown_1 ++ dktX8_isShown_2
def dkwX8_isShown_0 : List UInt8 := [42, 180, 0, 13, 17, 5, 120, 16, 6, 27, 104, 96, 46, 61, 3, 62, 29, 42, 28, 6, 182, 1, 0]
abbrev dktX8_isShown_0 : List UInt8 := dkwX8_isShown_0 ++ dktX8_isShown_1
theorem dksX8_isShown_0 : cX8_isShown.data.toList.drop 0 = dktX8_isShown_0 := by decide +kernel
theorem dksX8_isShown_1 : cX8_isShown.data.toList.drop 23 = dktX8_isShown_1 := dk_seg dksX8_isShown_0 23 rfl rfl
theorem dksX8_isShown_2 : cX8_isShown.data.toList.drop 47 = dktX8_isShown_2 := dk_seg dksX8_isShown_1 24 rfl rfl
theorem dX8_isShown_0 : decode cX8_isShown 0 = .ok (.aload_n 0, 1) := dk_42 (dk_at dksX8_isShown_0 0 rfl rfl)
theorem dX8_isShown_1 : decode cX8_isShown 1 = .ok (.getfield 13, 3) := dk_180 0 13 (dk_at dksX8_isShown_0 1 rfl rfl)
theorem dX8_isShown_4 : decode cX8_isShown 4 = .ok (.sipush 1400, 3) := dk_17 5 120 (dk_at dksX8_isShown_0 4 rfl rfl)
theorem dX8_isShown_7 : decode cX8_isShown 7 = .ok (.bipush 6, 2) := dk_16 6 (dk_at dksX8_isShown_0 7 rfl rfl)
theorem dX8_isShown_9 : decode cX8_isShown 9 = .ok (.iload_n 1, 1) := dk_27 (dk_at dksX8_isShown_0 9 rfl rfl)
theorem dX8_isShown_10 : decode cX8_isShown 10 = .ok (.imul, 1) := dk_104 (dk_at dksX8_isShown_0 10 rfl rfl)
theorem dX8_isShown_11 : decode cX8_isShown 11 = .ok (.iadd, 1) := dk_96 (dk_at dksX8_isShown_0 11 rfl rfl)
theorem dX8_isShown_12 : decode cX8_isShown 12 = .ok (.iaload, 1) := dk_46 (dk_at dksX8_isShown_0 12 rfl rfl)
theorem dX8_isShown_13 : decode cX8_isShown 13 = .ok (.istore_n 2, 1) := dk_61 (dk_at dksX8_isShown_0 13 rfl rfl)
theorem dX8_isShown_14 : decode cX8_isShown 14 = .ok (.iconst 0, 1) := dk_3 (dk_at dksX8_isShown_0 14 rfl rfl)
theorem dX8_isShown_15 : decode cX8_isShown 15 = .ok (.istore_n 3, 1) := dk_62 (dk_at dksX8_isShown_0 15 rfl rfl)
theorem dX8_isShown_16 : decode cX8_isShown 16 = .ok (.iload_n 3, 1) := dk_29 (dk_at dksX8_isShown_0 16 rfl rfl)
theorem dX8_isShown_17 : decode cX8_isShown 17 = .ok (.aload_n 0, 1) := dk_42 (dk_at dksX8_isShown_0 17 rfl rfl)
theorem dX8_isShown_18 : decode cX8_isShown 18 = .ok (.iload_n 2, 1) := dk_28 (dk_at dksX8_isShown_0 18 rfl rfl)
theorem dX8_isShown_19 : decode cX8_isShown 19 = .ok (.iconst 3, 1) := dk_6 (dk_at dksX8_isShown_0 19 rfl rfl)
theorem dX8_isShown_20 : decode cX8_isShown 20 = .ok (.invokevirtual 256, 3) := dk_182 1 0 (dk_at dksX8_isShown_0 20 rfl rfl)
theorem dX8_isShown_23 : decode cX8_isShown 23 = .ok (.if_icmp .ge 27, 3) := dk_162 0 27 (dk_at dksX8_isShown_1 0 rfl rfl)
theorem dX8_isShown_26 : decode cX8_isShown 26 = .ok (.aload_n 0, 1) := dk_42 (dk_at dksX8_isShown_1 3 rfl rfl)
theorem dX8_isShown_27 : decode cX8_isShown 27 = .ok (.iload_n 2, 1) := dk_28 (dk_at dksX8_isShown_1 4 rfl rfl)
theorem dX8_isShown_28 : decode cX8_isShown 28 = .ok (.iconst 4, 1) := dk_7 (dk_at dksX8_isShown_1 5 rfl rfl)
theorem dX8_isShown_29 : decode cX8_isShown 29 = .ok (.iconst 3, 1) := dk_6 (dk_at dksX8_isShown_1 6 rfl rfl)
theorem dX8_isShown_30 : decode cX8_isShown 30 = .ok (.iload_n 3, 1) := dk_29 (dk_at dksX8_isShown_1 7 rfl rfl)
theorem dX8_isShown_31 : decode cX8_isShown 31 = .ok (.imul, 1) := dk_104 (dk_at dksX8_isShown_1 8 rfl rfl)
theorem dX8_isShown_32 : decode cX8_isShown 32 = .ok (.iadd, 1) := dk_96 (dk_at dksX8_isShown_1 9 rfl rfl)
theorem dX8_isShown_33 : decode cX8_isShown 33 = .ok (.iconst 2, 1) := dk_5 (dk_at dksX8_isShown_1 10 rfl rfl)
theorem dX8_isShown_34 : decode cX8_isShown 34 = .ok (.iadd, 1) := dk_96 (dk_at dksX8_isShown_1 11 rfl rfl)
theorem dX8_isShown_35 : decode cX8_isShown 35 = .ok (.invokevirtual 256, 3) := dk_182 1 0 (dk_at dksX8_isShown_1 12 rfl rfl)
theorem dX8_isShown_38 : decode cX8_isShown 38 = .ok (.iload_n 1, 1) := dk_27 (dk_at dksX8_isShown_1 15 rfl rfl)
theorem dX8_isShown_39 : decode cX8_isShown 39 = .ok (.if_icmp .ne 5, 3) := dk_160 0 5 (dk_at dksX8_isShown_1 16 rfl rfl)
theorem dX8_isShown_42 : decode cX8_isShown 42 = .ok (.iconst 1, 1) := dk_4 (dk_at dksX8_isShown_1 19 rfl rfl)
theorem dX8_isShown_43 : decode cX8_isShown 43 = .ok (.ireturn, 1) := dk_172 (dk_at dksX8_isShown_1 20 rfl rfl)
theorem dX8_isShown_44 : decode cX8_isShown 44 = .ok (.iinc 3 1, 3) := dk_132 3 1 (dk_at dksX8_isShown_1 21 rfl rfl)
theorem dX8_isShown_47 : decode cX8_isShown 47 = .ok (.goto (-31), 3) := dk_167 255 225 (dk_at dksX8_isShown_2 0 rfl rfl)
theorem dX8_isShown_50 : decode cX8_isShown 50 = .ok (.iconst 0, 1) := dk_3 (dk_at dksX8_isShown_2 3 rfl rfl)
theorem dX8_isShown_51 : decode cX8_isShown 51 = .ok (.ireturn, 1) := dk_172 (dk_at dksX8_isShown_2 4 rfl rfl)
abbrev cX8_foreign : ByteArray := prog_18_method_89_code
def yX8_foreign : MethodName := ⟨RX8, "foreign", "(I)I"⟩
def dkwX8_foreign_2 : List UInt8 := [132, 3, 1, 167, 255, 218, 27, 2, 160, 0, 7, 28, 167, 0, 4, 2, 172]
abbrev dktX8_foreign_2 : List UInt8 := dkwX8_foreign_2 ++ []
def dkwX8_foreign_1 : List UInt8 := [182, 1, 0, 42, 29, 182, 0, 253, 160, 0, 6, 167, 0, 13, 28, 27, 160, 0, 5, 29, 172, 132, 2, 1]
abbrev dktX8_foreign_1 : List UInt8 := dkwX8_foreign_1 ++ dktX8_foreign_2
def dkwX8_foreign_0 : List UInt8 := [42, 3, 181, 0, 83, 42, 182, 0, 167, 3, 61, 3, 62, 29, 42, 182, 0, 188, 162, 0, 36, 42, 29, 4]
abbrev dktX8_foreign_0 : List UInt8 := dkwX8_foreign_0 ++ dktX8_foreign_1
theorem dksX8_foreign_0 : cX8_foreign.data.toList.drop 0 = dktX8_foreign_0 := by decide +kernel
theorem dksX8_foreign_1 : cX8_foreign.data.toList.drop 24 = dktX8_foreign_1 := dk_seg dksX8_foreign_0 24 rfl rfl
theorem dksX8_foreign_2 : cX8_foreign.data.toList.drop 48 = dktX8_foreign_2 := dk_seg dksX8_foreign_1 24 rfl rfl
theorem dX8_foreign_0 : decode cX8_foreign 0 = .ok (.aload_n 0, 1) := dk_42 (dk_at dksX8_foreign_0 0 rfl rfl)
theorem dX8_foreign_1 : decode cX8_foreign 1 = .ok (.iconst 0, 1) := dk_3 (dk_at dksX8_foreign_0 1 rfl rfl)
theorem dX8_foreign_2 : decode cX8_foreign 2 = .ok (.putfield 83, 3) := dk_181 0 83 (dk_at dksX8_foreign_0 2 rfl rfl)
theorem dX8_foreign_5 : decode cX8_foreign 5 = .ok (.aload_n 0, 1) := dk_42 (dk_at dksX8_foreign_0 5 rfl rfl)
theorem dX8_foreign_6 : decode cX8_foreign 6 = .ok (.invokevirtual 167, 3) := dk_182 0 167 (dk_at dksX8_foreign_0 6 rfl rfl)
theorem dX8_foreign_9 : decode cX8_foreign 9 = .ok (.iconst 0, 1) := dk_3 (dk_at dksX8_foreign_0 9 rfl rfl)
theorem dX8_foreign_10 : decode cX8_foreign 10 = .ok (.istore_n 2, 1) := dk_61 (dk_at dksX8_foreign_0 10 rfl rfl)
theorem dX8_foreign_11 : decode cX8_foreign 11 = .ok (.iconst 0, 1) := dk_3 (dk_at dksX8_foreign_0 11 rfl rfl)
theorem dX8_foreign_12 : decode cX8_foreign 12 = .ok (.istore_n 3, 1) := dk_62 (dk_at dksX8_foreign_0 12 rfl rfl)
theorem dX8_foreign_13 : decode cX8_foreign 13 = .ok (.iload_n 3, 1) := dk_29 (dk_at dksX8_foreign_0 13 rfl rfl)
theorem dX8_foreign_14 : decode cX8_foreign 14 = .ok (.aload_n 0, 1) := dk_42 (dk_at dksX8_foreign_0 14 rfl rfl)
theorem dX8_foreign_15 : decode cX8_foreign 15 = .ok (.invokevirtual 188, 3) := dk_182 0 188 (dk_at dksX8_foreign_0 15 rfl rfl)
theorem dX8_foreign_18 : decode cX8_foreign 18 = .ok (.if_icmp .ge 36, 3) := dk_162 0 36 (dk_at dksX8_foreign_0 18 rfl rfl)
theorem dX8_foreign_21 : decode cX8_foreign 21 = .ok (.aload_n 0, 1) := dk_42 (dk_at dksX8_foreign_0 21 rfl rfl)
theorem dX8_foreign_22 : decode cX8_foreign 22 = .ok (.iload_n 3, 1) := dk_29 (dk_at dksX8_foreign_0 22 rfl rfl)
theorem dX8_foreign_23 : decode cX8_foreign 23 = .ok (.iconst 1, 1) := dk_4 (dk_at dksX8_foreign_0 23 rfl rfl)
theorem dX8_foreign_24 : decode cX8_foreign 24 = .ok (.invokevirtual 256, 3) := dk_182 1 0 (dk_at dksX8_foreign_1 0 rfl rfl)
theorem dX8_foreign_27 : decode cX8_foreign 27 = .ok (.aload_n 0, 1) := dk_42 (dk_at dksX8_foreign_1 3 rfl rfl)
theorem dX8_foreign_28 : decode cX8_foreign 28 = .ok (.iload_n 3, 1) := dk_29 (dk_at dksX8_foreign_1 4 rfl rfl)
theorem dX8_foreign_29 : decode cX8_foreign 29 = .ok (.invokevirtual 253, 3) := dk_182 0 253 (dk_at dksX8_foreign_1 5 rfl rfl)
theorem dX8_foreign_32 : decode cX8_foreign 32 = .ok (.if_icmp .ne 6, 3) := dk_160 0 6 (dk_at dksX8_foreign_1 8 rfl rfl)
theorem dX8_foreign_35 : decode cX8_foreign 35 = .ok (.goto 13, 3) := dk_167 0 13 (dk_at dksX8_foreign_1 11 rfl rfl)
theorem dX8_foreign_38 : decode cX8_foreign 38 = .ok (.iload_n 2, 1) := dk_28 (dk_at dksX8_foreign_1 14 rfl rfl)
theorem dX8_foreign_39 : decode cX8_foreign 39 = .ok (.iload_n 1, 1) := dk_27 (dk_at dksX8_foreign_1 15 rfl rfl)
theorem dX8_foreign_40 : decode cX8_foreign 40 = .ok (.if_icmp .ne 5, 3) := dk_160 0 5 (dk_at dksX8_foreign_1 16 rfl rfl)
theorem dX8_foreign_43 : decode cX8_foreign 43 = .ok (.iload_n 3, 1) := dk_29 (dk_at dksX8_foreign_1 19 rfl rfl)
theorem dX8_foreign_44 : decode cX8_foreign 44 = .ok (.ireturn, 1) := dk_172 (dk_at dksX8_foreign_1 20 rfl rfl)
theorem dX8_foreign_45 : decode cX8_foreign 45 = .ok (.iinc 2 1, 3) := dk_132 2 1 (dk_at dksX8_foreign_1 21 rfl rfl)
theorem dX8_foreign_48 : decode cX8_foreign 48 = .ok (.iinc 3 1, 3) := dk_132 3 1 (dk_at dksX8_foreign_2 0 rfl rfl)
theorem dX8_foreign_51 : decode cX8_foreign 51 = .ok (.goto (-38), 3) := dk_167 255 218 (dk_at dksX8_foreign_2 3 rfl rfl)
theorem dX8_foreign_54 : decode cX8_foreign 54 = .ok (.iload_n 1, 1) := dk_27 (dk_at dksX8_foreign_2 6 rfl rfl)
theorem dX8_foreign_55 : decode cX8_foreign 55 = .ok (.iconst (-1), 1) := dk_2 (dk_at dksX8_foreign_2 7 rfl rfl)
theorem dX8_foreign_56 : decode cX8_foreign 56 = .ok (.if_icmp .ne 7, 3) := dk_160 0 7 (dk_at dksX8_foreign_2 8 rfl rfl)
theorem dX8_foreign_59 : decode cX8_foreign 59 = .ok (.iload_n 2, 1) := dk_28 (dk_at dksX8_foreign_2 11 rfl rfl)
theorem dX8_foreign_60 : decode cX8_foreign 60 = .ok (.goto 4, 3) := dk_167 0 4 (dk_at dksX8_foreign_2 12 rfl rfl)
theorem dX8_foreign_63 : decode cX8_foreign 63 = .ok (.iconst (-1), 1) := dk_2 (dk_at dksX8_foreign_2 15 rfl rfl)
theorem dX8_foreign_64 : decode cX8_foreign 64 = .ok (.ireturn, 1) := dk_172 (dk_at dksX8_foreign_2 16 rfl rfl)
abbrev cX8_silver : ByteArray := prog_18_method_90_code
def yX8_silver : MethodName := ⟨RX8, "silver", "(I)I"⟩
def dkwX8_silver_2 : List UInt8 := [182, 0, 188, 162, 0, 18, 28, 42, 29, 3, 182, 1, 0, 96, 61, 132, 3, 1, 167, 255, 236, 28, 172]
abbrev dktX8_silver_2 : List UInt8 := dkwX8_silver_2 ++ []
def dkwX8_silver_1 : List UInt8 := [160, 0, 11, 42, 180, 0, 13, 16, 115, 46, 172, 27, 4, 159, 0, 5, 2, 172, 3, 61, 3, 62, 29, 42]
abbrev dktX8_silver_1 : List UInt8 := dkwX8_silver_1 ++ dktX8_silver_2
def dkwX8_silver_0 : List UInt8 := [42, 3, 181, 0, 83, 42, 182, 0, 167, 27, 154, 0, 11, 42, 180, 0, 13, 16, 114, 46, 172, 27, 5]
abbrev dktX8_silver_0 : List UInt8 := dkwX8_silver_0 ++ dktX8_silver_1
theorem dksX8_silver_0 : cX8_silver.data.toList.drop 0 = dktX8_silver_0 := by decide +kernel
theorem dksX8_silver_1 : cX8_silver.data.toList.drop 23 = dktX8_silver_1 := dk_seg dksX8_silver_0 23 rfl rfl
theorem dksX8_silver_2 : cX8_silver.data.toList.drop 47 = dktX8_silver_2 := dk_seg dksX8_silver_1 24 rfl rfl
theorem dX8_silver_0 : decode cX8_silver 0 = .ok (.aload_n 0, 1) := dk_42 (dk_at dksX8_silver_0 0 rfl rfl)
theorem dX8_silver_1 : decode cX8_silver 1 = .ok (.iconst 0, 1) := dk_3 (dk_at dksX8_silver_0 1 rfl rfl)
theorem dX8_silver_2 : decode cX8_silver 2 = .ok (.putfield 83, 3) := dk_181 0 83 (dk_at dksX8_silver_0 2 rfl rfl)
theorem dX8_silver_5 : decode cX8_silver 5 = .ok (.aload_n 0, 1) := dk_42 (dk_at dksX8_silver_0 5 rfl rfl)
theorem dX8_silver_6 : decode cX8_silver 6 = .ok (.invokevirtual 167, 3) := dk_182 0 167 (dk_at dksX8_silver_0 6 rfl rfl)
theorem dX8_silver_9 : decode cX8_silver 9 = .ok (.iload_n 1, 1) := dk_27 (dk_at dksX8_silver_0 9 rfl rfl)
theorem dX8_silver_10 : decode cX8_silver 10 = .ok (.ifCond .ne 11, 3) := dk_154 0 11 (dk_at dksX8_silver_0 10 rfl rfl)
theorem dX8_silver_13 : decode cX8_silver 13 = .ok (.aload_n 0, 1) := dk_42 (dk_at dksX8_silver_0 13 rfl rfl)
theorem dX8_silver_14 : decode cX8_silver 14 = .ok (.getfield 13, 3) := dk_180 0 13 (dk_at dksX8_silver_0 14 rfl rfl)
theorem dX8_silver_17 : decode cX8_silver 17 = .ok (.bipush 114, 2) := dk_16 114 (dk_at dksX8_silver_0 17 rfl rfl)
theorem dX8_silver_19 : decode cX8_silver 19 = .ok (.iaload, 1) := dk_46 (dk_at dksX8_silver_0 19 rfl rfl)
theorem dX8_silver_20 : decode cX8_silver 20 = .ok (.ireturn, 1) := dk_172 (dk_at dksX8_silver_0 20 rfl rfl)
theorem dX8_silver_21 : decode cX8_silver 21 = .ok (.iload_n 1, 1) := dk_27 (dk_at dksX8_silver_0 21 rfl rfl)
theorem dX8_silver_22 : decode cX8_silver 22 = .ok (.iconst 2, 1) := dk_5 (dk_at dksX8_silver_0 22 rfl rfl)
theorem dX8_silver_23 : decode cX8_silver 23 = .ok (.if_icmp .ne 11, 3) := dk_160 0 11 (dk_at dksX8_silver_1 0 rfl rfl)
theorem dX8_silver_26 : decode cX8_silver 26 = .ok (.aload_n 0, 1) := dk_42 (dk_at dksX8_silver_1 3 rfl rfl)
theorem dX8_silver_27 : decode cX8_silver 27 = .ok (.getfield 13, 3) := dk_180 0 13 (dk_at dksX8_silver_1 4 rfl rfl)
theorem dX8_silver_30 : decode cX8_silver 30 = .ok (.bipush 115, 2) := dk_16 115 (dk_at dksX8_silver_1 7 rfl rfl)
theorem dX8_silver_32 : decode cX8_silver 32 = .ok (.iaload, 1) := dk_46 (dk_at dksX8_silver_1 9 rfl rfl)
theorem dX8_silver_33 : decode cX8_silver 33 = .ok (.ireturn, 1) := dk_172 (dk_at dksX8_silver_1 10 rfl rfl)
theorem dX8_silver_34 : decode cX8_silver 34 = .ok (.iload_n 1, 1) := dk_27 (dk_at dksX8_silver_1 11 rfl rfl)
theorem dX8_silver_35 : decode cX8_silver 35 = .ok (.iconst 1, 1) := dk_4 (dk_at dksX8_silver_1 12 rfl rfl)
theorem dX8_silver_36 : decode cX8_silver 36 = .ok (.if_icmp .eq 5, 3) := dk_159 0 5 (dk_at dksX8_silver_1 13 rfl rfl)
theorem dX8_silver_39 : decode cX8_silver 39 = .ok (.iconst (-1), 1) := dk_2 (dk_at dksX8_silver_1 16 rfl rfl)
theorem dX8_silver_40 : decode cX8_silver 40 = .ok (.ireturn, 1) := dk_172 (dk_at dksX8_silver_1 17 rfl rfl)
theorem dX8_silver_41 : decode cX8_silver 41 = .ok (.iconst 0, 1) := dk_3 (dk_at dksX8_silver_1 18 rfl rfl)
theorem dX8_silver_42 : decode cX8_silver 42 = .ok (.istore_n 2, 1) := dk_61 (dk_at dksX8_silver_1 19 rfl rfl)
theorem dX8_silver_43 : decode cX8_silver 43 = .ok (.iconst 0, 1) := dk_3 (dk_at dksX8_silver_1 20 rfl rfl)
theorem dX8_silver_44 : decode cX8_silver 44 = .ok (.istore_n 3, 1) := dk_62 (dk_at dksX8_silver_1 21 rfl rfl)
theorem dX8_silver_45 : decode cX8_silver 45 = .ok (.iload_n 3, 1) := dk_29 (dk_at dksX8_silver_1 22 rfl rfl)
theorem dX8_silver_46 : decode cX8_silver 46 = .ok (.aload_n 0, 1) := dk_42 (dk_at dksX8_silver_1 23 rfl rfl)
theorem dX8_silver_47 : decode cX8_silver 47 = .ok (.invokevirtual 188, 3) := dk_182 0 188 (dk_at dksX8_silver_2 0 rfl rfl)
theorem dX8_silver_50 : decode cX8_silver 50 = .ok (.if_icmp .ge 18, 3) := dk_162 0 18 (dk_at dksX8_silver_2 3 rfl rfl)
theorem dX8_silver_53 : decode cX8_silver 53 = .ok (.iload_n 2, 1) := dk_28 (dk_at dksX8_silver_2 6 rfl rfl)
theorem dX8_silver_54 : decode cX8_silver 54 = .ok (.aload_n 0, 1) := dk_42 (dk_at dksX8_silver_2 7 rfl rfl)
theorem dX8_silver_55 : decode cX8_silver 55 = .ok (.iload_n 3, 1) := dk_29 (dk_at dksX8_silver_2 8 rfl rfl)
theorem dX8_silver_56 : decode cX8_silver 56 = .ok (.iconst 0, 1) := dk_3 (dk_at dksX8_silver_2 9 rfl rfl)
theorem dX8_silver_57 : decode cX8_silver 57 = .ok (.invokevirtual 256, 3) := dk_182 1 0 (dk_at dksX8_silver_2 10 rfl rfl)
theorem dX8_silver_60 : decode cX8_silver 60 = .ok (.iadd, 1) := dk_96 (dk_at dksX8_silver_2 13 rfl rfl)
theorem dX8_silver_61 : decode cX8_silver 61 = .ok (.istore_n 2, 1) := dk_61 (dk_at dksX8_silver_2 14 rfl rfl)
theorem dX8_silver_62 : decode cX8_silver 62 = .ok (.iinc 3 1, 3) := dk_132 3 1 (dk_at dksX8_silver_2 15 rfl rfl)
theorem dX8_silver_65 : decode cX8_silver 65 = .ok (.goto (-20), 3) := dk_167 255 236 (dk_at dksX8_silver_2 18 rfl rfl)
theorem dX8_silver_68 : decode cX8_silver 68 = .ok (.iload_n 2, 1) := dk_28 (dk_at dksX8_silver_2 21 rfl rfl)
theorem dX8_silver_69 : decode cX8_silver 69 = .ok (.ireturn, 1) := dk_172 (dk_at dksX8_silver_2 22 rfl rfl)
abbrev cX8_rows : ByteArray := prog_18_method_93_code
def yX8_rows : MethodName := ⟨RX8, "rows", "(III)I"⟩
def dkwX8_rows_6 : List UInt8 := [180, 1, 88, 172]
abbrev dktX8_rows_6 : List UInt8 := dkwX8_rows_6 ++ []
def dkwX8_rows_5 : List UInt8 := [180, 0, 71, 21, 6, 3, 79, 132, 6, 1, 167, 255, 230, 42, 27, 28, 29, 3, 182, 1, 91, 42]
abbrev dktX8_rows_5 : List UInt8 := dkwX8_rows_5 ++ dktX8_rows_6
def dkwX8_rows_4 : List UInt8 := [181, 1, 96, 3, 54, 6, 21, 6, 16, 9, 162, 0, 25, 42, 180, 0, 68, 21, 6, 3, 79, 42]
abbrev dktX8_rows_4 : List UInt8 := dkwX8_rows_4 ++ dktX8_rows_5
def dkwX8_rows_3 : List UInt8 := [20, 1, 94, 148, 158, 0, 6, 16, 254, 172, 132, 6, 1, 167, 255, 219, 42, 3, 181, 1, 88, 42, 29]
abbrev dktX8_rows_3 : List UInt8 := dkwX8_rows_3 ++ dktX8_rows_4
def dkwX8_rows_2 : List UInt8 := [21, 6, 29, 162, 0, 37, 22, 4, 42, 182, 0, 182, 133, 42, 182, 0, 185, 133, 105, 105, 55, 4, 22, 4]
abbrev dktX8_rows_2 : List UInt8 := dkwX8_rows_2 ++ dktX8_rows_3
def dkwX8_rows_1 : List UInt8 := [184, 0, 154, 153, 0, 13, 29, 4, 16, 9, 184, 0, 154, 154, 0, 5, 2, 172, 10, 55, 4, 3, 54, 6]
abbrev dktX8_rows_1 : List UInt8 := dkwX8_rows_1 ++ dktX8_rows_2
def dkwX8_rows_0 : List UInt8 := [42, 3, 181, 0, 83, 42, 182, 0, 167, 42, 27, 182, 1, 26, 153, 0, 24, 28, 4, 17, 39, 15]
abbrev dktX8_rows_0 : List UInt8 := dkwX8_rows_0 ++ dktX8_rows_1
theorem dksX8_rows_0 : cX8_rows.data.toList.drop 0 = dktX8_rows_0 := by decide +kernel
theorem dksX8_rows_1 : cX8_rows.data.toList.drop 22 = dktX8_rows_1 := dk_seg dksX8_rows_0 22 rfl rfl
theorem dksX8_rows_2 : cX8_rows.data.toList.drop 46 = dktX8_rows_2 := dk_seg dksX8_rows_1 24 rfl rfl
theorem dksX8_rows_3 : cX8_rows.data.toList.drop 70 = dktX8_rows_3 := dk_seg dksX8_rows_2 24 rfl rfl
theorem dksX8_rows_4 : cX8_rows.data.toList.drop 93 = dktX8_rows_4 := dk_seg dksX8_rows_3 23 rfl rfl
theorem dksX8_rows_5 : cX8_rows.data.toList.drop 115 = dktX8_rows_5 := dk_seg dksX8_rows_4 22 rfl rfl
theorem dksX8_rows_6 : cX8_rows.data.toList.drop 137 = dktX8_rows_6 := dk_seg dksX8_rows_5 22 rfl rfl
theorem dX8_rows_0 : decode cX8_rows 0 = .ok (.aload_n 0, 1) := dk_42 (dk_at dksX8_rows_0 0 rfl rfl)
theorem dX8_rows_1 : decode cX8_rows 1 = .ok (.iconst 0, 1) := dk_3 (dk_at dksX8_rows_0 1 rfl rfl)
theorem dX8_rows_2 : decode cX8_rows 2 = .ok (.putfield 83, 3) := dk_181 0 83 (dk_at dksX8_rows_0 2 rfl rfl)
theorem dX8_rows_5 : decode cX8_rows 5 = .ok (.aload_n 0, 1) := dk_42 (dk_at dksX8_rows_0 5 rfl rfl)
theorem dX8_rows_6 : decode cX8_rows 6 = .ok (.invokevirtual 167, 3) := dk_182 0 167 (dk_at dksX8_rows_0 6 rfl rfl)
theorem dX8_rows_9 : decode cX8_rows 9 = .ok (.aload_n 0, 1) := dk_42 (dk_at dksX8_rows_0 9 rfl rfl)
theorem dX8_rows_10 : decode cX8_rows 10 = .ok (.iload_n 1, 1) := dk_27 (dk_at dksX8_rows_0 10 rfl rfl)
theorem dX8_rows_11 : decode cX8_rows 11 = .ok (.invokevirtual 282, 3) := dk_182 1 26 (dk_at dksX8_rows_0 11 rfl rfl)
theorem dX8_rows_14 : decode cX8_rows 14 = .ok (.ifCond .eq 24, 3) := dk_153 0 24 (dk_at dksX8_rows_0 14 rfl rfl)
theorem dX8_rows_17 : decode cX8_rows 17 = .ok (.iload_n 2, 1) := dk_28 (dk_at dksX8_rows_0 17 rfl rfl)
theorem dX8_rows_18 : decode cX8_rows 18 = .ok (.iconst 1, 1) := dk_4 (dk_at dksX8_rows_0 18 rfl rfl)
theorem dX8_rows_19 : decode cX8_rows 19 = .ok (.sipush 9999, 3) := dk_17 39 15 (dk_at dksX8_rows_0 19 rfl rfl)
theorem dX8_rows_22 : decode cX8_rows 22 = .ok (.invokestatic 154, 3) := dk_184 0 154 (dk_at dksX8_rows_1 0 rfl rfl)
theorem dX8_rows_25 : decode cX8_rows 25 = .ok (.ifCond .eq 13, 3) := dk_153 0 13 (dk_at dksX8_rows_1 3 rfl rfl)
theorem dX8_rows_28 : decode cX8_rows 28 = .ok (.iload_n 3, 1) := dk_29 (dk_at dksX8_rows_1 6 rfl rfl)
theorem dX8_rows_29 : decode cX8_rows 29 = .ok (.iconst 1, 1) := dk_4 (dk_at dksX8_rows_1 7 rfl rfl)
theorem dX8_rows_30 : decode cX8_rows 30 = .ok (.bipush 9, 2) := dk_16 9 (dk_at dksX8_rows_1 8 rfl rfl)
theorem dX8_rows_32 : decode cX8_rows 32 = .ok (.invokestatic 154, 3) := dk_184 0 154 (dk_at dksX8_rows_1 10 rfl rfl)
theorem dX8_rows_35 : decode cX8_rows 35 = .ok (.ifCond .ne 5, 3) := dk_154 0 5 (dk_at dksX8_rows_1 13 rfl rfl)
theorem dX8_rows_38 : decode cX8_rows 38 = .ok (.iconst (-1), 1) := dk_2 (dk_at dksX8_rows_1 16 rfl rfl)
theorem dX8_rows_39 : decode cX8_rows 39 = .ok (.ireturn, 1) := dk_172 (dk_at dksX8_rows_1 17 rfl rfl)
theorem dX8_rows_40 : decode cX8_rows 40 = .ok (.lconst 1, 1) := dk_10 (dk_at dksX8_rows_1 18 rfl rfl)
theorem dX8_rows_41 : decode cX8_rows 41 = .ok (.lstore 4, 2) := dk_55 4 (dk_at dksX8_rows_1 19 rfl rfl)
theorem dX8_rows_43 : decode cX8_rows 43 = .ok (.iconst 0, 1) := dk_3 (dk_at dksX8_rows_1 21 rfl rfl)
theorem dX8_rows_44 : decode cX8_rows 44 = .ok (.istore 6, 2) := dk_54 6 (dk_at dksX8_rows_1 22 rfl rfl)
theorem dX8_rows_46 : decode cX8_rows 46 = .ok (.iload 6, 2) := dk_21 6 (dk_at dksX8_rows_2 0 rfl rfl)
theorem dX8_rows_48 : decode cX8_rows 48 = .ok (.iload_n 3, 1) := dk_29 (dk_at dksX8_rows_2 2 rfl rfl)
theorem dX8_rows_49 : decode cX8_rows 49 = .ok (.if_icmp .ge 37, 3) := dk_162 0 37 (dk_at dksX8_rows_2 3 rfl rfl)
theorem dX8_rows_52 : decode cX8_rows 52 = .ok (.lload 4, 2) := dk_22 4 (dk_at dksX8_rows_2 6 rfl rfl)
theorem dX8_rows_54 : decode cX8_rows 54 = .ok (.aload_n 0, 1) := dk_42 (dk_at dksX8_rows_2 8 rfl rfl)
theorem dX8_rows_55 : decode cX8_rows 55 = .ok (.invokevirtual 182, 3) := dk_182 0 182 (dk_at dksX8_rows_2 9 rfl rfl)
theorem dX8_rows_58 : decode cX8_rows 58 = .ok (.i2l, 1) := dk_133 (dk_at dksX8_rows_2 12 rfl rfl)
theorem dX8_rows_59 : decode cX8_rows 59 = .ok (.aload_n 0, 1) := dk_42 (dk_at dksX8_rows_2 13 rfl rfl)
theorem dX8_rows_60 : decode cX8_rows 60 = .ok (.invokevirtual 185, 3) := dk_182 0 185 (dk_at dksX8_rows_2 14 rfl rfl)
theorem dX8_rows_63 : decode cX8_rows 63 = .ok (.i2l, 1) := dk_133 (dk_at dksX8_rows_2 17 rfl rfl)
theorem dX8_rows_64 : decode cX8_rows 64 = .ok (.lmul, 1) := dk_105 (dk_at dksX8_rows_2 18 rfl rfl)
theorem dX8_rows_65 : decode cX8_rows 65 = .ok (.lmul, 1) := dk_105 (dk_at dksX8_rows_2 19 rfl rfl)
theorem dX8_rows_66 : decode cX8_rows 66 = .ok (.lstore 4, 2) := dk_55 4 (dk_at dksX8_rows_2 20 rfl rfl)
theorem dX8_rows_68 : decode cX8_rows 68 = .ok (.lload 4, 2) := dk_22 4 (dk_at dksX8_rows_2 22 rfl rfl)
theorem dX8_rows_70 : decode cX8_rows 70 = .ok (.ldc2_w 350, 3) := dk_20 1 94 (dk_at dksX8_rows_3 0 rfl rfl)
theorem dX8_rows_73 : decode cX8_rows 73 = .ok (.lcmp, 1) := dk_148 (dk_at dksX8_rows_3 3 rfl rfl)
theorem dX8_rows_74 : decode cX8_rows 74 = .ok (.ifCond .le 6, 3) := dk_158 0 6 (dk_at dksX8_rows_3 4 rfl rfl)
theorem dX8_rows_77 : decode cX8_rows 77 = .ok (.bipush (-2), 2) := dk_16 254 (dk_at dksX8_rows_3 7 rfl rfl)
theorem dX8_rows_79 : decode cX8_rows 79 = .ok (.ireturn, 1) := dk_172 (dk_at dksX8_rows_3 9 rfl rfl)
theorem dX8_rows_80 : decode cX8_rows 80 = .ok (.iinc 6 1, 3) := dk_132 6 1 (dk_at dksX8_rows_3 10 rfl rfl)
theorem dX8_rows_83 : decode cX8_rows 83 = .ok (.goto (-37), 3) := dk_167 255 219 (dk_at dksX8_rows_3 13 rfl rfl)
theorem dX8_rows_86 : decode cX8_rows 86 = .ok (.aload_n 0, 1) := dk_42 (dk_at dksX8_rows_3 16 rfl rfl)
theorem dX8_rows_87 : decode cX8_rows 87 = .ok (.iconst 0, 1) := dk_3 (dk_at dksX8_rows_3 17 rfl rfl)
theorem dX8_rows_88 : decode cX8_rows 88 = .ok (.putfield 344, 3) := dk_181 1 88 (dk_at dksX8_rows_3 18 rfl rfl)
theorem dX8_rows_91 : decode cX8_rows 91 = .ok (.aload_n 0, 1) := dk_42 (dk_at dksX8_rows_3 21 rfl rfl)
theorem dX8_rows_92 : decode cX8_rows 92 = .ok (.iload_n 3, 1) := dk_29 (dk_at dksX8_rows_3 22 rfl rfl)
theorem dX8_rows_93 : decode cX8_rows 93 = .ok (.putfield 352, 3) := dk_181 1 96 (dk_at dksX8_rows_4 0 rfl rfl)
theorem dX8_rows_96 : decode cX8_rows 96 = .ok (.iconst 0, 1) := dk_3 (dk_at dksX8_rows_4 3 rfl rfl)
theorem dX8_rows_97 : decode cX8_rows 97 = .ok (.istore 6, 2) := dk_54 6 (dk_at dksX8_rows_4 4 rfl rfl)
theorem dX8_rows_99 : decode cX8_rows 99 = .ok (.iload 6, 2) := dk_21 6 (dk_at dksX8_rows_4 6 rfl rfl)
theorem dX8_rows_101 : decode cX8_rows 101 = .ok (.bipush 9, 2) := dk_16 9 (dk_at dksX8_rows_4 8 rfl rfl)
theorem dX8_rows_103 : decode cX8_rows 103 = .ok (.if_icmp .ge 25, 3) := dk_162 0 25 (dk_at dksX8_rows_4 10 rfl rfl)
theorem dX8_rows_106 : decode cX8_rows 106 = .ok (.aload_n 0, 1) := dk_42 (dk_at dksX8_rows_4 13 rfl rfl)
theorem dX8_rows_107 : decode cX8_rows 107 = .ok (.getfield 68, 3) := dk_180 0 68 (dk_at dksX8_rows_4 14 rfl rfl)
theorem dX8_rows_110 : decode cX8_rows 110 = .ok (.iload 6, 2) := dk_21 6 (dk_at dksX8_rows_4 17 rfl rfl)
theorem dX8_rows_112 : decode cX8_rows 112 = .ok (.iconst 0, 1) := dk_3 (dk_at dksX8_rows_4 19 rfl rfl)
theorem dX8_rows_113 : decode cX8_rows 113 = .ok (.iastore, 1) := dk_79 (dk_at dksX8_rows_4 20 rfl rfl)
theorem dX8_rows_114 : decode cX8_rows 114 = .ok (.aload_n 0, 1) := dk_42 (dk_at dksX8_rows_4 21 rfl rfl)
theorem dX8_rows_115 : decode cX8_rows 115 = .ok (.getfield 71, 3) := dk_180 0 71 (dk_at dksX8_rows_5 0 rfl rfl)
theorem dX8_rows_118 : decode cX8_rows 118 = .ok (.iload 6, 2) := dk_21 6 (dk_at dksX8_rows_5 3 rfl rfl)
theorem dX8_rows_120 : decode cX8_rows 120 = .ok (.iconst 0, 1) := dk_3 (dk_at dksX8_rows_5 5 rfl rfl)
theorem dX8_rows_121 : decode cX8_rows 121 = .ok (.iastore, 1) := dk_79 (dk_at dksX8_rows_5 6 rfl rfl)
theorem dX8_rows_122 : decode cX8_rows 122 = .ok (.iinc 6 1, 3) := dk_132 6 1 (dk_at dksX8_rows_5 7 rfl rfl)
theorem dX8_rows_125 : decode cX8_rows 125 = .ok (.goto (-26), 3) := dk_167 255 230 (dk_at dksX8_rows_5 10 rfl rfl)
theorem dX8_rows_128 : decode cX8_rows 128 = .ok (.aload_n 0, 1) := dk_42 (dk_at dksX8_rows_5 13 rfl rfl)
theorem dX8_rows_129 : decode cX8_rows 129 = .ok (.iload_n 1, 1) := dk_27 (dk_at dksX8_rows_5 14 rfl rfl)
theorem dX8_rows_130 : decode cX8_rows 130 = .ok (.iload_n 2, 1) := dk_28 (dk_at dksX8_rows_5 15 rfl rfl)
theorem dX8_rows_131 : decode cX8_rows 131 = .ok (.iload_n 3, 1) := dk_29 (dk_at dksX8_rows_5 16 rfl rfl)
theorem dX8_rows_132 : decode cX8_rows 132 = .ok (.iconst 0, 1) := dk_3 (dk_at dksX8_rows_5 17 rfl rfl)
theorem dX8_rows_133 : decode cX8_rows 133 = .ok (.invokevirtual 347, 3) := dk_182 1 91 (dk_at dksX8_rows_5 18 rfl rfl)
theorem dX8_rows_136 : decode cX8_rows 136 = .ok (.aload_n 0, 1) := dk_42 (dk_at dksX8_rows_5 21 rfl rfl)
theorem dX8_rows_137 : decode cX8_rows 137 = .ok (.getfield 344, 3) := dk_180 1 88 (dk_at dksX8_rows_6 0 rfl rfl)
theorem dX8_rows_140 : decode cX8_rows 140 = .ok (.ireturn, 1) := dk_172 (dk_at dksX8_rows_6 3 rfl rfl)
abbrev cX8_tryRows : ByteArray := prog_18_method_92_code
def yX8_tryRows : MethodName := ⟨RX8, "tryRows", "(IIII)V"⟩
def dkwX8_tryRows_8 : List UInt8 := [132, 5, 1, 167, 255, 171, 177]
abbrev dktX8_tryRows_8 : List UInt8 := dkwX8_tryRows_8 ++ []
def dkwX8_tryRows_7 : List UInt8 := [21, 4, 21, 7, 79, 42, 27, 21, 6, 29, 21, 4, 4, 96, 182, 1, 91, 132, 7, 1, 167, 255, 223]
abbrev dktX8_tryRows_7 : List UInt8 := dkwX8_tryRows_7 ++ dktX8_tryRows_8
def dkwX8_tryRows_6 : List UInt8 := [180, 0, 65, 21, 4, 21, 5, 79, 3, 54, 7, 21, 7, 42, 182, 0, 182, 162, 0, 30, 42, 180, 0, 62]
abbrev dktX8_tryRows_6 : List UInt8 := dkwX8_tryRows_6 ++ dktX8_tryRows_7
def dkwX8_tryRows_5 : List UInt8 := [21, 5, 3, 182, 1, 6, 100, 54, 6, 21, 6, 42, 180, 0, 13, 8, 46, 162, 0, 6, 167, 0, 51, 42]
abbrev dktX8_tryRows_5 : List UInt8 := dkwX8_tryRows_5 ++ dktX8_tryRows_6
def dkwX8_tryRows_4 : List UInt8 := [180, 0, 13, 16, 6, 46, 161, 0, 4, 177, 3, 54, 5, 21, 5, 42, 182, 0, 185, 162, 0, 82, 28, 42]
abbrev dktX8_tryRows_4 : List UInt8 := dkwX8_tryRows_4 ++ dktX8_tryRows_5
def dkwX8_tryRows_3 : List UInt8 := [92, 46, 4, 42, 180, 0, 65, 21, 5, 46, 120, 128, 79, 132, 5, 1, 167, 255, 209, 177, 21, 4, 42]
abbrev dktX8_tryRows_3 : List UInt8 := dkwX8_tryRows_3 ++ dktX8_tryRows_4
def dkwX8_tryRows_2 : List UInt8 := [180, 0, 68, 21, 5, 92, 46, 4, 42, 180, 0, 62, 21, 5, 46, 120, 128, 79, 42, 180, 0, 71, 21, 5]
abbrev dktX8_tryRows_2 : List UInt8 := dkwX8_tryRows_2 ++ dktX8_tryRows_3
def dkwX8_tryRows_1 : List UInt8 := [154, 0, 4, 177, 42, 89, 180, 1, 88, 4, 96, 181, 1, 88, 3, 54, 5, 21, 5, 29, 162, 0, 47, 42]
abbrev dktX8_tryRows_1 : List UInt8 := dkwX8_tryRows_1 ++ dktX8_tryRows_2
def dkwX8_tryRows_0 : List UInt8 := [21, 4, 29, 160, 0, 87, 28, 42, 27, 3, 182, 1, 0, 160, 0, 12, 42, 27, 29, 182, 1, 85]
abbrev dktX8_tryRows_0 : List UInt8 := dkwX8_tryRows_0 ++ dktX8_tryRows_1
theorem dksX8_tryRows_0 : cX8_tryRows.data.toList.drop 0 = dktX8_tryRows_0 := by decide +kernel
theorem dksX8_tryRows_1 : cX8_tryRows.data.toList.drop 22 = dktX8_tryRows_1 := dk_seg dksX8_tryRows_0 22 rfl rfl
theorem dksX8_tryRows_2 : cX8_tryRows.data.toList.drop 46 = dktX8_tryRows_2 := dk_seg dksX8_tryRows_1 24 rfl rfl
theorem dksX8_tryRows_3 : cX8_tryRows.data.toList.drop 70 = dktX8_tryRows_3 := dk_seg dksX8_tryRows_2 24 rfl rfl
theorem dksX8_tryRows_4 : cX8_tryRows.data.toList.drop 93 = dktX8_tryRows_4 := dk_seg dksX8_tryRows_3 23 rfl rfl
theorem dksX8_tryRows_5 : cX8_tryRows.data.toList.drop 117 = dktX8_tryRows_5 := dk_seg dksX8_tryRows_4 24 rfl rfl
theorem dksX8_tryRows_6 : cX8_tryRows.data.toList.drop 141 = dktX8_tryRows_6 := dk_seg dksX8_tryRows_5 24 rfl rfl
theorem dksX8_tryRows_7 : cX8_tryRows.data.toList.drop 165 = dktX8_tryRows_7 := dk_seg dksX8_tryRows_6 24 rfl rfl
theorem dksX8_tryRows_8 : cX8_tryRows.data.toList.drop 188 = dktX8_tryRows_8 := dk_seg dksX8_tryRows_7 23 rfl rfl
theorem dX8_tryRows_0 : decode cX8_tryRows 0 = .ok (.iload 4, 2) := dk_21 4 (dk_at dksX8_tryRows_0 0 rfl rfl)
theorem dX8_tryRows_2 : decode cX8_tryRows 2 = .ok (.iload_n 3, 1) := dk_29 (dk_at dksX8_tryRows_0 2 rfl rfl)
theorem dX8_tryRows_3 : decode cX8_tryRows 3 = .ok (.if_icmp .ne 87, 3) := dk_160 0 87 (dk_at dksX8_tryRows_0 3 rfl rfl)
theorem dX8_tryRows_6 : decode cX8_tryRows 6 = .ok (.iload_n 2, 1) := dk_28 (dk_at dksX8_tryRows_0 6 rfl rfl)
theorem dX8_tryRows_7 : decode cX8_tryRows 7 = .ok (.aload_n 0, 1) := dk_42 (dk_at dksX8_tryRows_0 7 rfl rfl)
theorem dX8_tryRows_8 : decode cX8_tryRows 8 = .ok (.iload_n 1, 1) := dk_27 (dk_at dksX8_tryRows_0 8 rfl rfl)
theorem dX8_tryRows_9 : decode cX8_tryRows 9 = .ok (.iconst 0, 1) := dk_3 (dk_at dksX8_tryRows_0 9 rfl rfl)
theorem dX8_tryRows_10 : decode cX8_tryRows 10 = .ok (.invokevirtual 256, 3) := dk_182 1 0 (dk_at dksX8_tryRows_0 10 rfl rfl)
theorem dX8_tryRows_13 : decode cX8_tryRows 13 = .ok (.if_icmp .ne 12, 3) := dk_160 0 12 (dk_at dksX8_tryRows_0 13 rfl rfl)
theorem dX8_tryRows_16 : decode cX8_tryRows 16 = .ok (.aload_n 0, 1) := dk_42 (dk_at dksX8_tryRows_0 16 rfl rfl)
theorem dX8_tryRows_17 : decode cX8_tryRows 17 = .ok (.iload_n 1, 1) := dk_27 (dk_at dksX8_tryRows_0 17 rfl rfl)
theorem dX8_tryRows_18 : decode cX8_tryRows 18 = .ok (.iload_n 3, 1) := dk_29 (dk_at dksX8_tryRows_0 18 rfl rfl)
theorem dX8_tryRows_19 : decode cX8_tryRows 19 = .ok (.invokevirtual 341, 3) := dk_182 1 85 (dk_at dksX8_tryRows_0 19 rfl rfl)
theorem dX8_tryRows_22 : decode cX8_tryRows 22 = .ok (.ifCond .ne 4, 3) := dk_154 0 4 (dk_at dksX8_tryRows_1 0 rfl rfl)
theorem dX8_tryRows_25 : decode cX8_tryRows 25 = .ok (.return_, 1) := dk_177 (dk_at dksX8_tryRows_1 3 rfl rfl)
theorem dX8_tryRows_26 : decode cX8_tryRows 26 = .ok (.aload_n 0, 1) := dk_42 (dk_at dksX8_tryRows_1 4 rfl rfl)
theorem dX8_tryRows_27 : decode cX8_tryRows 27 = .ok (.dup, 1) := dk_89 (dk_at dksX8_tryRows_1 5 rfl rfl)
theorem dX8_tryRows_28 : decode cX8_tryRows 28 = .ok (.getfield 344, 3) := dk_180 1 88 (dk_at dksX8_tryRows_1 6 rfl rfl)
theorem dX8_tryRows_31 : decode cX8_tryRows 31 = .ok (.iconst 1, 1) := dk_4 (dk_at dksX8_tryRows_1 9 rfl rfl)
theorem dX8_tryRows_32 : decode cX8_tryRows 32 = .ok (.iadd, 1) := dk_96 (dk_at dksX8_tryRows_1 10 rfl rfl)
theorem dX8_tryRows_33 : decode cX8_tryRows 33 = .ok (.putfield 344, 3) := dk_181 1 88 (dk_at dksX8_tryRows_1 11 rfl rfl)
theorem dX8_tryRows_36 : decode cX8_tryRows 36 = .ok (.iconst 0, 1) := dk_3 (dk_at dksX8_tryRows_1 14 rfl rfl)
theorem dX8_tryRows_37 : decode cX8_tryRows 37 = .ok (.istore 5, 2) := dk_54 5 (dk_at dksX8_tryRows_1 15 rfl rfl)
theorem dX8_tryRows_39 : decode cX8_tryRows 39 = .ok (.iload 5, 2) := dk_21 5 (dk_at dksX8_tryRows_1 17 rfl rfl)
theorem dX8_tryRows_41 : decode cX8_tryRows 41 = .ok (.iload_n 3, 1) := dk_29 (dk_at dksX8_tryRows_1 19 rfl rfl)
theorem dX8_tryRows_42 : decode cX8_tryRows 42 = .ok (.if_icmp .ge 47, 3) := dk_162 0 47 (dk_at dksX8_tryRows_1 20 rfl rfl)
theorem dX8_tryRows_45 : decode cX8_tryRows 45 = .ok (.aload_n 0, 1) := dk_42 (dk_at dksX8_tryRows_1 23 rfl rfl)
theorem dX8_tryRows_46 : decode cX8_tryRows 46 = .ok (.getfield 68, 3) := dk_180 0 68 (dk_at dksX8_tryRows_2 0 rfl rfl)
theorem dX8_tryRows_49 : decode cX8_tryRows 49 = .ok (.iload 5, 2) := dk_21 5 (dk_at dksX8_tryRows_2 3 rfl rfl)
theorem dX8_tryRows_51 : decode cX8_tryRows 51 = .ok (.dup2, 1) := dk_92 (dk_at dksX8_tryRows_2 5 rfl rfl)
theorem dX8_tryRows_52 : decode cX8_tryRows 52 = .ok (.iaload, 1) := dk_46 (dk_at dksX8_tryRows_2 6 rfl rfl)
theorem dX8_tryRows_53 : decode cX8_tryRows 53 = .ok (.iconst 1, 1) := dk_4 (dk_at dksX8_tryRows_2 7 rfl rfl)
theorem dX8_tryRows_54 : decode cX8_tryRows 54 = .ok (.aload_n 0, 1) := dk_42 (dk_at dksX8_tryRows_2 8 rfl rfl)
theorem dX8_tryRows_55 : decode cX8_tryRows 55 = .ok (.getfield 62, 3) := dk_180 0 62 (dk_at dksX8_tryRows_2 9 rfl rfl)
theorem dX8_tryRows_58 : decode cX8_tryRows 58 = .ok (.iload 5, 2) := dk_21 5 (dk_at dksX8_tryRows_2 12 rfl rfl)
theorem dX8_tryRows_60 : decode cX8_tryRows 60 = .ok (.iaload, 1) := dk_46 (dk_at dksX8_tryRows_2 14 rfl rfl)
theorem dX8_tryRows_61 : decode cX8_tryRows 61 = .ok (.ishl, 1) := dk_120 (dk_at dksX8_tryRows_2 15 rfl rfl)
theorem dX8_tryRows_62 : decode cX8_tryRows 62 = .ok (.ior, 1) := dk_128 (dk_at dksX8_tryRows_2 16 rfl rfl)
theorem dX8_tryRows_63 : decode cX8_tryRows 63 = .ok (.iastore, 1) := dk_79 (dk_at dksX8_tryRows_2 17 rfl rfl)
theorem dX8_tryRows_64 : decode cX8_tryRows 64 = .ok (.aload_n 0, 1) := dk_42 (dk_at dksX8_tryRows_2 18 rfl rfl)
theorem dX8_tryRows_65 : decode cX8_tryRows 65 = .ok (.getfield 71, 3) := dk_180 0 71 (dk_at dksX8_tryRows_2 19 rfl rfl)
theorem dX8_tryRows_68 : decode cX8_tryRows 68 = .ok (.iload 5, 2) := dk_21 5 (dk_at dksX8_tryRows_2 22 rfl rfl)
theorem dX8_tryRows_70 : decode cX8_tryRows 70 = .ok (.dup2, 1) := dk_92 (dk_at dksX8_tryRows_3 0 rfl rfl)
theorem dX8_tryRows_71 : decode cX8_tryRows 71 = .ok (.iaload, 1) := dk_46 (dk_at dksX8_tryRows_3 1 rfl rfl)
theorem dX8_tryRows_72 : decode cX8_tryRows 72 = .ok (.iconst 1, 1) := dk_4 (dk_at dksX8_tryRows_3 2 rfl rfl)
theorem dX8_tryRows_73 : decode cX8_tryRows 73 = .ok (.aload_n 0, 1) := dk_42 (dk_at dksX8_tryRows_3 3 rfl rfl)
theorem dX8_tryRows_74 : decode cX8_tryRows 74 = .ok (.getfield 65, 3) := dk_180 0 65 (dk_at dksX8_tryRows_3 4 rfl rfl)
theorem dX8_tryRows_77 : decode cX8_tryRows 77 = .ok (.iload 5, 2) := dk_21 5 (dk_at dksX8_tryRows_3 7 rfl rfl)
theorem dX8_tryRows_79 : decode cX8_tryRows 79 = .ok (.iaload, 1) := dk_46 (dk_at dksX8_tryRows_3 9 rfl rfl)
theorem dX8_tryRows_80 : decode cX8_tryRows 80 = .ok (.ishl, 1) := dk_120 (dk_at dksX8_tryRows_3 10 rfl rfl)
theorem dX8_tryRows_81 : decode cX8_tryRows 81 = .ok (.ior, 1) := dk_128 (dk_at dksX8_tryRows_3 11 rfl rfl)
theorem dX8_tryRows_82 : decode cX8_tryRows 82 = .ok (.iastore, 1) := dk_79 (dk_at dksX8_tryRows_3 12 rfl rfl)
theorem dX8_tryRows_83 : decode cX8_tryRows 83 = .ok (.iinc 5 1, 3) := dk_132 5 1 (dk_at dksX8_tryRows_3 13 rfl rfl)
theorem dX8_tryRows_86 : decode cX8_tryRows 86 = .ok (.goto (-47), 3) := dk_167 255 209 (dk_at dksX8_tryRows_3 16 rfl rfl)
theorem dX8_tryRows_89 : decode cX8_tryRows 89 = .ok (.return_, 1) := dk_177 (dk_at dksX8_tryRows_3 19 rfl rfl)
theorem dX8_tryRows_90 : decode cX8_tryRows 90 = .ok (.iload 4, 2) := dk_21 4 (dk_at dksX8_tryRows_3 20 rfl rfl)
theorem dX8_tryRows_92 : decode cX8_tryRows 92 = .ok (.aload_n 0, 1) := dk_42 (dk_at dksX8_tryRows_3 22 rfl rfl)
theorem dX8_tryRows_93 : decode cX8_tryRows 93 = .ok (.getfield 13, 3) := dk_180 0 13 (dk_at dksX8_tryRows_4 0 rfl rfl)
theorem dX8_tryRows_96 : decode cX8_tryRows 96 = .ok (.bipush 6, 2) := dk_16 6 (dk_at dksX8_tryRows_4 3 rfl rfl)
theorem dX8_tryRows_98 : decode cX8_tryRows 98 = .ok (.iaload, 1) := dk_46 (dk_at dksX8_tryRows_4 5 rfl rfl)
theorem dX8_tryRows_99 : decode cX8_tryRows 99 = .ok (.if_icmp .lt 4, 3) := dk_161 0 4 (dk_at dksX8_tryRows_4 6 rfl rfl)
theorem dX8_tryRows_102 : decode cX8_tryRows 102 = .ok (.return_, 1) := dk_177 (dk_at dksX8_tryRows_4 9 rfl rfl)
theorem dX8_tryRows_103 : decode cX8_tryRows 103 = .ok (.iconst 0, 1) := dk_3 (dk_at dksX8_tryRows_4 10 rfl rfl)
theorem dX8_tryRows_104 : decode cX8_tryRows 104 = .ok (.istore 5, 2) := dk_54 5 (dk_at dksX8_tryRows_4 11 rfl rfl)
theorem dX8_tryRows_106 : decode cX8_tryRows 106 = .ok (.iload 5, 2) := dk_21 5 (dk_at dksX8_tryRows_4 13 rfl rfl)
theorem dX8_tryRows_108 : decode cX8_tryRows 108 = .ok (.aload_n 0, 1) := dk_42 (dk_at dksX8_tryRows_4 15 rfl rfl)
theorem dX8_tryRows_109 : decode cX8_tryRows 109 = .ok (.invokevirtual 185, 3) := dk_182 0 185 (dk_at dksX8_tryRows_4 16 rfl rfl)
theorem dX8_tryRows_112 : decode cX8_tryRows 112 = .ok (.if_icmp .ge 82, 3) := dk_162 0 82 (dk_at dksX8_tryRows_4 19 rfl rfl)
theorem dX8_tryRows_115 : decode cX8_tryRows 115 = .ok (.iload_n 2, 1) := dk_28 (dk_at dksX8_tryRows_4 22 rfl rfl)
theorem dX8_tryRows_116 : decode cX8_tryRows 116 = .ok (.aload_n 0, 1) := dk_42 (dk_at dksX8_tryRows_4 23 rfl rfl)
theorem dX8_tryRows_117 : decode cX8_tryRows 117 = .ok (.iload 5, 2) := dk_21 5 (dk_at dksX8_tryRows_5 0 rfl rfl)
theorem dX8_tryRows_119 : decode cX8_tryRows 119 = .ok (.iconst 0, 1) := dk_3 (dk_at dksX8_tryRows_5 2 rfl rfl)
theorem dX8_tryRows_120 : decode cX8_tryRows 120 = .ok (.invokevirtual 262, 3) := dk_182 1 6 (dk_at dksX8_tryRows_5 3 rfl rfl)
theorem dX8_tryRows_123 : decode cX8_tryRows 123 = .ok (.isub, 1) := dk_100 (dk_at dksX8_tryRows_5 6 rfl rfl)
theorem dX8_tryRows_124 : decode cX8_tryRows 124 = .ok (.istore 6, 2) := dk_54 6 (dk_at dksX8_tryRows_5 7 rfl rfl)
theorem dX8_tryRows_126 : decode cX8_tryRows 126 = .ok (.iload 6, 2) := dk_21 6 (dk_at dksX8_tryRows_5 9 rfl rfl)
theorem dX8_tryRows_128 : decode cX8_tryRows 128 = .ok (.aload_n 0, 1) := dk_42 (dk_at dksX8_tryRows_5 11 rfl rfl)
theorem dX8_tryRows_129 : decode cX8_tryRows 129 = .ok (.getfield 13, 3) := dk_180 0 13 (dk_at dksX8_tryRows_5 12 rfl rfl)
theorem dX8_tryRows_132 : decode cX8_tryRows 132 = .ok (.iconst 5, 1) := dk_8 (dk_at dksX8_tryRows_5 15 rfl rfl)
theorem dX8_tryRows_133 : decode cX8_tryRows 133 = .ok (.iaload, 1) := dk_46 (dk_at dksX8_tryRows_5 16 rfl rfl)
theorem dX8_tryRows_134 : decode cX8_tryRows 134 = .ok (.if_icmp .ge 6, 3) := dk_162 0 6 (dk_at dksX8_tryRows_5 17 rfl rfl)
theorem dX8_tryRows_137 : decode cX8_tryRows 137 = .ok (.goto 51, 3) := dk_167 0 51 (dk_at dksX8_tryRows_5 20 rfl rfl)
theorem dX8_tryRows_140 : decode cX8_tryRows 140 = .ok (.aload_n 0, 1) := dk_42 (dk_at dksX8_tryRows_5 23 rfl rfl)
theorem dX8_tryRows_141 : decode cX8_tryRows 141 = .ok (.getfield 65, 3) := dk_180 0 65 (dk_at dksX8_tryRows_6 0 rfl rfl)
theorem dX8_tryRows_144 : decode cX8_tryRows 144 = .ok (.iload 4, 2) := dk_21 4 (dk_at dksX8_tryRows_6 3 rfl rfl)
theorem dX8_tryRows_146 : decode cX8_tryRows 146 = .ok (.iload 5, 2) := dk_21 5 (dk_at dksX8_tryRows_6 5 rfl rfl)
theorem dX8_tryRows_148 : decode cX8_tryRows 148 = .ok (.iastore, 1) := dk_79 (dk_at dksX8_tryRows_6 7 rfl rfl)
theorem dX8_tryRows_149 : decode cX8_tryRows 149 = .ok (.iconst 0, 1) := dk_3 (dk_at dksX8_tryRows_6 8 rfl rfl)
theorem dX8_tryRows_150 : decode cX8_tryRows 150 = .ok (.istore 7, 2) := dk_54 7 (dk_at dksX8_tryRows_6 9 rfl rfl)
theorem dX8_tryRows_152 : decode cX8_tryRows 152 = .ok (.iload 7, 2) := dk_21 7 (dk_at dksX8_tryRows_6 11 rfl rfl)
theorem dX8_tryRows_154 : decode cX8_tryRows 154 = .ok (.aload_n 0, 1) := dk_42 (dk_at dksX8_tryRows_6 13 rfl rfl)
theorem dX8_tryRows_155 : decode cX8_tryRows 155 = .ok (.invokevirtual 182, 3) := dk_182 0 182 (dk_at dksX8_tryRows_6 14 rfl rfl)
theorem dX8_tryRows_158 : decode cX8_tryRows 158 = .ok (.if_icmp .ge 30, 3) := dk_162 0 30 (dk_at dksX8_tryRows_6 17 rfl rfl)
theorem dX8_tryRows_161 : decode cX8_tryRows 161 = .ok (.aload_n 0, 1) := dk_42 (dk_at dksX8_tryRows_6 20 rfl rfl)
theorem dX8_tryRows_162 : decode cX8_tryRows 162 = .ok (.getfield 62, 3) := dk_180 0 62 (dk_at dksX8_tryRows_6 21 rfl rfl)
theorem dX8_tryRows_165 : decode cX8_tryRows 165 = .ok (.iload 4, 2) := dk_21 4 (dk_at dksX8_tryRows_7 0 rfl rfl)
theorem dX8_tryRows_167 : decode cX8_tryRows 167 = .ok (.iload 7, 2) := dk_21 7 (dk_at dksX8_tryRows_7 2 rfl rfl)
theorem dX8_tryRows_169 : decode cX8_tryRows 169 = .ok (.iastore, 1) := dk_79 (dk_at dksX8_tryRows_7 4 rfl rfl)
theorem dX8_tryRows_170 : decode cX8_tryRows 170 = .ok (.aload_n 0, 1) := dk_42 (dk_at dksX8_tryRows_7 5 rfl rfl)
theorem dX8_tryRows_171 : decode cX8_tryRows 171 = .ok (.iload_n 1, 1) := dk_27 (dk_at dksX8_tryRows_7 6 rfl rfl)
theorem dX8_tryRows_172 : decode cX8_tryRows 172 = .ok (.iload 6, 2) := dk_21 6 (dk_at dksX8_tryRows_7 7 rfl rfl)
theorem dX8_tryRows_174 : decode cX8_tryRows 174 = .ok (.iload_n 3, 1) := dk_29 (dk_at dksX8_tryRows_7 9 rfl rfl)
theorem dX8_tryRows_175 : decode cX8_tryRows 175 = .ok (.iload 4, 2) := dk_21 4 (dk_at dksX8_tryRows_7 10 rfl rfl)
theorem dX8_tryRows_177 : decode cX8_tryRows 177 = .ok (.iconst 1, 1) := dk_4 (dk_at dksX8_tryRows_7 12 rfl rfl)
theorem dX8_tryRows_178 : decode cX8_tryRows 178 = .ok (.iadd, 1) := dk_96 (dk_at dksX8_tryRows_7 13 rfl rfl)
theorem dX8_tryRows_179 : decode cX8_tryRows 179 = .ok (.invokevirtual 347, 3) := dk_182 1 91 (dk_at dksX8_tryRows_7 14 rfl rfl)
theorem dX8_tryRows_182 : decode cX8_tryRows 182 = .ok (.iinc 7 1, 3) := dk_132 7 1 (dk_at dksX8_tryRows_7 17 rfl rfl)
theorem dX8_tryRows_185 : decode cX8_tryRows 185 = .ok (.goto (-33), 3) := dk_167 255 223 (dk_at dksX8_tryRows_7 20 rfl rfl)
theorem dX8_tryRows_188 : decode cX8_tryRows 188 = .ok (.iinc 5 1, 3) := dk_132 5 1 (dk_at dksX8_tryRows_8 0 rfl rfl)
theorem dX8_tryRows_191 : decode cX8_tryRows 191 = .ok (.goto (-85), 3) := dk_167 255 171 (dk_at dksX8_tryRows_8 3 rfl rfl)
theorem dX8_tryRows_194 : decode cX8_tryRows 194 = .ok (.return_, 1) := dk_177 (dk_at dksX8_tryRows_8 6 rfl rfl)
abbrev cX8_isLike : ByteArray := prog_18_method_91_code
def yX8_isLike : MethodName := ⟨RX8, "isLike", "(II)Z"⟩
def dkwX8_isLike_6 : List UInt8 := [172, 132, 5, 1, 167, 255, 201, 4, 172]
abbrev dktX8_isLike_6 : List UInt8 := dkwX8_isLike_6 ++ []
def dkwX8_isLike_5 : List UInt8 := [42, 180, 0, 77, 21, 5, 46, 42, 27, 7, 6, 21, 5, 104, 96, 4, 96, 182, 1, 0, 159, 0, 5, 3]
abbrev dktX8_isLike_5 : List UInt8 := dkwX8_isLike_5 ++ dktX8_isLike_6
def dkwX8_isLike_4 : List UInt8 := [162, 0, 55, 42, 180, 0, 74, 21, 5, 46, 42, 27, 7, 6, 21, 5, 104, 96, 182, 1, 0, 160, 0, 26]
abbrev dktX8_isLike_4 : List UInt8 := dkwX8_isLike_4 ++ dktX8_isLike_5
def dkwX8_isLike_3 : List UInt8 := [132, 5, 255, 167, 255, 192, 29, 42, 27, 6, 182, 1, 0, 159, 0, 5, 3, 172, 3, 54, 5, 21, 5, 29]
abbrev dktX8_isLike_3 : List UInt8 := dkwX8_isLike_3 ++ dktX8_isLike_4
def dkwX8_isLike_2 : List UInt8 := [180, 0, 74, 29, 42, 180, 0, 62, 21, 5, 46, 79, 42, 180, 0, 77, 29, 21, 6, 79, 132, 3, 1]
abbrev dktX8_isLike_2 : List UInt8 := dkwX8_isLike_2 ++ dktX8_isLike_3
def dkwX8_isLike_1 : List UInt8 := [42, 42, 180, 0, 65, 21, 5, 46, 4, 182, 1, 6, 96, 54, 4, 21, 6, 157, 0, 6, 167, 0, 27, 42]
abbrev dktX8_isLike_1 : List UInt8 := dkwX8_isLike_1 ++ dktX8_isLike_2
def dkwX8_isLike_0 : List UInt8 := [3, 62, 3, 54, 4, 28, 4, 100, 54, 5, 21, 5, 155, 0, 65, 16, 9, 21, 4, 100, 54, 6, 21, 4]
abbrev dktX8_isLike_0 : List UInt8 := dkwX8_isLike_0 ++ dktX8_isLike_1
theorem dksX8_isLike_0 : cX8_isLike.data.toList.drop 0 = dktX8_isLike_0 := by decide +kernel
theorem dksX8_isLike_1 : cX8_isLike.data.toList.drop 24 = dktX8_isLike_1 := dk_seg dksX8_isLike_0 24 rfl rfl
theorem dksX8_isLike_2 : cX8_isLike.data.toList.drop 48 = dktX8_isLike_2 := dk_seg dksX8_isLike_1 24 rfl rfl
theorem dksX8_isLike_3 : cX8_isLike.data.toList.drop 71 = dktX8_isLike_3 := dk_seg dksX8_isLike_2 23 rfl rfl
theorem dksX8_isLike_4 : cX8_isLike.data.toList.drop 95 = dktX8_isLike_4 := dk_seg dksX8_isLike_3 24 rfl rfl
theorem dksX8_isLike_5 : cX8_isLike.data.toList.drop 119 = dktX8_isLike_5 := dk_seg dksX8_isLike_4 24 rfl rfl
theorem dksX8_isLike_6 : cX8_isLike.data.toList.drop 143 = dktX8_isLike_6 := dk_seg dksX8_isLike_5 24 rfl rfl
theorem dX8_isLike_0 : decode cX8_isLike 0 = .ok (.iconst 0, 1) := dk_3 (dk_at dksX8_isLike_0 0 rfl rfl)
theorem dX8_isLike_1 : decode cX8_isLike 1 = .ok (.istore_n 3, 1) := dk_62 (dk_at dksX8_isLike_0 1 rfl rfl)
theorem dX8_isLike_2 : decode cX8_isLike 2 = .ok (.iconst 0, 1) := dk_3 (dk_at dksX8_isLike_0 2 rfl rfl)
theorem dX8_isLike_3 : decode cX8_isLike 3 = .ok (.istore 4, 2) := dk_54 4 (dk_at dksX8_isLike_0 3 rfl rfl)
theorem dX8_isLike_5 : decode cX8_isLike 5 = .ok (.iload_n 2, 1) := dk_28 (dk_at dksX8_isLike_0 5 rfl rfl)
theorem dX8_isLike_6 : decode cX8_isLike 6 = .ok (.iconst 1, 1) := dk_4 (dk_at dksX8_isLike_0 6 rfl rfl)
theorem dX8_isLike_7 : decode cX8_isLike 7 = .ok (.isub, 1) := dk_100 (dk_at dksX8_isLike_0 7 rfl rfl)
theorem dX8_isLike_8 : decode cX8_isLike 8 = .ok (.istore 5, 2) := dk_54 5 (dk_at dksX8_isLike_0 8 rfl rfl)
theorem dX8_isLike_10 : decode cX8_isLike 10 = .ok (.iload 5, 2) := dk_21 5 (dk_at dksX8_isLike_0 10 rfl rfl)
theorem dX8_isLike_12 : decode cX8_isLike 12 = .ok (.ifCond .lt 65, 3) := dk_155 0 65 (dk_at dksX8_isLike_0 12 rfl rfl)
theorem dX8_isLike_15 : decode cX8_isLike 15 = .ok (.bipush 9, 2) := dk_16 9 (dk_at dksX8_isLike_0 15 rfl rfl)
theorem dX8_isLike_17 : decode cX8_isLike 17 = .ok (.iload 4, 2) := dk_21 4 (dk_at dksX8_isLike_0 17 rfl rfl)
theorem dX8_isLike_19 : decode cX8_isLike 19 = .ok (.isub, 1) := dk_100 (dk_at dksX8_isLike_0 19 rfl rfl)
theorem dX8_isLike_20 : decode cX8_isLike 20 = .ok (.istore 6, 2) := dk_54 6 (dk_at dksX8_isLike_0 20 rfl rfl)
theorem dX8_isLike_22 : decode cX8_isLike 22 = .ok (.iload 4, 2) := dk_21 4 (dk_at dksX8_isLike_0 22 rfl rfl)
theorem dX8_isLike_24 : decode cX8_isLike 24 = .ok (.aload_n 0, 1) := dk_42 (dk_at dksX8_isLike_1 0 rfl rfl)
theorem dX8_isLike_25 : decode cX8_isLike 25 = .ok (.aload_n 0, 1) := dk_42 (dk_at dksX8_isLike_1 1 rfl rfl)
theorem dX8_isLike_26 : decode cX8_isLike 26 = .ok (.getfield 65, 3) := dk_180 0 65 (dk_at dksX8_isLike_1 2 rfl rfl)
theorem dX8_isLike_29 : decode cX8_isLike 29 = .ok (.iload 5, 2) := dk_21 5 (dk_at dksX8_isLike_1 5 rfl rfl)
theorem dX8_isLike_31 : decode cX8_isLike 31 = .ok (.iaload, 1) := dk_46 (dk_at dksX8_isLike_1 7 rfl rfl)
theorem dX8_isLike_32 : decode cX8_isLike 32 = .ok (.iconst 1, 1) := dk_4 (dk_at dksX8_isLike_1 8 rfl rfl)
theorem dX8_isLike_33 : decode cX8_isLike 33 = .ok (.invokevirtual 262, 3) := dk_182 1 6 (dk_at dksX8_isLike_1 9 rfl rfl)
theorem dX8_isLike_36 : decode cX8_isLike 36 = .ok (.iadd, 1) := dk_96 (dk_at dksX8_isLike_1 12 rfl rfl)
theorem dX8_isLike_37 : decode cX8_isLike 37 = .ok (.istore 4, 2) := dk_54 4 (dk_at dksX8_isLike_1 13 rfl rfl)
theorem dX8_isLike_39 : decode cX8_isLike 39 = .ok (.iload 6, 2) := dk_21 6 (dk_at dksX8_isLike_1 15 rfl rfl)
theorem dX8_isLike_41 : decode cX8_isLike 41 = .ok (.ifCond .gt 6, 3) := dk_157 0 6 (dk_at dksX8_isLike_1 17 rfl rfl)
theorem dX8_isLike_44 : decode cX8_isLike 44 = .ok (.goto 27, 3) := dk_167 0 27 (dk_at dksX8_isLike_1 20 rfl rfl)
theorem dX8_isLike_47 : decode cX8_isLike 47 = .ok (.aload_n 0, 1) := dk_42 (dk_at dksX8_isLike_1 23 rfl rfl)
theorem dX8_isLike_48 : decode cX8_isLike 48 = .ok (.getfield 74, 3) := dk_180 0 74 (dk_at dksX8_isLike_2 0 rfl rfl)
theorem dX8_isLike_51 : decode cX8_isLike 51 = .ok (.iload_n 3, 1) := dk_29 (dk_at dksX8_isLike_2 3 rfl rfl)
theorem dX8_isLike_52 : decode cX8_isLike 52 = .ok (.aload_n 0, 1) := dk_42 (dk_at dksX8_isLike_2 4 rfl rfl)
theorem dX8_isLike_53 : decode cX8_isLike 53 = .ok (.getfield 62, 3) := dk_180 0 62 (dk_at dksX8_isLike_2 5 rfl rfl)
theorem dX8_isLike_56 : decode cX8_isLike 56 = .ok (.iload 5, 2) := dk_21 5 (dk_at dksX8_isLike_2 8 rfl rfl)
theorem dX8_isLike_58 : decode cX8_isLike 58 = .ok (.iaload, 1) := dk_46 (dk_at dksX8_isLike_2 10 rfl rfl)
theorem dX8_isLike_59 : decode cX8_isLike 59 = .ok (.iastore, 1) := dk_79 (dk_at dksX8_isLike_2 11 rfl rfl)
theorem dX8_isLike_60 : decode cX8_isLike 60 = .ok (.aload_n 0, 1) := dk_42 (dk_at dksX8_isLike_2 12 rfl rfl)
theorem dX8_isLike_61 : decode cX8_isLike 61 = .ok (.getfield 77, 3) := dk_180 0 77 (dk_at dksX8_isLike_2 13 rfl rfl)
theorem dX8_isLike_64 : decode cX8_isLike 64 = .ok (.iload_n 3, 1) := dk_29 (dk_at dksX8_isLike_2 16 rfl rfl)
theorem dX8_isLike_65 : decode cX8_isLike 65 = .ok (.iload 6, 2) := dk_21 6 (dk_at dksX8_isLike_2 17 rfl rfl)
theorem dX8_isLike_67 : decode cX8_isLike 67 = .ok (.iastore, 1) := dk_79 (dk_at dksX8_isLike_2 19 rfl rfl)
theorem dX8_isLike_68 : decode cX8_isLike 68 = .ok (.iinc 3 1, 3) := dk_132 3 1 (dk_at dksX8_isLike_2 20 rfl rfl)
theorem dX8_isLike_71 : decode cX8_isLike 71 = .ok (.iinc 5 (-1), 3) := dk_132 5 255 (dk_at dksX8_isLike_3 0 rfl rfl)
theorem dX8_isLike_74 : decode cX8_isLike 74 = .ok (.goto (-64), 3) := dk_167 255 192 (dk_at dksX8_isLike_3 3 rfl rfl)
theorem dX8_isLike_77 : decode cX8_isLike 77 = .ok (.iload_n 3, 1) := dk_29 (dk_at dksX8_isLike_3 6 rfl rfl)
theorem dX8_isLike_78 : decode cX8_isLike 78 = .ok (.aload_n 0, 1) := dk_42 (dk_at dksX8_isLike_3 7 rfl rfl)
theorem dX8_isLike_79 : decode cX8_isLike 79 = .ok (.iload_n 1, 1) := dk_27 (dk_at dksX8_isLike_3 8 rfl rfl)
theorem dX8_isLike_80 : decode cX8_isLike 80 = .ok (.iconst 3, 1) := dk_6 (dk_at dksX8_isLike_3 9 rfl rfl)
theorem dX8_isLike_81 : decode cX8_isLike 81 = .ok (.invokevirtual 256, 3) := dk_182 1 0 (dk_at dksX8_isLike_3 10 rfl rfl)
theorem dX8_isLike_84 : decode cX8_isLike 84 = .ok (.if_icmp .eq 5, 3) := dk_159 0 5 (dk_at dksX8_isLike_3 13 rfl rfl)
theorem dX8_isLike_87 : decode cX8_isLike 87 = .ok (.iconst 0, 1) := dk_3 (dk_at dksX8_isLike_3 16 rfl rfl)
theorem dX8_isLike_88 : decode cX8_isLike 88 = .ok (.ireturn, 1) := dk_172 (dk_at dksX8_isLike_3 17 rfl rfl)
theorem dX8_isLike_89 : decode cX8_isLike 89 = .ok (.iconst 0, 1) := dk_3 (dk_at dksX8_isLike_3 18 rfl rfl)
theorem dX8_isLike_90 : decode cX8_isLike 90 = .ok (.istore 5, 2) := dk_54 5 (dk_at dksX8_isLike_3 19 rfl rfl)
theorem dX8_isLike_92 : decode cX8_isLike 92 = .ok (.iload 5, 2) := dk_21 5 (dk_at dksX8_isLike_3 21 rfl rfl)
theorem dX8_isLike_94 : decode cX8_isLike 94 = .ok (.iload_n 3, 1) := dk_29 (dk_at dksX8_isLike_3 23 rfl rfl)
theorem dX8_isLike_95 : decode cX8_isLike 95 = .ok (.if_icmp .ge 55, 3) := dk_162 0 55 (dk_at dksX8_isLike_4 0 rfl rfl)
theorem dX8_isLike_98 : decode cX8_isLike 98 = .ok (.aload_n 0, 1) := dk_42 (dk_at dksX8_isLike_4 3 rfl rfl)
theorem dX8_isLike_99 : decode cX8_isLike 99 = .ok (.getfield 74, 3) := dk_180 0 74 (dk_at dksX8_isLike_4 4 rfl rfl)
theorem dX8_isLike_102 : decode cX8_isLike 102 = .ok (.iload 5, 2) := dk_21 5 (dk_at dksX8_isLike_4 7 rfl rfl)
theorem dX8_isLike_104 : decode cX8_isLike 104 = .ok (.iaload, 1) := dk_46 (dk_at dksX8_isLike_4 9 rfl rfl)
theorem dX8_isLike_105 : decode cX8_isLike 105 = .ok (.aload_n 0, 1) := dk_42 (dk_at dksX8_isLike_4 10 rfl rfl)
theorem dX8_isLike_106 : decode cX8_isLike 106 = .ok (.iload_n 1, 1) := dk_27 (dk_at dksX8_isLike_4 11 rfl rfl)
theorem dX8_isLike_107 : decode cX8_isLike 107 = .ok (.iconst 4, 1) := dk_7 (dk_at dksX8_isLike_4 12 rfl rfl)
theorem dX8_isLike_108 : decode cX8_isLike 108 = .ok (.iconst 3, 1) := dk_6 (dk_at dksX8_isLike_4 13 rfl rfl)
theorem dX8_isLike_109 : decode cX8_isLike 109 = .ok (.iload 5, 2) := dk_21 5 (dk_at dksX8_isLike_4 14 rfl rfl)
theorem dX8_isLike_111 : decode cX8_isLike 111 = .ok (.imul, 1) := dk_104 (dk_at dksX8_isLike_4 16 rfl rfl)
theorem dX8_isLike_112 : decode cX8_isLike 112 = .ok (.iadd, 1) := dk_96 (dk_at dksX8_isLike_4 17 rfl rfl)
theorem dX8_isLike_113 : decode cX8_isLike 113 = .ok (.invokevirtual 256, 3) := dk_182 1 0 (dk_at dksX8_isLike_4 18 rfl rfl)
theorem dX8_isLike_116 : decode cX8_isLike 116 = .ok (.if_icmp .ne 26, 3) := dk_160 0 26 (dk_at dksX8_isLike_4 21 rfl rfl)
theorem dX8_isLike_119 : decode cX8_isLike 119 = .ok (.aload_n 0, 1) := dk_42 (dk_at dksX8_isLike_5 0 rfl rfl)
theorem dX8_isLike_120 : decode cX8_isLike 120 = .ok (.getfield 77, 3) := dk_180 0 77 (dk_at dksX8_isLike_5 1 rfl rfl)
theorem dX8_isLike_123 : decode cX8_isLike 123 = .ok (.iload 5, 2) := dk_21 5 (dk_at dksX8_isLike_5 4 rfl rfl)
theorem dX8_isLike_125 : decode cX8_isLike 125 = .ok (.iaload, 1) := dk_46 (dk_at dksX8_isLike_5 6 rfl rfl)
theorem dX8_isLike_126 : decode cX8_isLike 126 = .ok (.aload_n 0, 1) := dk_42 (dk_at dksX8_isLike_5 7 rfl rfl)
theorem dX8_isLike_127 : decode cX8_isLike 127 = .ok (.iload_n 1, 1) := dk_27 (dk_at dksX8_isLike_5 8 rfl rfl)
theorem dX8_isLike_128 : decode cX8_isLike 128 = .ok (.iconst 4, 1) := dk_7 (dk_at dksX8_isLike_5 9 rfl rfl)
theorem dX8_isLike_129 : decode cX8_isLike 129 = .ok (.iconst 3, 1) := dk_6 (dk_at dksX8_isLike_5 10 rfl rfl)
theorem dX8_isLike_130 : decode cX8_isLike 130 = .ok (.iload 5, 2) := dk_21 5 (dk_at dksX8_isLike_5 11 rfl rfl)
theorem dX8_isLike_132 : decode cX8_isLike 132 = .ok (.imul, 1) := dk_104 (dk_at dksX8_isLike_5 13 rfl rfl)
theorem dX8_isLike_133 : decode cX8_isLike 133 = .ok (.iadd, 1) := dk_96 (dk_at dksX8_isLike_5 14 rfl rfl)
theorem dX8_isLike_134 : decode cX8_isLike 134 = .ok (.iconst 1, 1) := dk_4 (dk_at dksX8_isLike_5 15 rfl rfl)
theorem dX8_isLike_135 : decode cX8_isLike 135 = .ok (.iadd, 1) := dk_96 (dk_at dksX8_isLike_5 16 rfl rfl)
theorem dX8_isLike_136 : decode cX8_isLike 136 = .ok (.invokevirtual 256, 3) := dk_182 1 0 (dk_at dksX8_isLike_5 17 rfl rfl)
theorem dX8_isLike_139 : decode cX8_isLike 139 = .ok (.if_icmp .eq 5, 3) := dk_159 0 5 (dk_at dksX8_isLike_5 20 rfl rfl)
theorem dX8_isLike_142 : decode cX8_isLike 142 = .ok (.iconst 0, 1) := dk_3 (dk_at dksX8_isLike_5 23 rfl rfl)
theorem dX8_isLike_143 : decode cX8_isLike 143 = .ok (.ireturn, 1) := dk_172 (dk_at dksX8_isLike_6 0 rfl rfl)
theorem dX8_isLike_144 : decode cX8_isLike 144 = .ok (.iinc 5 1, 3) := dk_132 5 1 (dk_at dksX8_isLike_6 1 rfl rfl)
theorem dX8_isLike_147 : decode cX8_isLike 147 = .ok (.goto (-55), 3) := dk_167 255 201 (dk_at dksX8_isLike_6 4 rfl rfl)
theorem dX8_isLike_150 : decode cX8_isLike 150 = .ok (.iconst 1, 1) := dk_4 (dk_at dksX8_isLike_6 7 rfl rfl)
theorem dX8_isLike_151 : decode cX8_isLike 151 = .ok (.ireturn, 1) := dk_172 (dk_at dksX8_isLike_6 8 rfl rfl)
abbrev cX8_could : ByteArray := prog_18_method_94_code
def yX8_could : MethodName := ⟨RX8, "could", "(II)I"⟩
def dkwX8_could_2 : List UInt8 := [167, 0, 4, 2, 172]
abbrev dktX8_could_2 : List UInt8 := dkwX8_could_2 ++ []
def dkwX8_could_1 : List UInt8 := [153, 0, 25, 28, 154, 0, 12, 42, 180, 0, 68, 27, 46, 167, 0, 13, 42, 180, 0, 71, 27, 46]
abbrev dktX8_could_1 : List UInt8 := dkwX8_could_1 ++ dktX8_could_2
def dkwX8_could_0 : List UInt8 := [42, 3, 181, 0, 83, 27, 155, 0, 42, 27, 42, 180, 1, 96, 162, 0, 34, 28, 3, 4, 184, 0, 154]
abbrev dktX8_could_0 : List UInt8 := dkwX8_could_0 ++ dktX8_could_1
theorem dksX8_could_0 : cX8_could.data.toList.drop 0 = dktX8_could_0 := by decide +kernel
theorem dksX8_could_1 : cX8_could.data.toList.drop 23 = dktX8_could_1 := dk_seg dksX8_could_0 23 rfl rfl
theorem dksX8_could_2 : cX8_could.data.toList.drop 45 = dktX8_could_2 := dk_seg dksX8_could_1 22 rfl rfl
theorem dX8_could_0 : decode cX8_could 0 = .ok (.aload_n 0, 1) := dk_42 (dk_at dksX8_could_0 0 rfl rfl)
theorem dX8_could_1 : decode cX8_could 1 = .ok (.iconst 0, 1) := dk_3 (dk_at dksX8_could_0 1 rfl rfl)
theorem dX8_could_2 : decode cX8_could 2 = .ok (.putfield 83, 3) := dk_181 0 83 (dk_at dksX8_could_0 2 rfl rfl)
theorem dX8_could_5 : decode cX8_could 5 = .ok (.iload_n 1, 1) := dk_27 (dk_at dksX8_could_0 5 rfl rfl)
theorem dX8_could_6 : decode cX8_could 6 = .ok (.ifCond .lt 42, 3) := dk_155 0 42 (dk_at dksX8_could_0 6 rfl rfl)
theorem dX8_could_9 : decode cX8_could 9 = .ok (.iload_n 1, 1) := dk_27 (dk_at dksX8_could_0 9 rfl rfl)
theorem dX8_could_10 : decode cX8_could 10 = .ok (.aload_n 0, 1) := dk_42 (dk_at dksX8_could_0 10 rfl rfl)
theorem dX8_could_11 : decode cX8_could 11 = .ok (.getfield 352, 3) := dk_180 1 96 (dk_at dksX8_could_0 11 rfl rfl)
theorem dX8_could_14 : decode cX8_could 14 = .ok (.if_icmp .ge 34, 3) := dk_162 0 34 (dk_at dksX8_could_0 14 rfl rfl)
theorem dX8_could_17 : decode cX8_could 17 = .ok (.iload_n 2, 1) := dk_28 (dk_at dksX8_could_0 17 rfl rfl)
theorem dX8_could_18 : decode cX8_could 18 = .ok (.iconst 0, 1) := dk_3 (dk_at dksX8_could_0 18 rfl rfl)
theorem dX8_could_19 : decode cX8_could 19 = .ok (.iconst 1, 1) := dk_4 (dk_at dksX8_could_0 19 rfl rfl)
theorem dX8_could_20 : decode cX8_could 20 = .ok (.invokestatic 154, 3) := dk_184 0 154 (dk_at dksX8_could_0 20 rfl rfl)
theorem dX8_could_23 : decode cX8_could 23 = .ok (.ifCond .eq 25, 3) := dk_153 0 25 (dk_at dksX8_could_1 0 rfl rfl)
theorem dX8_could_26 : decode cX8_could 26 = .ok (.iload_n 2, 1) := dk_28 (dk_at dksX8_could_1 3 rfl rfl)
theorem dX8_could_27 : decode cX8_could 27 = .ok (.ifCond .ne 12, 3) := dk_154 0 12 (dk_at dksX8_could_1 4 rfl rfl)
theorem dX8_could_30 : decode cX8_could 30 = .ok (.aload_n 0, 1) := dk_42 (dk_at dksX8_could_1 7 rfl rfl)
theorem dX8_could_31 : decode cX8_could 31 = .ok (.getfield 68, 3) := dk_180 0 68 (dk_at dksX8_could_1 8 rfl rfl)
theorem dX8_could_34 : decode cX8_could 34 = .ok (.iload_n 1, 1) := dk_27 (dk_at dksX8_could_1 11 rfl rfl)
theorem dX8_could_35 : decode cX8_could 35 = .ok (.iaload, 1) := dk_46 (dk_at dksX8_could_1 12 rfl rfl)
theorem dX8_could_36 : decode cX8_could 36 = .ok (.goto 13, 3) := dk_167 0 13 (dk_at dksX8_could_1 13 rfl rfl)
theorem dX8_could_39 : decode cX8_could 39 = .ok (.aload_n 0, 1) := dk_42 (dk_at dksX8_could_1 16 rfl rfl)
theorem dX8_could_40 : decode cX8_could 40 = .ok (.getfield 71, 3) := dk_180 0 71 (dk_at dksX8_could_1 17 rfl rfl)
theorem dX8_could_43 : decode cX8_could 43 = .ok (.iload_n 1, 1) := dk_27 (dk_at dksX8_could_1 20 rfl rfl)
theorem dX8_could_44 : decode cX8_could 44 = .ok (.iaload, 1) := dk_46 (dk_at dksX8_could_1 21 rfl rfl)
theorem dX8_could_45 : decode cX8_could 45 = .ok (.goto 4, 3) := dk_167 0 4 (dk_at dksX8_could_2 0 rfl rfl)
theorem dX8_could_48 : decode cX8_could 48 = .ok (.iconst (-1), 1) := dk_2 (dk_at dksX8_could_2 3 rfl rfl)
theorem dX8_could_49 : decode cX8_could 49 = .ok (.ireturn, 1) := dk_172 (dk_at dksX8_could_2 4 rfl rfl)
abbrev cX8_market : ByteArray := prog_18_method_96_code
def yX8_market : MethodName := ⟨RX8, "market", "(II)I"⟩
def dkwX8_market_7 : List UInt8 := [29, 172]
abbrev dktX8_market_7 : List UInt8 := dkwX8_market_7 ++ []
def dkwX8_market_6 : List UInt8 := [167, 0, 18, 42, 21, 5, 21, 6, 21, 7, 21, 8, 182, 1, 75, 132, 3, 1, 132, 4, 1, 167, 255, 144]
abbrev dktX8_market_6 : List UInt8 := dkwX8_market_6 ++ dktX8_market_7
def dkwX8_market_5 : List UInt8 := [21, 6, 21, 7, 21, 8, 182, 1, 65, 155, 0, 32, 42, 42, 182, 1, 72, 182, 1, 13, 153, 0, 6]
abbrev dktX8_market_5 : List UInt8 := dkwX8_market_5 ++ dktX8_market_6
def dkwX8_market_4 : List UInt8 := [42, 182, 0, 185, 182, 1, 103, 54, 7, 42, 17, 0, 200, 182, 1, 103, 4, 96, 54, 8, 42, 21, 5]
abbrev dktX8_market_4 : List UInt8 := dkwX8_market_4 ++ dktX8_market_5
def dkwX8_market_3 : List UInt8 := [182, 1, 103, 54, 6, 21, 6, 21, 5, 160, 0, 14, 21, 6, 4, 96, 42, 182, 0, 182, 112, 54, 6, 42]
abbrev dktX8_market_3 : List UInt8 := dkwX8_market_3 ++ dktX8_market_4
def dkwX8_market_2 : List UInt8 := [54, 4, 21, 4, 27, 162, 0, 112, 42, 42, 182, 0, 182, 182, 1, 103, 54, 5, 42, 42, 182, 0, 182]
abbrev dktX8_market_2 : List UInt8 := dkwX8_market_2 ++ dktX8_market_3
def dkwX8_market_1 : List UInt8 := [153, 0, 10, 42, 182, 0, 185, 154, 0, 5, 2, 172, 42, 182, 1, 16, 42, 28, 181, 1, 99, 3, 62, 3]
abbrev dktX8_market_1 : List UInt8 := dkwX8_market_1 ++ dktX8_market_2
def dkwX8_market_0 : List UInt8 := [42, 3, 181, 0, 83, 42, 182, 0, 167, 27, 4, 16, 50, 184, 0, 154, 153, 0, 17, 42, 182, 0, 182]
abbrev dktX8_market_0 : List UInt8 := dkwX8_market_0 ++ dktX8_market_1
theorem dksX8_market_0 : cX8_market.data.toList.drop 0 = dktX8_market_0 := by decide +kernel
theorem dksX8_market_1 : cX8_market.data.toList.drop 23 = dktX8_market_1 := dk_seg dksX8_market_0 23 rfl rfl
theorem dksX8_market_2 : cX8_market.data.toList.drop 47 = dktX8_market_2 := dk_seg dksX8_market_1 24 rfl rfl
theorem dksX8_market_3 : cX8_market.data.toList.drop 70 = dktX8_market_3 := dk_seg dksX8_market_2 23 rfl rfl
theorem dksX8_market_4 : cX8_market.data.toList.drop 94 = dktX8_market_4 := dk_seg dksX8_market_3 24 rfl rfl
theorem dksX8_market_5 : cX8_market.data.toList.drop 117 = dktX8_market_5 := dk_seg dksX8_market_4 23 rfl rfl
theorem dksX8_market_6 : cX8_market.data.toList.drop 140 = dktX8_market_6 := dk_seg dksX8_market_5 23 rfl rfl
theorem dksX8_market_7 : cX8_market.data.toList.drop 164 = dktX8_market_7 := dk_seg dksX8_market_6 24 rfl rfl
theorem dX8_market_0 : decode cX8_market 0 = .ok (.aload_n 0, 1) := dk_42 (dk_at dksX8_market_0 0 rfl rfl)
theorem dX8_market_1 : decode cX8_market 1 = .ok (.iconst 0, 1) := dk_3 (dk_at dksX8_market_0 1 rfl rfl)
theorem dX8_market_2 : decode cX8_market 2 = .ok (.putfield 83, 3) := dk_181 0 83 (dk_at dksX8_market_0 2 rfl rfl)
theorem dX8_market_5 : decode cX8_market 5 = .ok (.aload_n 0, 1) := dk_42 (dk_at dksX8_market_0 5 rfl rfl)
theorem dX8_market_6 : decode cX8_market 6 = .ok (.invokevirtual 167, 3) := dk_182 0 167 (dk_at dksX8_market_0 6 rfl rfl)
theorem dX8_market_9 : decode cX8_market 9 = .ok (.iload_n 1, 1) := dk_27 (dk_at dksX8_market_0 9 rfl rfl)
theorem dX8_market_10 : decode cX8_market 10 = .ok (.iconst 1, 1) := dk_4 (dk_at dksX8_market_0 10 rfl rfl)
theorem dX8_market_11 : decode cX8_market 11 = .ok (.bipush 50, 2) := dk_16 50 (dk_at dksX8_market_0 11 rfl rfl)
theorem dX8_market_13 : decode cX8_market 13 = .ok (.invokestatic 154, 3) := dk_184 0 154 (dk_at dksX8_market_0 13 rfl rfl)
theorem dX8_market_16 : decode cX8_market 16 = .ok (.ifCond .eq 17, 3) := dk_153 0 17 (dk_at dksX8_market_0 16 rfl rfl)
theorem dX8_market_19 : decode cX8_market 19 = .ok (.aload_n 0, 1) := dk_42 (dk_at dksX8_market_0 19 rfl rfl)
theorem dX8_market_20 : decode cX8_market 20 = .ok (.invokevirtual 182, 3) := dk_182 0 182 (dk_at dksX8_market_0 20 rfl rfl)
theorem dX8_market_23 : decode cX8_market 23 = .ok (.ifCond .eq 10, 3) := dk_153 0 10 (dk_at dksX8_market_1 0 rfl rfl)
theorem dX8_market_26 : decode cX8_market 26 = .ok (.aload_n 0, 1) := dk_42 (dk_at dksX8_market_1 3 rfl rfl)
theorem dX8_market_27 : decode cX8_market 27 = .ok (.invokevirtual 185, 3) := dk_182 0 185 (dk_at dksX8_market_1 4 rfl rfl)
theorem dX8_market_30 : decode cX8_market 30 = .ok (.ifCond .ne 5, 3) := dk_154 0 5 (dk_at dksX8_market_1 7 rfl rfl)
theorem dX8_market_33 : decode cX8_market 33 = .ok (.iconst (-1), 1) := dk_2 (dk_at dksX8_market_1 10 rfl rfl)
theorem dX8_market_34 : decode cX8_market 34 = .ok (.ireturn, 1) := dk_172 (dk_at dksX8_market_1 11 rfl rfl)
theorem dX8_market_35 : decode cX8_market 35 = .ok (.aload_n 0, 1) := dk_42 (dk_at dksX8_market_1 12 rfl rfl)
theorem dX8_market_36 : decode cX8_market 36 = .ok (.invokevirtual 272, 3) := dk_182 1 16 (dk_at dksX8_market_1 13 rfl rfl)
theorem dX8_market_39 : decode cX8_market 39 = .ok (.aload_n 0, 1) := dk_42 (dk_at dksX8_market_1 16 rfl rfl)
theorem dX8_market_40 : decode cX8_market 40 = .ok (.iload_n 2, 1) := dk_28 (dk_at dksX8_market_1 17 rfl rfl)
theorem dX8_market_41 : decode cX8_market 41 = .ok (.putfield 355, 3) := dk_181 1 99 (dk_at dksX8_market_1 18 rfl rfl)
theorem dX8_market_44 : decode cX8_market 44 = .ok (.iconst 0, 1) := dk_3 (dk_at dksX8_market_1 21 rfl rfl)
theorem dX8_market_45 : decode cX8_market 45 = .ok (.istore_n 3, 1) := dk_62 (dk_at dksX8_market_1 22 rfl rfl)
theorem dX8_market_46 : decode cX8_market 46 = .ok (.iconst 0, 1) := dk_3 (dk_at dksX8_market_1 23 rfl rfl)
theorem dX8_market_47 : decode cX8_market 47 = .ok (.istore 4, 2) := dk_54 4 (dk_at dksX8_market_2 0 rfl rfl)
theorem dX8_market_49 : decode cX8_market 49 = .ok (.iload 4, 2) := dk_21 4 (dk_at dksX8_market_2 2 rfl rfl)
theorem dX8_market_51 : decode cX8_market 51 = .ok (.iload_n 1, 1) := dk_27 (dk_at dksX8_market_2 4 rfl rfl)
theorem dX8_market_52 : decode cX8_market 52 = .ok (.if_icmp .ge 112, 3) := dk_162 0 112 (dk_at dksX8_market_2 5 rfl rfl)
theorem dX8_market_55 : decode cX8_market 55 = .ok (.aload_n 0, 1) := dk_42 (dk_at dksX8_market_2 8 rfl rfl)
theorem dX8_market_56 : decode cX8_market 56 = .ok (.aload_n 0, 1) := dk_42 (dk_at dksX8_market_2 9 rfl rfl)
theorem dX8_market_57 : decode cX8_market 57 = .ok (.invokevirtual 182, 3) := dk_182 0 182 (dk_at dksX8_market_2 10 rfl rfl)
theorem dX8_market_60 : decode cX8_market 60 = .ok (.invokevirtual 359, 3) := dk_182 1 103 (dk_at dksX8_market_2 13 rfl rfl)
theorem dX8_market_63 : decode cX8_market 63 = .ok (.istore 5, 2) := dk_54 5 (dk_at dksX8_market_2 16 rfl rfl)
theorem dX8_market_65 : decode cX8_market 65 = .ok (.aload_n 0, 1) := dk_42 (dk_at dksX8_market_2 18 rfl rfl)
theorem dX8_market_66 : decode cX8_market 66 = .ok (.aload_n 0, 1) := dk_42 (dk_at dksX8_market_2 19 rfl rfl)
theorem dX8_market_67 : decode cX8_market 67 = .ok (.invokevirtual 182, 3) := dk_182 0 182 (dk_at dksX8_market_2 20 rfl rfl)
theorem dX8_market_70 : decode cX8_market 70 = .ok (.invokevirtual 359, 3) := dk_182 1 103 (dk_at dksX8_market_3 0 rfl rfl)
theorem dX8_market_73 : decode cX8_market 73 = .ok (.istore 6, 2) := dk_54 6 (dk_at dksX8_market_3 3 rfl rfl)
theorem dX8_market_75 : decode cX8_market 75 = .ok (.iload 6, 2) := dk_21 6 (dk_at dksX8_market_3 5 rfl rfl)
theorem dX8_market_77 : decode cX8_market 77 = .ok (.iload 5, 2) := dk_21 5 (dk_at dksX8_market_3 7 rfl rfl)
theorem dX8_market_79 : decode cX8_market 79 = .ok (.if_icmp .ne 14, 3) := dk_160 0 14 (dk_at dksX8_market_3 9 rfl rfl)
theorem dX8_market_82 : decode cX8_market 82 = .ok (.iload 6, 2) := dk_21 6 (dk_at dksX8_market_3 12 rfl rfl)
theorem dX8_market_84 : decode cX8_market 84 = .ok (.iconst 1, 1) := dk_4 (dk_at dksX8_market_3 14 rfl rfl)
theorem dX8_market_85 : decode cX8_market 85 = .ok (.iadd, 1) := dk_96 (dk_at dksX8_market_3 15 rfl rfl)
theorem dX8_market_86 : decode cX8_market 86 = .ok (.aload_n 0, 1) := dk_42 (dk_at dksX8_market_3 16 rfl rfl)
theorem dX8_market_87 : decode cX8_market 87 = .ok (.invokevirtual 182, 3) := dk_182 0 182 (dk_at dksX8_market_3 17 rfl rfl)
theorem dX8_market_90 : decode cX8_market 90 = .ok (.irem, 1) := dk_112 (dk_at dksX8_market_3 20 rfl rfl)
theorem dX8_market_91 : decode cX8_market 91 = .ok (.istore 6, 2) := dk_54 6 (dk_at dksX8_market_3 21 rfl rfl)
theorem dX8_market_93 : decode cX8_market 93 = .ok (.aload_n 0, 1) := dk_42 (dk_at dksX8_market_3 23 rfl rfl)
theorem dX8_market_94 : decode cX8_market 94 = .ok (.aload_n 0, 1) := dk_42 (dk_at dksX8_market_4 0 rfl rfl)
theorem dX8_market_95 : decode cX8_market 95 = .ok (.invokevirtual 185, 3) := dk_182 0 185 (dk_at dksX8_market_4 1 rfl rfl)
theorem dX8_market_98 : decode cX8_market 98 = .ok (.invokevirtual 359, 3) := dk_182 1 103 (dk_at dksX8_market_4 4 rfl rfl)
theorem dX8_market_101 : decode cX8_market 101 = .ok (.istore 7, 2) := dk_54 7 (dk_at dksX8_market_4 7 rfl rfl)
theorem dX8_market_103 : decode cX8_market 103 = .ok (.aload_n 0, 1) := dk_42 (dk_at dksX8_market_4 9 rfl rfl)
theorem dX8_market_104 : decode cX8_market 104 = .ok (.sipush 200, 3) := dk_17 0 200 (dk_at dksX8_market_4 10 rfl rfl)
theorem dX8_market_107 : decode cX8_market 107 = .ok (.invokevirtual 359, 3) := dk_182 1 103 (dk_at dksX8_market_4 13 rfl rfl)
theorem dX8_market_110 : decode cX8_market 110 = .ok (.iconst 1, 1) := dk_4 (dk_at dksX8_market_4 16 rfl rfl)
theorem dX8_market_111 : decode cX8_market 111 = .ok (.iadd, 1) := dk_96 (dk_at dksX8_market_4 17 rfl rfl)
theorem dX8_market_112 : decode cX8_market 112 = .ok (.istore 8, 2) := dk_54 8 (dk_at dksX8_market_4 18 rfl rfl)
theorem dX8_market_114 : decode cX8_market 114 = .ok (.aload_n 0, 1) := dk_42 (dk_at dksX8_market_4 20 rfl rfl)
theorem dX8_market_115 : decode cX8_market 115 = .ok (.iload 5, 2) := dk_21 5 (dk_at dksX8_market_4 21 rfl rfl)
theorem dX8_market_117 : decode cX8_market 117 = .ok (.iload 6, 2) := dk_21 6 (dk_at dksX8_market_5 0 rfl rfl)
theorem dX8_market_119 : decode cX8_market 119 = .ok (.iload 7, 2) := dk_21 7 (dk_at dksX8_market_5 2 rfl rfl)
theorem dX8_market_121 : decode cX8_market 121 = .ok (.iload 8, 2) := dk_21 8 (dk_at dksX8_market_5 4 rfl rfl)
theorem dX8_market_123 : decode cX8_market 123 = .ok (.invokevirtual 321, 3) := dk_182 1 65 (dk_at dksX8_market_5 6 rfl rfl)
theorem dX8_market_126 : decode cX8_market 126 = .ok (.ifCond .lt 32, 3) := dk_155 0 32 (dk_at dksX8_market_5 9 rfl rfl)
theorem dX8_market_129 : decode cX8_market 129 = .ok (.aload_n 0, 1) := dk_42 (dk_at dksX8_market_5 12 rfl rfl)
theorem dX8_market_130 : decode cX8_market 130 = .ok (.aload_n 0, 1) := dk_42 (dk_at dksX8_market_5 13 rfl rfl)
theorem dX8_market_131 : decode cX8_market 131 = .ok (.invokevirtual 328, 3) := dk_182 1 72 (dk_at dksX8_market_5 14 rfl rfl)
theorem dX8_market_134 : decode cX8_market 134 = .ok (.invokevirtual 269, 3) := dk_182 1 13 (dk_at dksX8_market_5 17 rfl rfl)
theorem dX8_market_137 : decode cX8_market 137 = .ok (.ifCond .eq 6, 3) := dk_153 0 6 (dk_at dksX8_market_5 20 rfl rfl)
theorem dX8_market_140 : decode cX8_market 140 = .ok (.goto 18, 3) := dk_167 0 18 (dk_at dksX8_market_6 0 rfl rfl)
theorem dX8_market_143 : decode cX8_market 143 = .ok (.aload_n 0, 1) := dk_42 (dk_at dksX8_market_6 3 rfl rfl)
theorem dX8_market_144 : decode cX8_market 144 = .ok (.iload 5, 2) := dk_21 5 (dk_at dksX8_market_6 4 rfl rfl)
theorem dX8_market_146 : decode cX8_market 146 = .ok (.iload 6, 2) := dk_21 6 (dk_at dksX8_market_6 6 rfl rfl)
theorem dX8_market_148 : decode cX8_market 148 = .ok (.iload 7, 2) := dk_21 7 (dk_at dksX8_market_6 8 rfl rfl)
theorem dX8_market_150 : decode cX8_market 150 = .ok (.iload 8, 2) := dk_21 8 (dk_at dksX8_market_6 10 rfl rfl)
theorem dX8_market_152 : decode cX8_market 152 = .ok (.invokevirtual 331, 3) := dk_182 1 75 (dk_at dksX8_market_6 12 rfl rfl)
theorem dX8_market_155 : decode cX8_market 155 = .ok (.iinc 3 1, 3) := dk_132 3 1 (dk_at dksX8_market_6 15 rfl rfl)
theorem dX8_market_158 : decode cX8_market 158 = .ok (.iinc 4 1, 3) := dk_132 4 1 (dk_at dksX8_market_6 18 rfl rfl)
theorem dX8_market_161 : decode cX8_market 161 = .ok (.goto (-112), 3) := dk_167 255 144 (dk_at dksX8_market_6 21 rfl rfl)
theorem dX8_market_164 : decode cX8_market 164 = .ok (.iload_n 3, 1) := dk_29 (dk_at dksX8_market_7 0 rfl rfl)
theorem dX8_market_165 : decode cX8_market 165 = .ok (.ireturn, 1) := dk_172 (dk_at dksX8_market_7 1 rfl rfl)
abbrev cX8_draw : ByteArray := prog_18_method_95_code
def yX8_draw : MethodName := ⟨RX8, "draw", "(I)I"⟩
def dkwX8_draw_1 : List UInt8 := [112, 172]
abbrev dktX8_draw_1 : List UInt8 := dkwX8_draw_1 ++ []
def dkwX8_draw_0 : List UInt8 := [42, 42, 180, 1, 99, 19, 1, 102, 104, 17, 48, 57, 96, 181, 1, 99, 42, 180, 1, 99, 16, 8, 124, 27]
abbrev dktX8_draw_0 : List UInt8 := dkwX8_draw_0 ++ dktX8_draw_1
theorem dksX8_draw_0 : cX8_draw.data.toList.drop 0 = dktX8_draw_0 := by decide +kernel
theorem dksX8_draw_1 : cX8_draw.data.toList.drop 24 = dktX8_draw_1 := dk_seg dksX8_draw_0 24 rfl rfl
theorem dX8_draw_0 : decode cX8_draw 0 = .ok (.aload_n 0, 1) := dk_42 (dk_at dksX8_draw_0 0 rfl rfl)
theorem dX8_draw_1 : decode cX8_draw 1 = .ok (.aload_n 0, 1) := dk_42 (dk_at dksX8_draw_0 1 rfl rfl)
theorem dX8_draw_2 : decode cX8_draw 2 = .ok (.getfield 355, 3) := dk_180 1 99 (dk_at dksX8_draw_0 2 rfl rfl)
theorem dX8_draw_5 : decode cX8_draw 5 = .ok (.ldc_w 358, 3) := dk_19 1 102 (dk_at dksX8_draw_0 5 rfl rfl)
theorem dX8_draw_8 : decode cX8_draw 8 = .ok (.imul, 1) := dk_104 (dk_at dksX8_draw_0 8 rfl rfl)
theorem dX8_draw_9 : decode cX8_draw 9 = .ok (.sipush 12345, 3) := dk_17 48 57 (dk_at dksX8_draw_0 9 rfl rfl)
theorem dX8_draw_12 : decode cX8_draw 12 = .ok (.iadd, 1) := dk_96 (dk_at dksX8_draw_0 12 rfl rfl)
theorem dX8_draw_13 : decode cX8_draw 13 = .ok (.putfield 355, 3) := dk_181 1 99 (dk_at dksX8_draw_0 13 rfl rfl)
theorem dX8_draw_16 : decode cX8_draw 16 = .ok (.aload_n 0, 1) := dk_42 (dk_at dksX8_draw_0 16 rfl rfl)
theorem dX8_draw_17 : decode cX8_draw 17 = .ok (.getfield 355, 3) := dk_180 1 99 (dk_at dksX8_draw_0 17 rfl rfl)
theorem dX8_draw_20 : decode cX8_draw 20 = .ok (.bipush 8, 2) := dk_16 8 (dk_at dksX8_draw_0 20 rfl rfl)
theorem dX8_draw_22 : decode cX8_draw 22 = .ok (.iushr, 1) := dk_124 (dk_at dksX8_draw_0 22 rfl rfl)
theorem dX8_draw_23 : decode cX8_draw 23 = .ok (.iload_n 1, 1) := dk_27 (dk_at dksX8_draw_0 23 rfl rfl)
theorem dX8_draw_24 : decode cX8_draw 24 = .ok (.irem, 1) := dk_112 (dk_at dksX8_draw_1 0 rfl rfl)
theorem dX8_draw_25 : decode cX8_draw 25 = .ok (.ireturn, 1) := dk_172 (dk_at dksX8_draw_1 1 rfl rfl)
abbrev cX8_undo : ByteArray := prog_18_method_97_code
def yX8_undo : MethodName := ⟨RX8, "undo", "()I"⟩
def dkwX8_undo_4 : List UInt8 := [180, 0, 240, 172]
abbrev dktX8_undo_4 : List UInt8 := dkwX8_undo_4 ++ []
def dkwX8_undo_3 : List UInt8 := [132, 3, 1, 167, 255, 225, 42, 180, 0, 13, 16, 116, 27, 79, 42, 180, 0, 13, 16, 117, 28, 79, 42]
abbrev dktX8_undo_3 : List UInt8 := dkwX8_undo_3 ++ dktX8_undo_4
def dkwX8_undo_2 : List UInt8 := [162, 0, 30, 42, 180, 0, 13, 29, 42, 180, 0, 23, 17, 30, 220, 42, 180, 0, 240, 104, 29, 96, 46, 79]
abbrev dktX8_undo_2 : List UInt8 := dkwX8_undo_2 ++ dktX8_undo_3
def dkwX8_undo_1 : List UInt8 := [42, 180, 0, 13, 16, 116, 46, 60, 42, 180, 0, 13, 16, 117, 46, 61, 3, 62, 29, 17, 30, 220]
abbrev dktX8_undo_1 : List UInt8 := dkwX8_undo_1 ++ dktX8_undo_2
def dkwX8_undo_0 : List UInt8 := [42, 3, 181, 0, 83, 42, 180, 0, 240, 154, 0, 5, 2, 172, 42, 89, 180, 0, 240, 4, 100, 181, 0, 240]
abbrev dktX8_undo_0 : List UInt8 := dkwX8_undo_0 ++ dktX8_undo_1
theorem dksX8_undo_0 : cX8_undo.data.toList.drop 0 = dktX8_undo_0 := by decide +kernel
theorem dksX8_undo_1 : cX8_undo.data.toList.drop 24 = dktX8_undo_1 := dk_seg dksX8_undo_0 24 rfl rfl
theorem dksX8_undo_2 : cX8_undo.data.toList.drop 46 = dktX8_undo_2 := dk_seg dksX8_undo_1 22 rfl rfl
theorem dksX8_undo_3 : cX8_undo.data.toList.drop 70 = dktX8_undo_3 := dk_seg dksX8_undo_2 24 rfl rfl
theorem dksX8_undo_4 : cX8_undo.data.toList.drop 93 = dktX8_undo_4 := dk_seg dksX8_undo_3 23 rfl rfl
theorem dX8_undo_0 : decode cX8_undo 0 = .ok (.aload_n 0, 1) := dk_42 (dk_at dksX8_undo_0 0 rfl rfl)
theorem dX8_undo_1 : decode cX8_undo 1 = .ok (.iconst 0, 1) := dk_3 (dk_at dksX8_undo_0 1 rfl rfl)
theorem dX8_undo_2 : decode cX8_undo 2 = .ok (.putfield 83, 3) := dk_181 0 83 (dk_at dksX8_undo_0 2 rfl rfl)
theorem dX8_undo_5 : decode cX8_undo 5 = .ok (.aload_n 0, 1) := dk_42 (dk_at dksX8_undo_0 5 rfl rfl)
theorem dX8_undo_6 : decode cX8_undo 6 = .ok (.getfield 240, 3) := dk_180 0 240 (dk_at dksX8_undo_0 6 rfl rfl)
theorem dX8_undo_9 : decode cX8_undo 9 = .ok (.ifCond .ne 5, 3) := dk_154 0 5 (dk_at dksX8_undo_0 9 rfl rfl)
theorem dX8_undo_12 : decode cX8_undo 12 = .ok (.iconst (-1), 1) := dk_2 (dk_at dksX8_undo_0 12 rfl rfl)
theorem dX8_undo_13 : decode cX8_undo 13 = .ok (.ireturn, 1) := dk_172 (dk_at dksX8_undo_0 13 rfl rfl)
theorem dX8_undo_14 : decode cX8_undo 14 = .ok (.aload_n 0, 1) := dk_42 (dk_at dksX8_undo_0 14 rfl rfl)
theorem dX8_undo_15 : decode cX8_undo 15 = .ok (.dup, 1) := dk_89 (dk_at dksX8_undo_0 15 rfl rfl)
theorem dX8_undo_16 : decode cX8_undo 16 = .ok (.getfield 240, 3) := dk_180 0 240 (dk_at dksX8_undo_0 16 rfl rfl)
theorem dX8_undo_19 : decode cX8_undo 19 = .ok (.iconst 1, 1) := dk_4 (dk_at dksX8_undo_0 19 rfl rfl)
theorem dX8_undo_20 : decode cX8_undo 20 = .ok (.isub, 1) := dk_100 (dk_at dksX8_undo_0 20 rfl rfl)
theorem dX8_undo_21 : decode cX8_undo 21 = .ok (.putfield 240, 3) := dk_181 0 240 (dk_at dksX8_undo_0 21 rfl rfl)
theorem dX8_undo_24 : decode cX8_undo 24 = .ok (.aload_n 0, 1) := dk_42 (dk_at dksX8_undo_1 0 rfl rfl)
theorem dX8_undo_25 : decode cX8_undo 25 = .ok (.getfield 13, 3) := dk_180 0 13 (dk_at dksX8_undo_1 1 rfl rfl)
theorem dX8_undo_28 : decode cX8_undo 28 = .ok (.bipush 116, 2) := dk_16 116 (dk_at dksX8_undo_1 4 rfl rfl)
theorem dX8_undo_30 : decode cX8_undo 30 = .ok (.iaload, 1) := dk_46 (dk_at dksX8_undo_1 6 rfl rfl)
theorem dX8_undo_31 : decode cX8_undo 31 = .ok (.istore_n 1, 1) := dk_60 (dk_at dksX8_undo_1 7 rfl rfl)
theorem dX8_undo_32 : decode cX8_undo 32 = .ok (.aload_n 0, 1) := dk_42 (dk_at dksX8_undo_1 8 rfl rfl)
theorem dX8_undo_33 : decode cX8_undo 33 = .ok (.getfield 13, 3) := dk_180 0 13 (dk_at dksX8_undo_1 9 rfl rfl)
theorem dX8_undo_36 : decode cX8_undo 36 = .ok (.bipush 117, 2) := dk_16 117 (dk_at dksX8_undo_1 12 rfl rfl)
theorem dX8_undo_38 : decode cX8_undo 38 = .ok (.iaload, 1) := dk_46 (dk_at dksX8_undo_1 14 rfl rfl)
theorem dX8_undo_39 : decode cX8_undo 39 = .ok (.istore_n 2, 1) := dk_61 (dk_at dksX8_undo_1 15 rfl rfl)
theorem dX8_undo_40 : decode cX8_undo 40 = .ok (.iconst 0, 1) := dk_3 (dk_at dksX8_undo_1 16 rfl rfl)
theorem dX8_undo_41 : decode cX8_undo 41 = .ok (.istore_n 3, 1) := dk_62 (dk_at dksX8_undo_1 17 rfl rfl)
theorem dX8_undo_42 : decode cX8_undo 42 = .ok (.iload_n 3, 1) := dk_29 (dk_at dksX8_undo_1 18 rfl rfl)
theorem dX8_undo_43 : decode cX8_undo 43 = .ok (.sipush 7900, 3) := dk_17 30 220 (dk_at dksX8_undo_1 19 rfl rfl)
theorem dX8_undo_46 : decode cX8_undo 46 = .ok (.if_icmp .ge 30, 3) := dk_162 0 30 (dk_at dksX8_undo_2 0 rfl rfl)
theorem dX8_undo_49 : decode cX8_undo 49 = .ok (.aload_n 0, 1) := dk_42 (dk_at dksX8_undo_2 3 rfl rfl)
theorem dX8_undo_50 : decode cX8_undo 50 = .ok (.getfield 13, 3) := dk_180 0 13 (dk_at dksX8_undo_2 4 rfl rfl)
theorem dX8_undo_53 : decode cX8_undo 53 = .ok (.iload_n 3, 1) := dk_29 (dk_at dksX8_undo_2 7 rfl rfl)
theorem dX8_undo_54 : decode cX8_undo 54 = .ok (.aload_n 0, 1) := dk_42 (dk_at dksX8_undo_2 8 rfl rfl)
theorem dX8_undo_55 : decode cX8_undo 55 = .ok (.getfield 23, 3) := dk_180 0 23 (dk_at dksX8_undo_2 9 rfl rfl)
theorem dX8_undo_58 : decode cX8_undo 58 = .ok (.sipush 7900, 3) := dk_17 30 220 (dk_at dksX8_undo_2 12 rfl rfl)
theorem dX8_undo_61 : decode cX8_undo 61 = .ok (.aload_n 0, 1) := dk_42 (dk_at dksX8_undo_2 15 rfl rfl)
theorem dX8_undo_62 : decode cX8_undo 62 = .ok (.getfield 240, 3) := dk_180 0 240 (dk_at dksX8_undo_2 16 rfl rfl)
theorem dX8_undo_65 : decode cX8_undo 65 = .ok (.imul, 1) := dk_104 (dk_at dksX8_undo_2 19 rfl rfl)
theorem dX8_undo_66 : decode cX8_undo 66 = .ok (.iload_n 3, 1) := dk_29 (dk_at dksX8_undo_2 20 rfl rfl)
theorem dX8_undo_67 : decode cX8_undo 67 = .ok (.iadd, 1) := dk_96 (dk_at dksX8_undo_2 21 rfl rfl)
theorem dX8_undo_68 : decode cX8_undo 68 = .ok (.iaload, 1) := dk_46 (dk_at dksX8_undo_2 22 rfl rfl)
theorem dX8_undo_69 : decode cX8_undo 69 = .ok (.iastore, 1) := dk_79 (dk_at dksX8_undo_2 23 rfl rfl)
theorem dX8_undo_70 : decode cX8_undo 70 = .ok (.iinc 3 1, 3) := dk_132 3 1 (dk_at dksX8_undo_3 0 rfl rfl)
theorem dX8_undo_73 : decode cX8_undo 73 = .ok (.goto (-31), 3) := dk_167 255 225 (dk_at dksX8_undo_3 3 rfl rfl)
theorem dX8_undo_76 : decode cX8_undo 76 = .ok (.aload_n 0, 1) := dk_42 (dk_at dksX8_undo_3 6 rfl rfl)
theorem dX8_undo_77 : decode cX8_undo 77 = .ok (.getfield 13, 3) := dk_180 0 13 (dk_at dksX8_undo_3 7 rfl rfl)
theorem dX8_undo_80 : decode cX8_undo 80 = .ok (.bipush 116, 2) := dk_16 116 (dk_at dksX8_undo_3 10 rfl rfl)
theorem dX8_undo_82 : decode cX8_undo 82 = .ok (.iload_n 1, 1) := dk_27 (dk_at dksX8_undo_3 12 rfl rfl)
theorem dX8_undo_83 : decode cX8_undo 83 = .ok (.iastore, 1) := dk_79 (dk_at dksX8_undo_3 13 rfl rfl)
theorem dX8_undo_84 : decode cX8_undo 84 = .ok (.aload_n 0, 1) := dk_42 (dk_at dksX8_undo_3 14 rfl rfl)
theorem dX8_undo_85 : decode cX8_undo 85 = .ok (.getfield 13, 3) := dk_180 0 13 (dk_at dksX8_undo_3 15 rfl rfl)
theorem dX8_undo_88 : decode cX8_undo 88 = .ok (.bipush 117, 2) := dk_16 117 (dk_at dksX8_undo_3 18 rfl rfl)
theorem dX8_undo_90 : decode cX8_undo 90 = .ok (.iload_n 2, 1) := dk_28 (dk_at dksX8_undo_3 20 rfl rfl)
theorem dX8_undo_91 : decode cX8_undo 91 = .ok (.iastore, 1) := dk_79 (dk_at dksX8_undo_3 21 rfl rfl)
theorem dX8_undo_92 : decode cX8_undo 92 = .ok (.aload_n 0, 1) := dk_42 (dk_at dksX8_undo_3 22 rfl rfl)
theorem dX8_undo_93 : decode cX8_undo 93 = .ok (.getfield 240, 3) := dk_180 0 240 (dk_at dksX8_undo_4 0 rfl rfl)
theorem dX8_undo_96 : decode cX8_undo 96 = .ok (.ireturn, 1) := dk_172 (dk_at dksX8_undo_4 3 rfl rfl)
abbrev cX8_sentence : ByteArray := prog_18_method_106_code
def yX8_sentence : MethodName := ⟨RX8, "sentence", "()I"⟩
def dkwX8_sentence_4 : List UInt8 := [96, 42, 180, 0, 80, 27, 46, 79, 132, 1, 1, 167, 255, 230, 42, 180, 1, 121, 172]
abbrev dktX8_sentence_4 : List UInt8 := dkwX8_sentence_4 ++ []
def dkwX8_sentence_3 : List UInt8 := [16, 117, 42, 180, 1, 112, 79, 3, 60, 27, 17, 0, 240, 162, 0, 25, 42, 180, 0, 13, 17, 30, 220, 27]
abbrev dktX8_sentence_3 : List UInt8 := dkwX8_sentence_3 ++ dktX8_sentence_4
def dkwX8_sentence_2 : List UInt8 := [182, 0, 151, 87, 2, 42, 180, 0, 148, 100, 172, 42, 180, 0, 13, 16, 116, 4, 79, 42, 180, 0, 13]
abbrev dktX8_sentence_2 : List UInt8 := dkwX8_sentence_2 ++ dktX8_sentence_3
def dkwX8_sentence_1 : List UInt8 := [182, 1, 139, 154, 0, 10, 2, 42, 180, 0, 148, 100, 172, 42, 180, 0, 105, 153, 0, 16, 42, 4]
abbrev dktX8_sentence_1 : List UInt8 := dkwX8_sentence_1 ++ dktX8_sentence_2
def dkwX8_sentence_0 : List UInt8 := [42, 17, 0, 200, 182, 0, 234, 42, 3, 181, 1, 106, 42, 3, 181, 1, 121, 42, 3, 181, 1, 124, 42]
abbrev dktX8_sentence_0 : List UInt8 := dkwX8_sentence_0 ++ dktX8_sentence_1
theorem dksX8_sentence_0 : cX8_sentence.data.toList.drop 0 = dktX8_sentence_0 := by decide +kernel
theorem dksX8_sentence_1 : cX8_sentence.data.toList.drop 23 = dktX8_sentence_1 := dk_seg dksX8_sentence_0 23 rfl rfl
theorem dksX8_sentence_2 : cX8_sentence.data.toList.drop 45 = dktX8_sentence_2 := dk_seg dksX8_sentence_1 22 rfl rfl
theorem dksX8_sentence_3 : cX8_sentence.data.toList.drop 68 = dktX8_sentence_3 := dk_seg dksX8_sentence_2 23 rfl rfl
theorem dksX8_sentence_4 : cX8_sentence.data.toList.drop 92 = dktX8_sentence_4 := dk_seg dksX8_sentence_3 24 rfl rfl
theorem dX8_sentence_0 : decode cX8_sentence 0 = .ok (.aload_n 0, 1) := dk_42 (dk_at dksX8_sentence_0 0 rfl rfl)
theorem dX8_sentence_1 : decode cX8_sentence 1 = .ok (.sipush 200, 3) := dk_17 0 200 (dk_at dksX8_sentence_0 1 rfl rfl)
theorem dX8_sentence_4 : decode cX8_sentence 4 = .ok (.invokevirtual 234, 3) := dk_182 0 234 (dk_at dksX8_sentence_0 4 rfl rfl)
theorem dX8_sentence_7 : decode cX8_sentence 7 = .ok (.aload_n 0, 1) := dk_42 (dk_at dksX8_sentence_0 7 rfl rfl)
theorem dX8_sentence_8 : decode cX8_sentence 8 = .ok (.iconst 0, 1) := dk_3 (dk_at dksX8_sentence_0 8 rfl rfl)
theorem dX8_sentence_9 : decode cX8_sentence 9 = .ok (.putfield 362, 3) := dk_181 1 106 (dk_at dksX8_sentence_0 9 rfl rfl)
theorem dX8_sentence_12 : decode cX8_sentence 12 = .ok (.aload_n 0, 1) := dk_42 (dk_at dksX8_sentence_0 12 rfl rfl)
theorem dX8_sentence_13 : decode cX8_sentence 13 = .ok (.iconst 0, 1) := dk_3 (dk_at dksX8_sentence_0 13 rfl rfl)
theorem dX8_sentence_14 : decode cX8_sentence 14 = .ok (.putfield 377, 3) := dk_181 1 121 (dk_at dksX8_sentence_0 14 rfl rfl)
theorem dX8_sentence_17 : decode cX8_sentence 17 = .ok (.aload_n 0, 1) := dk_42 (dk_at dksX8_sentence_0 17 rfl rfl)
theorem dX8_sentence_18 : decode cX8_sentence 18 = .ok (.iconst 0, 1) := dk_3 (dk_at dksX8_sentence_0 18 rfl rfl)
theorem dX8_sentence_19 : decode cX8_sentence 19 = .ok (.putfield 380, 3) := dk_181 1 124 (dk_at dksX8_sentence_0 19 rfl rfl)
theorem dX8_sentence_22 : decode cX8_sentence 22 = .ok (.aload_n 0, 1) := dk_42 (dk_at dksX8_sentence_0 22 rfl rfl)
theorem dX8_sentence_23 : decode cX8_sentence 23 = .ok (.invokevirtual 395, 3) := dk_182 1 139 (dk_at dksX8_sentence_1 0 rfl rfl)
theorem dX8_sentence_26 : decode cX8_sentence 26 = .ok (.ifCond .ne 10, 3) := dk_154 0 10 (dk_at dksX8_sentence_1 3 rfl rfl)
theorem dX8_sentence_29 : decode cX8_sentence 29 = .ok (.iconst (-1), 1) := dk_2 (dk_at dksX8_sentence_1 6 rfl rfl)
theorem dX8_sentence_30 : decode cX8_sentence 30 = .ok (.aload_n 0, 1) := dk_42 (dk_at dksX8_sentence_1 7 rfl rfl)
theorem dX8_sentence_31 : decode cX8_sentence 31 = .ok (.getfield 148, 3) := dk_180 0 148 (dk_at dksX8_sentence_1 8 rfl rfl)
theorem dX8_sentence_34 : decode cX8_sentence 34 = .ok (.isub, 1) := dk_100 (dk_at dksX8_sentence_1 11 rfl rfl)
theorem dX8_sentence_35 : decode cX8_sentence 35 = .ok (.ireturn, 1) := dk_172 (dk_at dksX8_sentence_1 12 rfl rfl)
theorem dX8_sentence_36 : decode cX8_sentence 36 = .ok (.aload_n 0, 1) := dk_42 (dk_at dksX8_sentence_1 13 rfl rfl)
theorem dX8_sentence_37 : decode cX8_sentence 37 = .ok (.getfield 105, 3) := dk_180 0 105 (dk_at dksX8_sentence_1 14 rfl rfl)
theorem dX8_sentence_40 : decode cX8_sentence 40 = .ok (.ifCond .eq 16, 3) := dk_153 0 16 (dk_at dksX8_sentence_1 17 rfl rfl)
theorem dX8_sentence_43 : decode cX8_sentence 43 = .ok (.aload_n 0, 1) := dk_42 (dk_at dksX8_sentence_1 20 rfl rfl)
theorem dX8_sentence_44 : decode cX8_sentence 44 = .ok (.iconst 1, 1) := dk_4 (dk_at dksX8_sentence_1 21 rfl rfl)
theorem dX8_sentence_45 : decode cX8_sentence 45 = .ok (.invokevirtual 151, 3) := dk_182 0 151 (dk_at dksX8_sentence_2 0 rfl rfl)
theorem dX8_sentence_48 : decode cX8_sentence 48 = .ok (.pop, 1) := dk_87 (dk_at dksX8_sentence_2 3 rfl rfl)
theorem dX8_sentence_49 : decode cX8_sentence 49 = .ok (.iconst (-1), 1) := dk_2 (dk_at dksX8_sentence_2 4 rfl rfl)
theorem dX8_sentence_50 : decode cX8_sentence 50 = .ok (.aload_n 0, 1) := dk_42 (dk_at dksX8_sentence_2 5 rfl rfl)
theorem dX8_sentence_51 : decode cX8_sentence 51 = .ok (.getfield 148, 3) := dk_180 0 148 (dk_at dksX8_sentence_2 6 rfl rfl)
theorem dX8_sentence_54 : decode cX8_sentence 54 = .ok (.isub, 1) := dk_100 (dk_at dksX8_sentence_2 9 rfl rfl)
theorem dX8_sentence_55 : decode cX8_sentence 55 = .ok (.ireturn, 1) := dk_172 (dk_at dksX8_sentence_2 10 rfl rfl)
theorem dX8_sentence_56 : decode cX8_sentence 56 = .ok (.aload_n 0, 1) := dk_42 (dk_at dksX8_sentence_2 11 rfl rfl)
theorem dX8_sentence_57 : decode cX8_sentence 57 = .ok (.getfield 13, 3) := dk_180 0 13 (dk_at dksX8_sentence_2 12 rfl rfl)
theorem dX8_sentence_60 : decode cX8_sentence 60 = .ok (.bipush 116, 2) := dk_16 116 (dk_at dksX8_sentence_2 15 rfl rfl)
theorem dX8_sentence_62 : decode cX8_sentence 62 = .ok (.iconst 1, 1) := dk_4 (dk_at dksX8_sentence_2 17 rfl rfl)
theorem dX8_sentence_63 : decode cX8_sentence 63 = .ok (.iastore, 1) := dk_79 (dk_at dksX8_sentence_2 18 rfl rfl)
theorem dX8_sentence_64 : decode cX8_sentence 64 = .ok (.aload_n 0, 1) := dk_42 (dk_at dksX8_sentence_2 19 rfl rfl)
theorem dX8_sentence_65 : decode cX8_sentence 65 = .ok (.getfield 13, 3) := dk_180 0 13 (dk_at dksX8_sentence_2 20 rfl rfl)
theorem dX8_sentence_68 : decode cX8_sentence 68 = .ok (.bipush 117, 2) := dk_16 117 (dk_at dksX8_sentence_3 0 rfl rfl)
theorem dX8_sentence_70 : decode cX8_sentence 70 = .ok (.aload_n 0, 1) := dk_42 (dk_at dksX8_sentence_3 2 rfl rfl)
theorem dX8_sentence_71 : decode cX8_sentence 71 = .ok (.getfield 368, 3) := dk_180 1 112 (dk_at dksX8_sentence_3 3 rfl rfl)
theorem dX8_sentence_74 : decode cX8_sentence 74 = .ok (.iastore, 1) := dk_79 (dk_at dksX8_sentence_3 6 rfl rfl)
theorem dX8_sentence_75 : decode cX8_sentence 75 = .ok (.iconst 0, 1) := dk_3 (dk_at dksX8_sentence_3 7 rfl rfl)
theorem dX8_sentence_76 : decode cX8_sentence 76 = .ok (.istore_n 1, 1) := dk_60 (dk_at dksX8_sentence_3 8 rfl rfl)
theorem dX8_sentence_77 : decode cX8_sentence 77 = .ok (.iload_n 1, 1) := dk_27 (dk_at dksX8_sentence_3 9 rfl rfl)
theorem dX8_sentence_78 : decode cX8_sentence 78 = .ok (.sipush 240, 3) := dk_17 0 240 (dk_at dksX8_sentence_3 10 rfl rfl)
theorem dX8_sentence_81 : decode cX8_sentence 81 = .ok (.if_icmp .ge 25, 3) := dk_162 0 25 (dk_at dksX8_sentence_3 13 rfl rfl)
theorem dX8_sentence_84 : decode cX8_sentence 84 = .ok (.aload_n 0, 1) := dk_42 (dk_at dksX8_sentence_3 16 rfl rfl)
theorem dX8_sentence_85 : decode cX8_sentence 85 = .ok (.getfield 13, 3) := dk_180 0 13 (dk_at dksX8_sentence_3 17 rfl rfl)
theorem dX8_sentence_88 : decode cX8_sentence 88 = .ok (.sipush 7900, 3) := dk_17 30 220 (dk_at dksX8_sentence_3 20 rfl rfl)
theorem dX8_sentence_91 : decode cX8_sentence 91 = .ok (.iload_n 1, 1) := dk_27 (dk_at dksX8_sentence_3 23 rfl rfl)
theorem dX8_sentence_92 : decode cX8_sentence 92 = .ok (.iadd, 1) := dk_96 (dk_at dksX8_sentence_4 0 rfl rfl)
theorem dX8_sentence_93 : decode cX8_sentence 93 = .ok (.aload_n 0, 1) := dk_42 (dk_at dksX8_sentence_4 1 rfl rfl)
theorem dX8_sentence_94 : decode cX8_sentence 94 = .ok (.getfield 80, 3) := dk_180 0 80 (dk_at dksX8_sentence_4 2 rfl rfl)
theorem dX8_sentence_97 : decode cX8_sentence 97 = .ok (.iload_n 1, 1) := dk_27 (dk_at dksX8_sentence_4 5 rfl rfl)
theorem dX8_sentence_98 : decode cX8_sentence 98 = .ok (.iaload, 1) := dk_46 (dk_at dksX8_sentence_4 6 rfl rfl)
theorem dX8_sentence_99 : decode cX8_sentence 99 = .ok (.iastore, 1) := dk_79 (dk_at dksX8_sentence_4 7 rfl rfl)
theorem dX8_sentence_100 : decode cX8_sentence 100 = .ok (.iinc 1 1, 3) := dk_132 1 1 (dk_at dksX8_sentence_4 8 rfl rfl)
theorem dX8_sentence_103 : decode cX8_sentence 103 = .ok (.goto (-26), 3) := dk_167 255 230 (dk_at dksX8_sentence_4 11 rfl rfl)
theorem dX8_sentence_106 : decode cX8_sentence 106 = .ok (.aload_n 0, 1) := dk_42 (dk_at dksX8_sentence_4 14 rfl rfl)
theorem dX8_sentence_107 : decode cX8_sentence 107 = .ok (.getfield 377, 3) := dk_180 1 121 (dk_at dksX8_sentence_4 15 rfl rfl)
theorem dX8_sentence_110 : decode cX8_sentence 110 = .ok (.ireturn, 1) := dk_172 (dk_at dksX8_sentence_4 18 rfl rfl)
abbrev cX8_readOr : ByteArray := prog_18_method_99_code
def yX8_readOr : MethodName := ⟨RX8, "readOr", "()Z"⟩
def dkwX8_readOr_2 : List UInt8 := [167, 255, 222, 42, 27, 181, 1, 112, 4, 172]
abbrev dktX8_readOr_2 : List UInt8 := dkwX8_readOr_2 ++ []
def dkwX8_readOr_1 : List UInt8 := [182, 0, 161, 42, 182, 1, 109, 154, 0, 5, 3, 172, 42, 6, 27, 42, 180, 1, 112, 3, 182, 1, 115, 60]
abbrev dktX8_readOr_1 : List UInt8 := dkwX8_readOr_1 ++ dktX8_readOr_2
def dkwX8_readOr_0 : List UInt8 := [42, 182, 1, 109, 154, 0, 5, 3, 172, 42, 180, 1, 112, 60, 42, 16, 9, 182, 0, 202, 153, 0, 31, 42]
abbrev dktX8_readOr_0 : List UInt8 := dkwX8_readOr_0 ++ dktX8_readOr_1
theorem dksX8_readOr_0 : cX8_readOr.data.toList.drop 0 = dktX8_readOr_0 := by decide +kernel
theorem dksX8_readOr_1 : cX8_readOr.data.toList.drop 24 = dktX8_readOr_1 := dk_seg dksX8_readOr_0 24 rfl rfl
theorem dksX8_readOr_2 : cX8_readOr.data.toList.drop 48 = dktX8_readOr_2 := dk_seg dksX8_readOr_1 24 rfl rfl
theorem dX8_readOr_0 : decode cX8_readOr 0 = .ok (.aload_n 0, 1) := dk_42 (dk_at dksX8_readOr_0 0 rfl rfl)
theorem dX8_readOr_1 : decode cX8_readOr 1 = .ok (.invokevirtual 365, 3) := dk_182 1 109 (dk_at dksX8_readOr_0 1 rfl rfl)
theorem dX8_readOr_4 : decode cX8_readOr 4 = .ok (.ifCond .ne 5, 3) := dk_154 0 5 (dk_at dksX8_readOr_0 4 rfl rfl)
theorem dX8_readOr_7 : decode cX8_readOr 7 = .ok (.iconst 0, 1) := dk_3 (dk_at dksX8_readOr_0 7 rfl rfl)
theorem dX8_readOr_8 : decode cX8_readOr 8 = .ok (.ireturn, 1) := dk_172 (dk_at dksX8_readOr_0 8 rfl rfl)
theorem dX8_readOr_9 : decode cX8_readOr 9 = .ok (.aload_n 0, 1) := dk_42 (dk_at dksX8_readOr_0 9 rfl rfl)
theorem dX8_readOr_10 : decode cX8_readOr 10 = .ok (.getfield 368, 3) := dk_180 1 112 (dk_at dksX8_readOr_0 10 rfl rfl)
theorem dX8_readOr_13 : decode cX8_readOr 13 = .ok (.istore_n 1, 1) := dk_60 (dk_at dksX8_readOr_0 13 rfl rfl)
theorem dX8_readOr_14 : decode cX8_readOr 14 = .ok (.aload_n 0, 1) := dk_42 (dk_at dksX8_readOr_0 14 rfl rfl)
theorem dX8_readOr_15 : decode cX8_readOr 15 = .ok (.bipush 9, 2) := dk_16 9 (dk_at dksX8_readOr_0 15 rfl rfl)
theorem dX8_readOr_17 : decode cX8_readOr 17 = .ok (.invokevirtual 202, 3) := dk_182 0 202 (dk_at dksX8_readOr_0 17 rfl rfl)
theorem dX8_readOr_20 : decode cX8_readOr 20 = .ok (.ifCond .eq 31, 3) := dk_153 0 31 (dk_at dksX8_readOr_0 20 rfl rfl)
theorem dX8_readOr_23 : decode cX8_readOr 23 = .ok (.aload_n 0, 1) := dk_42 (dk_at dksX8_readOr_0 23 rfl rfl)
theorem dX8_readOr_24 : decode cX8_readOr 24 = .ok (.invokevirtual 161, 3) := dk_182 0 161 (dk_at dksX8_readOr_1 0 rfl rfl)
theorem dX8_readOr_27 : decode cX8_readOr 27 = .ok (.aload_n 0, 1) := dk_42 (dk_at dksX8_readOr_1 3 rfl rfl)
theorem dX8_readOr_28 : decode cX8_readOr 28 = .ok (.invokevirtual 365, 3) := dk_182 1 109 (dk_at dksX8_readOr_1 4 rfl rfl)
theorem dX8_readOr_31 : decode cX8_readOr 31 = .ok (.ifCond .ne 5, 3) := dk_154 0 5 (dk_at dksX8_readOr_1 7 rfl rfl)
theorem dX8_readOr_34 : decode cX8_readOr 34 = .ok (.iconst 0, 1) := dk_3 (dk_at dksX8_readOr_1 10 rfl rfl)
theorem dX8_readOr_35 : decode cX8_readOr 35 = .ok (.ireturn, 1) := dk_172 (dk_at dksX8_readOr_1 11 rfl rfl)
theorem dX8_readOr_36 : decode cX8_readOr 36 = .ok (.aload_n 0, 1) := dk_42 (dk_at dksX8_readOr_1 12 rfl rfl)
theorem dX8_readOr_37 : decode cX8_readOr 37 = .ok (.iconst 3, 1) := dk_6 (dk_at dksX8_readOr_1 13 rfl rfl)
theorem dX8_readOr_38 : decode cX8_readOr 38 = .ok (.iload_n 1, 1) := dk_27 (dk_at dksX8_readOr_1 14 rfl rfl)
theorem dX8_readOr_39 : decode cX8_readOr 39 = .ok (.aload_n 0, 1) := dk_42 (dk_at dksX8_readOr_1 15 rfl rfl)
theorem dX8_readOr_40 : decode cX8_readOr 40 = .ok (.getfield 368, 3) := dk_180 1 112 (dk_at dksX8_readOr_1 16 rfl rfl)
theorem dX8_readOr_43 : decode cX8_readOr 43 = .ok (.iconst 0, 1) := dk_3 (dk_at dksX8_readOr_1 19 rfl rfl)
theorem dX8_readOr_44 : decode cX8_readOr 44 = .ok (.invokevirtual 371, 3) := dk_182 1 115 (dk_at dksX8_readOr_1 20 rfl rfl)
theorem dX8_readOr_47 : decode cX8_readOr 47 = .ok (.istore_n 1, 1) := dk_60 (dk_at dksX8_readOr_1 23 rfl rfl)
theorem dX8_readOr_48 : decode cX8_readOr 48 = .ok (.goto (-34), 3) := dk_167 255 222 (dk_at dksX8_readOr_2 0 rfl rfl)
theorem dX8_readOr_51 : decode cX8_readOr 51 = .ok (.aload_n 0, 1) := dk_42 (dk_at dksX8_readOr_2 3 rfl rfl)
theorem dX8_readOr_52 : decode cX8_readOr 52 = .ok (.iload_n 1, 1) := dk_27 (dk_at dksX8_readOr_2 4 rfl rfl)
theorem dX8_readOr_53 : decode cX8_readOr 53 = .ok (.putfield 368, 3) := dk_181 1 112 (dk_at dksX8_readOr_2 5 rfl rfl)
theorem dX8_readOr_56 : decode cX8_readOr 56 = .ok (.iconst 1, 1) := dk_4 (dk_at dksX8_readOr_2 8 rfl rfl)
theorem dX8_readOr_57 : decode cX8_readOr 57 = .ok (.ireturn, 1) := dk_172 (dk_at dksX8_readOr_2 9 rfl rfl)
abbrev cX8_readAnd : ByteArray := prog_18_method_100_code
def yX8_readAnd : MethodName := ⟨RX8, "readAnd", "()Z"⟩
def dkwX8_readAnd_2 : List UInt8 := [167, 255, 222, 42, 27, 181, 1, 112, 4, 172]
abbrev dktX8_readAnd_2 : List UInt8 := dkwX8_readAnd_2 ++ []
def dkwX8_readAnd_1 : List UInt8 := [182, 0, 161, 42, 182, 1, 118, 154, 0, 5, 3, 172, 42, 5, 27, 42, 180, 1, 112, 3, 182, 1, 115, 60]
abbrev dktX8_readAnd_1 : List UInt8 := dkwX8_readAnd_1 ++ dktX8_readAnd_2
def dkwX8_readAnd_0 : List UInt8 := [42, 182, 1, 118, 154, 0, 5, 3, 172, 42, 180, 1, 112, 60, 42, 16, 10, 182, 0, 202, 153, 0, 31, 42]
abbrev dktX8_readAnd_0 : List UInt8 := dkwX8_readAnd_0 ++ dktX8_readAnd_1
theorem dksX8_readAnd_0 : cX8_readAnd.data.toList.drop 0 = dktX8_readAnd_0 := by decide +kernel
theorem dksX8_readAnd_1 : cX8_readAnd.data.toList.drop 24 = dktX8_readAnd_1 := dk_seg dksX8_readAnd_0 24 rfl rfl
theorem dksX8_readAnd_2 : cX8_readAnd.data.toList.drop 48 = dktX8_readAnd_2 := dk_seg dksX8_readAnd_1 24 rfl rfl
theorem dX8_readAnd_0 : decode cX8_readAnd 0 = .ok (.aload_n 0, 1) := dk_42 (dk_at dksX8_readAnd_0 0 rfl rfl)
theorem dX8_readAnd_1 : decode cX8_readAnd 1 = .ok (.invokevirtual 374, 3) := dk_182 1 118 (dk_at dksX8_readAnd_0 1 rfl rfl)
theorem dX8_readAnd_4 : decode cX8_readAnd 4 = .ok (.ifCond .ne 5, 3) := dk_154 0 5 (dk_at dksX8_readAnd_0 4 rfl rfl)
theorem dX8_readAnd_7 : decode cX8_readAnd 7 = .ok (.iconst 0, 1) := dk_3 (dk_at dksX8_readAnd_0 7 rfl rfl)
theorem dX8_readAnd_8 : decode cX8_readAnd 8 = .ok (.ireturn, 1) := dk_172 (dk_at dksX8_readAnd_0 8 rfl rfl)
theorem dX8_readAnd_9 : decode cX8_readAnd 9 = .ok (.aload_n 0, 1) := dk_42 (dk_at dksX8_readAnd_0 9 rfl rfl)
theorem dX8_readAnd_10 : decode cX8_readAnd 10 = .ok (.getfield 368, 3) := dk_180 1 112 (dk_at dksX8_readAnd_0 10 rfl rfl)
theorem dX8_readAnd_13 : decode cX8_readAnd 13 = .ok (.istore_n 1, 1) := dk_60 (dk_at dksX8_readAnd_0 13 rfl rfl)
theorem dX8_readAnd_14 : decode cX8_readAnd 14 = .ok (.aload_n 0, 1) := dk_42 (dk_at dksX8_readAnd_0 14 rfl rfl)
theorem dX8_readAnd_15 : decode cX8_readAnd 15 = .ok (.bipush 10, 2) := dk_16 10 (dk_at dksX8_readAnd_0 15 rfl rfl)
theorem dX8_readAnd_17 : decode cX8_readAnd 17 = .ok (.invokevirtual 202, 3) := dk_182 0 202 (dk_at dksX8_readAnd_0 17 rfl rfl)
theorem dX8_readAnd_20 : decode cX8_readAnd 20 = .ok (.ifCond .eq 31, 3) := dk_153 0 31 (dk_at dksX8_readAnd_0 20 rfl rfl)
theorem dX8_readAnd_23 : decode cX8_readAnd 23 = .ok (.aload_n 0, 1) := dk_42 (dk_at dksX8_readAnd_0 23 rfl rfl)
theorem dX8_readAnd_24 : decode cX8_readAnd 24 = .ok (.invokevirtual 161, 3) := dk_182 0 161 (dk_at dksX8_readAnd_1 0 rfl rfl)
theorem dX8_readAnd_27 : decode cX8_readAnd 27 = .ok (.aload_n 0, 1) := dk_42 (dk_at dksX8_readAnd_1 3 rfl rfl)
theorem dX8_readAnd_28 : decode cX8_readAnd 28 = .ok (.invokevirtual 374, 3) := dk_182 1 118 (dk_at dksX8_readAnd_1 4 rfl rfl)
theorem dX8_readAnd_31 : decode cX8_readAnd 31 = .ok (.ifCond .ne 5, 3) := dk_154 0 5 (dk_at dksX8_readAnd_1 7 rfl rfl)
theorem dX8_readAnd_34 : decode cX8_readAnd 34 = .ok (.iconst 0, 1) := dk_3 (dk_at dksX8_readAnd_1 10 rfl rfl)
theorem dX8_readAnd_35 : decode cX8_readAnd 35 = .ok (.ireturn, 1) := dk_172 (dk_at dksX8_readAnd_1 11 rfl rfl)
theorem dX8_readAnd_36 : decode cX8_readAnd 36 = .ok (.aload_n 0, 1) := dk_42 (dk_at dksX8_readAnd_1 12 rfl rfl)
theorem dX8_readAnd_37 : decode cX8_readAnd 37 = .ok (.iconst 2, 1) := dk_5 (dk_at dksX8_readAnd_1 13 rfl rfl)
theorem dX8_readAnd_38 : decode cX8_readAnd 38 = .ok (.iload_n 1, 1) := dk_27 (dk_at dksX8_readAnd_1 14 rfl rfl)
theorem dX8_readAnd_39 : decode cX8_readAnd 39 = .ok (.aload_n 0, 1) := dk_42 (dk_at dksX8_readAnd_1 15 rfl rfl)
theorem dX8_readAnd_40 : decode cX8_readAnd 40 = .ok (.getfield 368, 3) := dk_180 1 112 (dk_at dksX8_readAnd_1 16 rfl rfl)
theorem dX8_readAnd_43 : decode cX8_readAnd 43 = .ok (.iconst 0, 1) := dk_3 (dk_at dksX8_readAnd_1 19 rfl rfl)
theorem dX8_readAnd_44 : decode cX8_readAnd 44 = .ok (.invokevirtual 371, 3) := dk_182 1 115 (dk_at dksX8_readAnd_1 20 rfl rfl)
theorem dX8_readAnd_47 : decode cX8_readAnd 47 = .ok (.istore_n 1, 1) := dk_60 (dk_at dksX8_readAnd_1 23 rfl rfl)
theorem dX8_readAnd_48 : decode cX8_readAnd 48 = .ok (.goto (-34), 3) := dk_167 255 222 (dk_at dksX8_readAnd_2 0 rfl rfl)
theorem dX8_readAnd_51 : decode cX8_readAnd 51 = .ok (.aload_n 0, 1) := dk_42 (dk_at dksX8_readAnd_2 3 rfl rfl)
theorem dX8_readAnd_52 : decode cX8_readAnd 52 = .ok (.iload_n 1, 1) := dk_27 (dk_at dksX8_readAnd_2 4 rfl rfl)
theorem dX8_readAnd_53 : decode cX8_readAnd 53 = .ok (.putfield 368, 3) := dk_181 1 112 (dk_at dksX8_readAnd_2 5 rfl rfl)
theorem dX8_readAnd_56 : decode cX8_readAnd 56 = .ok (.iconst 1, 1) := dk_4 (dk_at dksX8_readAnd_2 8 rfl rfl)
theorem dX8_readAnd_57 : decode cX8_readAnd 57 = .ok (.ireturn, 1) := dk_172 (dk_at dksX8_readAnd_2 9 rfl rfl)
abbrev cX8_readOne : ByteArray := prog_18_method_101_code
def yX8_readOne : MethodName := ⟨RX8, "readOne", "()Z"⟩
def dkwX8_readOne_7 : List UInt8 := [180, 1, 124, 4, 100, 181, 1, 124, 29, 172]
abbrev dktX8_readOne_7 : List UInt8 := dkwX8_readOne_7 ++ []
def dkwX8_readOne_6 : List UInt8 := [28, 16, 15, 162, 0, 11, 42, 28, 182, 1, 133, 167, 0, 8, 42, 28, 182, 1, 136, 62, 42, 89]
abbrev dktX8_readOne_6 : List UInt8 := dkwX8_readOne_6 ++ dktX8_readOne_7
def dkwX8_readOne_5 : List UInt8 := [167, 0, 44, 28, 16, 15, 160, 0, 18, 42, 42, 7, 3, 3, 3, 182, 1, 115, 181, 1, 112, 167, 0, 23]
abbrev dktX8_readOne_5 : List UInt8 := dkwX8_readOne_5 ++ dktX8_readOne_6
def dkwX8_readOne_4 : List UInt8 := [62, 27, 153, 0, 11, 42, 182, 1, 127, 62, 167, 0, 58, 28, 16, 11, 160, 0, 11, 42, 182, 1, 130, 62]
abbrev dktX8_readOne_4 : List UInt8 := dkwX8_readOne_4 ++ dktX8_readOne_5
def dkwX8_readOne_3 : List UInt8 := [89, 180, 1, 121, 4, 96, 181, 1, 121, 42, 89, 180, 1, 124, 4, 96, 181, 1, 124, 42, 182, 0, 161, 4]
abbrev dktX8_readOne_3 : List UInt8 := dkwX8_readOne_3 ++ dktX8_readOne_4
def dkwX8_readOne_2 : List UInt8 := [180, 1, 121, 16, 20, 159, 0, 12, 42, 180, 1, 124, 16, 8, 160, 0, 9, 42, 7, 182, 0, 151, 172, 42]
abbrev dktX8_readOne_2 : List UInt8 := dkwX8_readOne_2 ++ dktX8_readOne_3
def dkwX8_readOne_1 : List UInt8 := [132, 2, 1, 167, 255, 239, 27, 154, 0, 15, 28, 16, 18, 164, 0, 9, 42, 4, 182, 0, 151, 172, 42]
abbrev dktX8_readOne_1 : List UInt8 := dkwX8_readOne_1 ++ dktX8_readOne_2
def dkwX8_readOne_0 : List UInt8 := [42, 16, 40, 182, 0, 164, 60, 16, 11, 61, 28, 16, 18, 163, 0, 17, 42, 28, 182, 0, 202, 154, 0, 9]
abbrev dktX8_readOne_0 : List UInt8 := dkwX8_readOne_0 ++ dktX8_readOne_1
theorem dksX8_readOne_0 : cX8_readOne.data.toList.drop 0 = dktX8_readOne_0 := by decide +kernel
theorem dksX8_readOne_1 : cX8_readOne.data.toList.drop 24 = dktX8_readOne_1 := dk_seg dksX8_readOne_0 24 rfl rfl
theorem dksX8_readOne_2 : cX8_readOne.data.toList.drop 47 = dktX8_readOne_2 := dk_seg dksX8_readOne_1 23 rfl rfl
theorem dksX8_readOne_3 : cX8_readOne.data.toList.drop 71 = dktX8_readOne_3 := dk_seg dksX8_readOne_2 24 rfl rfl
theorem dksX8_readOne_4 : cX8_readOne.data.toList.drop 95 = dktX8_readOne_4 := dk_seg dksX8_readOne_3 24 rfl rfl
theorem dksX8_readOne_5 : cX8_readOne.data.toList.drop 119 = dktX8_readOne_5 := dk_seg dksX8_readOne_4 24 rfl rfl
theorem dksX8_readOne_6 : cX8_readOne.data.toList.drop 143 = dktX8_readOne_6 := dk_seg dksX8_readOne_5 24 rfl rfl
theorem dksX8_readOne_7 : cX8_readOne.data.toList.drop 165 = dktX8_readOne_7 := dk_seg dksX8_readOne_6 22 rfl rfl
theorem dX8_readOne_0 : decode cX8_readOne 0 = .ok (.aload_n 0, 1) := dk_42 (dk_at dksX8_readOne_0 0 rfl rfl)
theorem dX8_readOne_1 : decode cX8_readOne 1 = .ok (.bipush 40, 2) := dk_16 40 (dk_at dksX8_readOne_0 1 rfl rfl)
theorem dX8_readOne_3 : decode cX8_readOne 3 = .ok (.invokevirtual 164, 3) := dk_182 0 164 (dk_at dksX8_readOne_0 3 rfl rfl)
theorem dX8_readOne_6 : decode cX8_readOne 6 = .ok (.istore_n 1, 1) := dk_60 (dk_at dksX8_readOne_0 6 rfl rfl)
theorem dX8_readOne_7 : decode cX8_readOne 7 = .ok (.bipush 11, 2) := dk_16 11 (dk_at dksX8_readOne_0 7 rfl rfl)
theorem dX8_readOne_9 : decode cX8_readOne 9 = .ok (.istore_n 2, 1) := dk_61 (dk_at dksX8_readOne_0 9 rfl rfl)
theorem dX8_readOne_10 : decode cX8_readOne 10 = .ok (.iload_n 2, 1) := dk_28 (dk_at dksX8_readOne_0 10 rfl rfl)
theorem dX8_readOne_11 : decode cX8_readOne 11 = .ok (.bipush 18, 2) := dk_16 18 (dk_at dksX8_readOne_0 11 rfl rfl)
theorem dX8_readOne_13 : decode cX8_readOne 13 = .ok (.if_icmp .gt 17, 3) := dk_163 0 17 (dk_at dksX8_readOne_0 13 rfl rfl)
theorem dX8_readOne_16 : decode cX8_readOne 16 = .ok (.aload_n 0, 1) := dk_42 (dk_at dksX8_readOne_0 16 rfl rfl)
theorem dX8_readOne_17 : decode cX8_readOne 17 = .ok (.iload_n 2, 1) := dk_28 (dk_at dksX8_readOne_0 17 rfl rfl)
theorem dX8_readOne_18 : decode cX8_readOne 18 = .ok (.invokevirtual 202, 3) := dk_182 0 202 (dk_at dksX8_readOne_0 18 rfl rfl)
theorem dX8_readOne_21 : decode cX8_readOne 21 = .ok (.ifCond .ne 9, 3) := dk_154 0 9 (dk_at dksX8_readOne_0 21 rfl rfl)
theorem dX8_readOne_24 : decode cX8_readOne 24 = .ok (.iinc 2 1, 3) := dk_132 2 1 (dk_at dksX8_readOne_1 0 rfl rfl)
theorem dX8_readOne_27 : decode cX8_readOne 27 = .ok (.goto (-17), 3) := dk_167 255 239 (dk_at dksX8_readOne_1 3 rfl rfl)
theorem dX8_readOne_30 : decode cX8_readOne 30 = .ok (.iload_n 1, 1) := dk_27 (dk_at dksX8_readOne_1 6 rfl rfl)
theorem dX8_readOne_31 : decode cX8_readOne 31 = .ok (.ifCond .ne 15, 3) := dk_154 0 15 (dk_at dksX8_readOne_1 7 rfl rfl)
theorem dX8_readOne_34 : decode cX8_readOne 34 = .ok (.iload_n 2, 1) := dk_28 (dk_at dksX8_readOne_1 10 rfl rfl)
theorem dX8_readOne_35 : decode cX8_readOne 35 = .ok (.bipush 18, 2) := dk_16 18 (dk_at dksX8_readOne_1 11 rfl rfl)
theorem dX8_readOne_37 : decode cX8_readOne 37 = .ok (.if_icmp .le 9, 3) := dk_164 0 9 (dk_at dksX8_readOne_1 13 rfl rfl)
theorem dX8_readOne_40 : decode cX8_readOne 40 = .ok (.aload_n 0, 1) := dk_42 (dk_at dksX8_readOne_1 16 rfl rfl)
theorem dX8_readOne_41 : decode cX8_readOne 41 = .ok (.iconst 1, 1) := dk_4 (dk_at dksX8_readOne_1 17 rfl rfl)
theorem dX8_readOne_42 : decode cX8_readOne 42 = .ok (.invokevirtual 151, 3) := dk_182 0 151 (dk_at dksX8_readOne_1 18 rfl rfl)
theorem dX8_readOne_45 : decode cX8_readOne 45 = .ok (.ireturn, 1) := dk_172 (dk_at dksX8_readOne_1 21 rfl rfl)
theorem dX8_readOne_46 : decode cX8_readOne 46 = .ok (.aload_n 0, 1) := dk_42 (dk_at dksX8_readOne_1 22 rfl rfl)
theorem dX8_readOne_47 : decode cX8_readOne 47 = .ok (.getfield 377, 3) := dk_180 1 121 (dk_at dksX8_readOne_2 0 rfl rfl)
theorem dX8_readOne_50 : decode cX8_readOne 50 = .ok (.bipush 20, 2) := dk_16 20 (dk_at dksX8_readOne_2 3 rfl rfl)
theorem dX8_readOne_52 : decode cX8_readOne 52 = .ok (.if_icmp .eq 12, 3) := dk_159 0 12 (dk_at dksX8_readOne_2 5 rfl rfl)
theorem dX8_readOne_55 : decode cX8_readOne 55 = .ok (.aload_n 0, 1) := dk_42 (dk_at dksX8_readOne_2 8 rfl rfl)
theorem dX8_readOne_56 : decode cX8_readOne 56 = .ok (.getfield 380, 3) := dk_180 1 124 (dk_at dksX8_readOne_2 9 rfl rfl)
theorem dX8_readOne_59 : decode cX8_readOne 59 = .ok (.bipush 8, 2) := dk_16 8 (dk_at dksX8_readOne_2 12 rfl rfl)
theorem dX8_readOne_61 : decode cX8_readOne 61 = .ok (.if_icmp .ne 9, 3) := dk_160 0 9 (dk_at dksX8_readOne_2 14 rfl rfl)
theorem dX8_readOne_64 : decode cX8_readOne 64 = .ok (.aload_n 0, 1) := dk_42 (dk_at dksX8_readOne_2 17 rfl rfl)
theorem dX8_readOne_65 : decode cX8_readOne 65 = .ok (.iconst 4, 1) := dk_7 (dk_at dksX8_readOne_2 18 rfl rfl)
theorem dX8_readOne_66 : decode cX8_readOne 66 = .ok (.invokevirtual 151, 3) := dk_182 0 151 (dk_at dksX8_readOne_2 19 rfl rfl)
theorem dX8_readOne_69 : decode cX8_readOne 69 = .ok (.ireturn, 1) := dk_172 (dk_at dksX8_readOne_2 22 rfl rfl)
theorem dX8_readOne_70 : decode cX8_readOne 70 = .ok (.aload_n 0, 1) := dk_42 (dk_at dksX8_readOne_2 23 rfl rfl)
theorem dX8_readOne_71 : decode cX8_readOne 71 = .ok (.dup, 1) := dk_89 (dk_at dksX8_readOne_3 0 rfl rfl)
theorem dX8_readOne_72 : decode cX8_readOne 72 = .ok (.getfield 377, 3) := dk_180 1 121 (dk_at dksX8_readOne_3 1 rfl rfl)
theorem dX8_readOne_75 : decode cX8_readOne 75 = .ok (.iconst 1, 1) := dk_4 (dk_at dksX8_readOne_3 4 rfl rfl)
theorem dX8_readOne_76 : decode cX8_readOne 76 = .ok (.iadd, 1) := dk_96 (dk_at dksX8_readOne_3 5 rfl rfl)
theorem dX8_readOne_77 : decode cX8_readOne 77 = .ok (.putfield 377, 3) := dk_181 1 121 (dk_at dksX8_readOne_3 6 rfl rfl)
theorem dX8_readOne_80 : decode cX8_readOne 80 = .ok (.aload_n 0, 1) := dk_42 (dk_at dksX8_readOne_3 9 rfl rfl)
theorem dX8_readOne_81 : decode cX8_readOne 81 = .ok (.dup, 1) := dk_89 (dk_at dksX8_readOne_3 10 rfl rfl)
theorem dX8_readOne_82 : decode cX8_readOne 82 = .ok (.getfield 380, 3) := dk_180 1 124 (dk_at dksX8_readOne_3 11 rfl rfl)
theorem dX8_readOne_85 : decode cX8_readOne 85 = .ok (.iconst 1, 1) := dk_4 (dk_at dksX8_readOne_3 14 rfl rfl)
theorem dX8_readOne_86 : decode cX8_readOne 86 = .ok (.iadd, 1) := dk_96 (dk_at dksX8_readOne_3 15 rfl rfl)
theorem dX8_readOne_87 : decode cX8_readOne 87 = .ok (.putfield 380, 3) := dk_181 1 124 (dk_at dksX8_readOne_3 16 rfl rfl)
theorem dX8_readOne_90 : decode cX8_readOne 90 = .ok (.aload_n 0, 1) := dk_42 (dk_at dksX8_readOne_3 19 rfl rfl)
theorem dX8_readOne_91 : decode cX8_readOne 91 = .ok (.invokevirtual 161, 3) := dk_182 0 161 (dk_at dksX8_readOne_3 20 rfl rfl)
theorem dX8_readOne_94 : decode cX8_readOne 94 = .ok (.iconst 1, 1) := dk_4 (dk_at dksX8_readOne_3 23 rfl rfl)
theorem dX8_readOne_95 : decode cX8_readOne 95 = .ok (.istore_n 3, 1) := dk_62 (dk_at dksX8_readOne_4 0 rfl rfl)
theorem dX8_readOne_96 : decode cX8_readOne 96 = .ok (.iload_n 1, 1) := dk_27 (dk_at dksX8_readOne_4 1 rfl rfl)
theorem dX8_readOne_97 : decode cX8_readOne 97 = .ok (.ifCond .eq 11, 3) := dk_153 0 11 (dk_at dksX8_readOne_4 2 rfl rfl)
theorem dX8_readOne_100 : decode cX8_readOne 100 = .ok (.aload_n 0, 1) := dk_42 (dk_at dksX8_readOne_4 5 rfl rfl)
theorem dX8_readOne_101 : decode cX8_readOne 101 = .ok (.invokevirtual 383, 3) := dk_182 1 127 (dk_at dksX8_readOne_4 6 rfl rfl)
theorem dX8_readOne_104 : decode cX8_readOne 104 = .ok (.istore_n 3, 1) := dk_62 (dk_at dksX8_readOne_4 9 rfl rfl)
theorem dX8_readOne_105 : decode cX8_readOne 105 = .ok (.goto 58, 3) := dk_167 0 58 (dk_at dksX8_readOne_4 10 rfl rfl)
theorem dX8_readOne_108 : decode cX8_readOne 108 = .ok (.iload_n 2, 1) := dk_28 (dk_at dksX8_readOne_4 13 rfl rfl)
theorem dX8_readOne_109 : decode cX8_readOne 109 = .ok (.bipush 11, 2) := dk_16 11 (dk_at dksX8_readOne_4 14 rfl rfl)
theorem dX8_readOne_111 : decode cX8_readOne 111 = .ok (.if_icmp .ne 11, 3) := dk_160 0 11 (dk_at dksX8_readOne_4 16 rfl rfl)
theorem dX8_readOne_114 : decode cX8_readOne 114 = .ok (.aload_n 0, 1) := dk_42 (dk_at dksX8_readOne_4 19 rfl rfl)
theorem dX8_readOne_115 : decode cX8_readOne 115 = .ok (.invokevirtual 386, 3) := dk_182 1 130 (dk_at dksX8_readOne_4 20 rfl rfl)
theorem dX8_readOne_118 : decode cX8_readOne 118 = .ok (.istore_n 3, 1) := dk_62 (dk_at dksX8_readOne_4 23 rfl rfl)
theorem dX8_readOne_119 : decode cX8_readOne 119 = .ok (.goto 44, 3) := dk_167 0 44 (dk_at dksX8_readOne_5 0 rfl rfl)
theorem dX8_readOne_122 : decode cX8_readOne 122 = .ok (.iload_n 2, 1) := dk_28 (dk_at dksX8_readOne_5 3 rfl rfl)
theorem dX8_readOne_123 : decode cX8_readOne 123 = .ok (.bipush 15, 2) := dk_16 15 (dk_at dksX8_readOne_5 4 rfl rfl)
theorem dX8_readOne_125 : decode cX8_readOne 125 = .ok (.if_icmp .ne 18, 3) := dk_160 0 18 (dk_at dksX8_readOne_5 6 rfl rfl)
theorem dX8_readOne_128 : decode cX8_readOne 128 = .ok (.aload_n 0, 1) := dk_42 (dk_at dksX8_readOne_5 9 rfl rfl)
theorem dX8_readOne_129 : decode cX8_readOne 129 = .ok (.aload_n 0, 1) := dk_42 (dk_at dksX8_readOne_5 10 rfl rfl)
theorem dX8_readOne_130 : decode cX8_readOne 130 = .ok (.iconst 4, 1) := dk_7 (dk_at dksX8_readOne_5 11 rfl rfl)
theorem dX8_readOne_131 : decode cX8_readOne 131 = .ok (.iconst 0, 1) := dk_3 (dk_at dksX8_readOne_5 12 rfl rfl)
theorem dX8_readOne_132 : decode cX8_readOne 132 = .ok (.iconst 0, 1) := dk_3 (dk_at dksX8_readOne_5 13 rfl rfl)
theorem dX8_readOne_133 : decode cX8_readOne 133 = .ok (.iconst 0, 1) := dk_3 (dk_at dksX8_readOne_5 14 rfl rfl)
theorem dX8_readOne_134 : decode cX8_readOne 134 = .ok (.invokevirtual 371, 3) := dk_182 1 115 (dk_at dksX8_readOne_5 15 rfl rfl)
theorem dX8_readOne_137 : decode cX8_readOne 137 = .ok (.putfield 368, 3) := dk_181 1 112 (dk_at dksX8_readOne_5 18 rfl rfl)
theorem dX8_readOne_140 : decode cX8_readOne 140 = .ok (.goto 23, 3) := dk_167 0 23 (dk_at dksX8_readOne_5 21 rfl rfl)
theorem dX8_readOne_143 : decode cX8_readOne 143 = .ok (.iload_n 2, 1) := dk_28 (dk_at dksX8_readOne_6 0 rfl rfl)
theorem dX8_readOne_144 : decode cX8_readOne 144 = .ok (.bipush 15, 2) := dk_16 15 (dk_at dksX8_readOne_6 1 rfl rfl)
theorem dX8_readOne_146 : decode cX8_readOne 146 = .ok (.if_icmp .ge 11, 3) := dk_162 0 11 (dk_at dksX8_readOne_6 3 rfl rfl)
theorem dX8_readOne_149 : decode cX8_readOne 149 = .ok (.aload_n 0, 1) := dk_42 (dk_at dksX8_readOne_6 6 rfl rfl)
theorem dX8_readOne_150 : decode cX8_readOne 150 = .ok (.iload_n 2, 1) := dk_28 (dk_at dksX8_readOne_6 7 rfl rfl)
theorem dX8_readOne_151 : decode cX8_readOne 151 = .ok (.invokevirtual 389, 3) := dk_182 1 133 (dk_at dksX8_readOne_6 8 rfl rfl)
theorem dX8_readOne_154 : decode cX8_readOne 154 = .ok (.goto 8, 3) := dk_167 0 8 (dk_at dksX8_readOne_6 11 rfl rfl)
theorem dX8_readOne_157 : decode cX8_readOne 157 = .ok (.aload_n 0, 1) := dk_42 (dk_at dksX8_readOne_6 14 rfl rfl)
theorem dX8_readOne_158 : decode cX8_readOne 158 = .ok (.iload_n 2, 1) := dk_28 (dk_at dksX8_readOne_6 15 rfl rfl)
theorem dX8_readOne_159 : decode cX8_readOne 159 = .ok (.invokevirtual 392, 3) := dk_182 1 136 (dk_at dksX8_readOne_6 16 rfl rfl)
theorem dX8_readOne_162 : decode cX8_readOne 162 = .ok (.istore_n 3, 1) := dk_62 (dk_at dksX8_readOne_6 19 rfl rfl)
theorem dX8_readOne_163 : decode cX8_readOne 163 = .ok (.aload_n 0, 1) := dk_42 (dk_at dksX8_readOne_6 20 rfl rfl)
theorem dX8_readOne_164 : decode cX8_readOne 164 = .ok (.dup, 1) := dk_89 (dk_at dksX8_readOne_6 21 rfl rfl)
theorem dX8_readOne_165 : decode cX8_readOne 165 = .ok (.getfield 380, 3) := dk_180 1 124 (dk_at dksX8_readOne_7 0 rfl rfl)
theorem dX8_readOne_168 : decode cX8_readOne 168 = .ok (.iconst 1, 1) := dk_4 (dk_at dksX8_readOne_7 3 rfl rfl)
theorem dX8_readOne_169 : decode cX8_readOne 169 = .ok (.isub, 1) := dk_100 (dk_at dksX8_readOne_7 4 rfl rfl)
theorem dX8_readOne_170 : decode cX8_readOne 170 = .ok (.putfield 380, 3) := dk_181 1 124 (dk_at dksX8_readOne_7 5 rfl rfl)
theorem dX8_readOne_173 : decode cX8_readOne 173 = .ok (.iload_n 3, 1) := dk_29 (dk_at dksX8_readOne_7 8 rfl rfl)
theorem dX8_readOne_174 : decode cX8_readOne 174 = .ok (.ireturn, 1) := dk_172 (dk_at dksX8_readOne_7 9 rfl rfl)
abbrev cX8_readBracket : ByteArray := prog_18_method_103_code
def yX8_readBracket : MethodName := ⟨RX8, "readBracket", "()Z"⟩
def dkwX8_readBracket_1 : List UInt8 := [42, 182, 0, 161, 4, 172]
abbrev dktX8_readBracket_1 : List UInt8 := dkwX8_readBracket_1 ++ []
def dkwX8_readBracket_0 : List UInt8 := [42, 182, 1, 139, 154, 0, 5, 3, 172, 42, 16, 41, 182, 0, 164, 154, 0, 9, 42, 4, 182, 0, 151, 172]
abbrev dktX8_readBracket_0 : List UInt8 := dkwX8_readBracket_0 ++ dktX8_readBracket_1
theorem dksX8_readBracket_0 : cX8_readBracket.data.toList.drop 0 = dktX8_readBracket_0 := by decide +kernel
theorem dksX8_readBracket_1 : cX8_readBracket.data.toList.drop 24 = dktX8_readBracket_1 := dk_seg dksX8_readBracket_0 24 rfl rfl
theorem dX8_readBracket_0 : decode cX8_readBracket 0 = .ok (.aload_n 0, 1) := dk_42 (dk_at dksX8_readBracket_0 0 rfl rfl)
theorem dX8_readBracket_1 : decode cX8_readBracket 1 = .ok (.invokevirtual 395, 3) := dk_182 1 139 (dk_at dksX8_readBracket_0 1 rfl rfl)
theorem dX8_readBracket_4 : decode cX8_readBracket 4 = .ok (.ifCond .ne 5, 3) := dk_154 0 5 (dk_at dksX8_readBracket_0 4 rfl rfl)
theorem dX8_readBracket_7 : decode cX8_readBracket 7 = .ok (.iconst 0, 1) := dk_3 (dk_at dksX8_readBracket_0 7 rfl rfl)
theorem dX8_readBracket_8 : decode cX8_readBracket 8 = .ok (.ireturn, 1) := dk_172 (dk_at dksX8_readBracket_0 8 rfl rfl)
theorem dX8_readBracket_9 : decode cX8_readBracket 9 = .ok (.aload_n 0, 1) := dk_42 (dk_at dksX8_readBracket_0 9 rfl rfl)
theorem dX8_readBracket_10 : decode cX8_readBracket 10 = .ok (.bipush 41, 2) := dk_16 41 (dk_at dksX8_readBracket_0 10 rfl rfl)
theorem dX8_readBracket_12 : decode cX8_readBracket 12 = .ok (.invokevirtual 164, 3) := dk_182 0 164 (dk_at dksX8_readBracket_0 12 rfl rfl)
theorem dX8_readBracket_15 : decode cX8_readBracket 15 = .ok (.ifCond .ne 9, 3) := dk_154 0 9 (dk_at dksX8_readBracket_0 15 rfl rfl)
theorem dX8_readBracket_18 : decode cX8_readBracket 18 = .ok (.aload_n 0, 1) := dk_42 (dk_at dksX8_readBracket_0 18 rfl rfl)
theorem dX8_readBracket_19 : decode cX8_readBracket 19 = .ok (.iconst 1, 1) := dk_4 (dk_at dksX8_readBracket_0 19 rfl rfl)
theorem dX8_readBracket_20 : decode cX8_readBracket 20 = .ok (.invokevirtual 151, 3) := dk_182 0 151 (dk_at dksX8_readBracket_0 20 rfl rfl)
theorem dX8_readBracket_23 : decode cX8_readBracket 23 = .ok (.ireturn, 1) := dk_172 (dk_at dksX8_readBracket_0 23 rfl rfl)
theorem dX8_readBracket_24 : decode cX8_readBracket 24 = .ok (.aload_n 0, 1) := dk_42 (dk_at dksX8_readBracket_1 0 rfl rfl)
theorem dX8_readBracket_25 : decode cX8_readBracket 25 = .ok (.invokevirtual 161, 3) := dk_182 0 161 (dk_at dksX8_readBracket_1 1 rfl rfl)
theorem dX8_readBracket_28 : decode cX8_readBracket 28 = .ok (.iconst 1, 1) := dk_4 (dk_at dksX8_readBracket_1 4 rfl rfl)
theorem dX8_readBracket_29 : decode cX8_readBracket 29 = .ok (.ireturn, 1) := dk_172 (dk_at dksX8_readBracket_1 5 rfl rfl)
abbrev cX8_readNot : ByteArray := prog_18_method_102_code
def yX8_readNot : MethodName := ⟨RX8, "readNot", "()Z"⟩
def dkwX8_readNot_1 : List UInt8 := [4, 172]
abbrev dktX8_readNot_1 : List UInt8 := dkwX8_readNot_1 ++ []
def dkwX8_readNot_0 : List UInt8 := [42, 182, 1, 118, 154, 0, 5, 3, 172, 42, 42, 4, 42, 180, 1, 112, 3, 3, 182, 1, 115, 181, 1, 112]
abbrev dktX8_readNot_0 : List UInt8 := dkwX8_readNot_0 ++ dktX8_readNot_1
theorem dksX8_readNot_0 : cX8_readNot.data.toList.drop 0 = dktX8_readNot_0 := by decide +kernel
theorem dksX8_readNot_1 : cX8_readNot.data.toList.drop 24 = dktX8_readNot_1 := dk_seg dksX8_readNot_0 24 rfl rfl
theorem dX8_readNot_0 : decode cX8_readNot 0 = .ok (.aload_n 0, 1) := dk_42 (dk_at dksX8_readNot_0 0 rfl rfl)
theorem dX8_readNot_1 : decode cX8_readNot 1 = .ok (.invokevirtual 374, 3) := dk_182 1 118 (dk_at dksX8_readNot_0 1 rfl rfl)
theorem dX8_readNot_4 : decode cX8_readNot 4 = .ok (.ifCond .ne 5, 3) := dk_154 0 5 (dk_at dksX8_readNot_0 4 rfl rfl)
theorem dX8_readNot_7 : decode cX8_readNot 7 = .ok (.iconst 0, 1) := dk_3 (dk_at dksX8_readNot_0 7 rfl rfl)
theorem dX8_readNot_8 : decode cX8_readNot 8 = .ok (.ireturn, 1) := dk_172 (dk_at dksX8_readNot_0 8 rfl rfl)
theorem dX8_readNot_9 : decode cX8_readNot 9 = .ok (.aload_n 0, 1) := dk_42 (dk_at dksX8_readNot_0 9 rfl rfl)
theorem dX8_readNot_10 : decode cX8_readNot 10 = .ok (.aload_n 0, 1) := dk_42 (dk_at dksX8_readNot_0 10 rfl rfl)
theorem dX8_readNot_11 : decode cX8_readNot 11 = .ok (.iconst 1, 1) := dk_4 (dk_at dksX8_readNot_0 11 rfl rfl)
theorem dX8_readNot_12 : decode cX8_readNot 12 = .ok (.aload_n 0, 1) := dk_42 (dk_at dksX8_readNot_0 12 rfl rfl)
theorem dX8_readNot_13 : decode cX8_readNot 13 = .ok (.getfield 368, 3) := dk_180 1 112 (dk_at dksX8_readNot_0 13 rfl rfl)
theorem dX8_readNot_16 : decode cX8_readNot 16 = .ok (.iconst 0, 1) := dk_3 (dk_at dksX8_readNot_0 16 rfl rfl)
theorem dX8_readNot_17 : decode cX8_readNot 17 = .ok (.iconst 0, 1) := dk_3 (dk_at dksX8_readNot_0 17 rfl rfl)
theorem dX8_readNot_18 : decode cX8_readNot 18 = .ok (.invokevirtual 371, 3) := dk_182 1 115 (dk_at dksX8_readNot_0 18 rfl rfl)
theorem dX8_readNot_21 : decode cX8_readNot 21 = .ok (.putfield 368, 3) := dk_181 1 112 (dk_at dksX8_readNot_0 21 rfl rfl)
theorem dX8_readNot_24 : decode cX8_readNot 24 = .ok (.iconst 1, 1) := dk_4 (dk_at dksX8_readNot_1 0 rfl rfl)
theorem dX8_readNot_25 : decode cX8_readNot 25 = .ok (.ireturn, 1) := dk_172 (dk_at dksX8_readNot_1 1 rfl rfl)
abbrev cX8_lays : ByteArray := prog_18_method_98_code
def yX8_lays : MethodName := ⟨RX8, "lays", "(IIII)I"⟩
def dkwX8_lays_2 : List UInt8 := [89, 180, 1, 106, 4, 96, 181, 1, 106, 42, 180, 1, 106, 4, 100, 172]
abbrev dktX8_lays_2 : List UInt8 := dkwX8_lays_2 ++ []
def dkwX8_lays_1 : List UInt8 := [28, 79, 42, 180, 0, 80, 21, 5, 5, 96, 29, 79, 42, 180, 0, 80, 21, 5, 6, 96, 21, 4, 79, 42]
abbrev dktX8_lays_1 : List UInt8 := dkwX8_lays_1 ++ dktX8_lays_2
def dkwX8_lays_0 : List UInt8 := [7, 42, 180, 1, 106, 104, 54, 5, 42, 180, 0, 80, 21, 5, 27, 79, 42, 180, 0, 80, 21, 5, 4, 96]
abbrev dktX8_lays_0 : List UInt8 := dkwX8_lays_0 ++ dktX8_lays_1
theorem dksX8_lays_0 : cX8_lays.data.toList.drop 0 = dktX8_lays_0 := by decide +kernel
theorem dksX8_lays_1 : cX8_lays.data.toList.drop 24 = dktX8_lays_1 := dk_seg dksX8_lays_0 24 rfl rfl
theorem dksX8_lays_2 : cX8_lays.data.toList.drop 48 = dktX8_lays_2 := dk_seg dksX8_lays_1 24 rfl rfl
theorem dX8_lays_0 : decode cX8_lays 0 = .ok (.iconst 4, 1) := dk_7 (dk_at dksX8_lays_0 0 rfl rfl)
theorem dX8_lays_1 : decode cX8_lays 1 = .ok (.aload_n 0, 1) := dk_42 (dk_at dksX8_lays_0 1 rfl rfl)
theorem dX8_lays_2 : decode cX8_lays 2 = .ok (.getfield 362, 3) := dk_180 1 106 (dk_at dksX8_lays_0 2 rfl rfl)
theorem dX8_lays_5 : decode cX8_lays 5 = .ok (.imul, 1) := dk_104 (dk_at dksX8_lays_0 5 rfl rfl)
theorem dX8_lays_6 : decode cX8_lays 6 = .ok (.istore 5, 2) := dk_54 5 (dk_at dksX8_lays_0 6 rfl rfl)
theorem dX8_lays_8 : decode cX8_lays 8 = .ok (.aload_n 0, 1) := dk_42 (dk_at dksX8_lays_0 8 rfl rfl)
theorem dX8_lays_9 : decode cX8_lays 9 = .ok (.getfield 80, 3) := dk_180 0 80 (dk_at dksX8_lays_0 9 rfl rfl)
theorem dX8_lays_12 : decode cX8_lays 12 = .ok (.iload 5, 2) := dk_21 5 (dk_at dksX8_lays_0 12 rfl rfl)
theorem dX8_lays_14 : decode cX8_lays 14 = .ok (.iload_n 1, 1) := dk_27 (dk_at dksX8_lays_0 14 rfl rfl)
theorem dX8_lays_15 : decode cX8_lays 15 = .ok (.iastore, 1) := dk_79 (dk_at dksX8_lays_0 15 rfl rfl)
theorem dX8_lays_16 : decode cX8_lays 16 = .ok (.aload_n 0, 1) := dk_42 (dk_at dksX8_lays_0 16 rfl rfl)
theorem dX8_lays_17 : decode cX8_lays 17 = .ok (.getfield 80, 3) := dk_180 0 80 (dk_at dksX8_lays_0 17 rfl rfl)
theorem dX8_lays_20 : decode cX8_lays 20 = .ok (.iload 5, 2) := dk_21 5 (dk_at dksX8_lays_0 20 rfl rfl)
theorem dX8_lays_22 : decode cX8_lays 22 = .ok (.iconst 1, 1) := dk_4 (dk_at dksX8_lays_0 22 rfl rfl)
theorem dX8_lays_23 : decode cX8_lays 23 = .ok (.iadd, 1) := dk_96 (dk_at dksX8_lays_0 23 rfl rfl)
theorem dX8_lays_24 : decode cX8_lays 24 = .ok (.iload_n 2, 1) := dk_28 (dk_at dksX8_lays_1 0 rfl rfl)
theorem dX8_lays_25 : decode cX8_lays 25 = .ok (.iastore, 1) := dk_79 (dk_at dksX8_lays_1 1 rfl rfl)
theorem dX8_lays_26 : decode cX8_lays 26 = .ok (.aload_n 0, 1) := dk_42 (dk_at dksX8_lays_1 2 rfl rfl)
theorem dX8_lays_27 : decode cX8_lays 27 = .ok (.getfield 80, 3) := dk_180 0 80 (dk_at dksX8_lays_1 3 rfl rfl)
theorem dX8_lays_30 : decode cX8_lays 30 = .ok (.iload 5, 2) := dk_21 5 (dk_at dksX8_lays_1 6 rfl rfl)
theorem dX8_lays_32 : decode cX8_lays 32 = .ok (.iconst 2, 1) := dk_5 (dk_at dksX8_lays_1 8 rfl rfl)
theorem dX8_lays_33 : decode cX8_lays 33 = .ok (.iadd, 1) := dk_96 (dk_at dksX8_lays_1 9 rfl rfl)
theorem dX8_lays_34 : decode cX8_lays 34 = .ok (.iload_n 3, 1) := dk_29 (dk_at dksX8_lays_1 10 rfl rfl)
theorem dX8_lays_35 : decode cX8_lays 35 = .ok (.iastore, 1) := dk_79 (dk_at dksX8_lays_1 11 rfl rfl)
theorem dX8_lays_36 : decode cX8_lays 36 = .ok (.aload_n 0, 1) := dk_42 (dk_at dksX8_lays_1 12 rfl rfl)
theorem dX8_lays_37 : decode cX8_lays 37 = .ok (.getfield 80, 3) := dk_180 0 80 (dk_at dksX8_lays_1 13 rfl rfl)
theorem dX8_lays_40 : decode cX8_lays 40 = .ok (.iload 5, 2) := dk_21 5 (dk_at dksX8_lays_1 16 rfl rfl)
theorem dX8_lays_42 : decode cX8_lays 42 = .ok (.iconst 3, 1) := dk_6 (dk_at dksX8_lays_1 18 rfl rfl)
theorem dX8_lays_43 : decode cX8_lays 43 = .ok (.iadd, 1) := dk_96 (dk_at dksX8_lays_1 19 rfl rfl)
theorem dX8_lays_44 : decode cX8_lays 44 = .ok (.iload 4, 2) := dk_21 4 (dk_at dksX8_lays_1 20 rfl rfl)
theorem dX8_lays_46 : decode cX8_lays 46 = .ok (.iastore, 1) := dk_79 (dk_at dksX8_lays_1 22 rfl rfl)
theorem dX8_lays_47 : decode cX8_lays 47 = .ok (.aload_n 0, 1) := dk_42 (dk_at dksX8_lays_1 23 rfl rfl)
theorem dX8_lays_48 : decode cX8_lays 48 = .ok (.dup, 1) := dk_89 (dk_at dksX8_lays_2 0 rfl rfl)
theorem dX8_lays_49 : decode cX8_lays 49 = .ok (.getfield 362, 3) := dk_180 1 106 (dk_at dksX8_lays_2 1 rfl rfl)
theorem dX8_lays_52 : decode cX8_lays 52 = .ok (.iconst 1, 1) := dk_4 (dk_at dksX8_lays_2 4 rfl rfl)
theorem dX8_lays_53 : decode cX8_lays 53 = .ok (.iadd, 1) := dk_96 (dk_at dksX8_lays_2 5 rfl rfl)
theorem dX8_lays_54 : decode cX8_lays 54 = .ok (.putfield 362, 3) := dk_181 1 106 (dk_at dksX8_lays_2 6 rfl rfl)
theorem dX8_lays_57 : decode cX8_lays 57 = .ok (.aload_n 0, 1) := dk_42 (dk_at dksX8_lays_2 9 rfl rfl)
theorem dX8_lays_58 : decode cX8_lays 58 = .ok (.getfield 362, 3) := dk_180 1 106 (dk_at dksX8_lays_2 10 rfl rfl)
theorem dX8_lays_61 : decode cX8_lays 61 = .ok (.iconst 1, 1) := dk_4 (dk_at dksX8_lays_2 13 rfl rfl)
theorem dX8_lays_62 : decode cX8_lays 62 = .ok (.isub, 1) := dk_100 (dk_at dksX8_lays_2 14 rfl rfl)
theorem dX8_lays_63 : decode cX8_lays 63 = .ok (.ireturn, 1) := dk_172 (dk_at dksX8_lays_2 15 rfl rfl)
abbrev cX8_readNamed : ByteArray := prog_18_method_104_code
def yX8_readNamed : MethodName := ⟨RX8, "readNamed", "(I)Z"⟩
def dkwX8_readNamed_2 : List UInt8 := [182, 1, 115, 181, 1, 112, 42, 182, 0, 161, 4, 172]
abbrev dktX8_readNamed_2 : List UInt8 := dkwX8_readNamed_2 ++ []
def dkwX8_readNamed_1 : List UInt8 := [182, 0, 195, 61, 28, 2, 160, 0, 9, 42, 6, 182, 0, 151, 172, 42, 42, 16, 50, 27, 96, 28, 3, 3]
abbrev dktX8_readNamed_1 : List UInt8 := dkwX8_readNamed_1 ++ dktX8_readNamed_2
def dkwX8_readNamed_0 : List UInt8 := [42, 182, 0, 191, 154, 0, 9, 42, 4, 182, 0, 151, 172, 42, 42, 180, 0, 26, 3, 42, 182, 0, 182]
abbrev dktX8_readNamed_0 : List UInt8 := dkwX8_readNamed_0 ++ dktX8_readNamed_1
theorem dksX8_readNamed_0 : cX8_readNamed.data.toList.drop 0 = dktX8_readNamed_0 := by decide +kernel
theorem dksX8_readNamed_1 : cX8_readNamed.data.toList.drop 23 = dktX8_readNamed_1 := dk_seg dksX8_readNamed_0 23 rfl rfl
theorem dksX8_readNamed_2 : cX8_readNamed.data.toList.drop 47 = dktX8_readNamed_2 := dk_seg dksX8_readNamed_1 24 rfl rfl
theorem dX8_readNamed_0 : decode cX8_readNamed 0 = .ok (.aload_n 0, 1) := dk_42 (dk_at dksX8_readNamed_0 0 rfl rfl)
theorem dX8_readNamed_1 : decode cX8_readNamed 1 = .ok (.invokevirtual 191, 3) := dk_182 0 191 (dk_at dksX8_readNamed_0 1 rfl rfl)
theorem dX8_readNamed_4 : decode cX8_readNamed 4 = .ok (.ifCond .ne 9, 3) := dk_154 0 9 (dk_at dksX8_readNamed_0 4 rfl rfl)
theorem dX8_readNamed_7 : decode cX8_readNamed 7 = .ok (.aload_n 0, 1) := dk_42 (dk_at dksX8_readNamed_0 7 rfl rfl)
theorem dX8_readNamed_8 : decode cX8_readNamed 8 = .ok (.iconst 1, 1) := dk_4 (dk_at dksX8_readNamed_0 8 rfl rfl)
theorem dX8_readNamed_9 : decode cX8_readNamed 9 = .ok (.invokevirtual 151, 3) := dk_182 0 151 (dk_at dksX8_readNamed_0 9 rfl rfl)
theorem dX8_readNamed_12 : decode cX8_readNamed 12 = .ok (.ireturn, 1) := dk_172 (dk_at dksX8_readNamed_0 12 rfl rfl)
theorem dX8_readNamed_13 : decode cX8_readNamed 13 = .ok (.aload_n 0, 1) := dk_42 (dk_at dksX8_readNamed_0 13 rfl rfl)
theorem dX8_readNamed_14 : decode cX8_readNamed 14 = .ok (.aload_n 0, 1) := dk_42 (dk_at dksX8_readNamed_0 14 rfl rfl)
theorem dX8_readNamed_15 : decode cX8_readNamed 15 = .ok (.getfield 26, 3) := dk_180 0 26 (dk_at dksX8_readNamed_0 15 rfl rfl)
theorem dX8_readNamed_18 : decode cX8_readNamed 18 = .ok (.iconst 0, 1) := dk_3 (dk_at dksX8_readNamed_0 18 rfl rfl)
theorem dX8_readNamed_19 : decode cX8_readNamed 19 = .ok (.aload_n 0, 1) := dk_42 (dk_at dksX8_readNamed_0 19 rfl rfl)
theorem dX8_readNamed_20 : decode cX8_readNamed 20 = .ok (.invokevirtual 182, 3) := dk_182 0 182 (dk_at dksX8_readNamed_0 20 rfl rfl)
theorem dX8_readNamed_23 : decode cX8_readNamed 23 = .ok (.invokevirtual 195, 3) := dk_182 0 195 (dk_at dksX8_readNamed_1 0 rfl rfl)
theorem dX8_readNamed_26 : decode cX8_readNamed 26 = .ok (.istore_n 2, 1) := dk_61 (dk_at dksX8_readNamed_1 3 rfl rfl)
theorem dX8_readNamed_27 : decode cX8_readNamed 27 = .ok (.iload_n 2, 1) := dk_28 (dk_at dksX8_readNamed_1 4 rfl rfl)
theorem dX8_readNamed_28 : decode cX8_readNamed 28 = .ok (.iconst (-1), 1) := dk_2 (dk_at dksX8_readNamed_1 5 rfl rfl)
theorem dX8_readNamed_29 : decode cX8_readNamed 29 = .ok (.if_icmp .ne 9, 3) := dk_160 0 9 (dk_at dksX8_readNamed_1 6 rfl rfl)
theorem dX8_readNamed_32 : decode cX8_readNamed 32 = .ok (.aload_n 0, 1) := dk_42 (dk_at dksX8_readNamed_1 9 rfl rfl)
theorem dX8_readNamed_33 : decode cX8_readNamed 33 = .ok (.iconst 3, 1) := dk_6 (dk_at dksX8_readNamed_1 10 rfl rfl)
theorem dX8_readNamed_34 : decode cX8_readNamed 34 = .ok (.invokevirtual 151, 3) := dk_182 0 151 (dk_at dksX8_readNamed_1 11 rfl rfl)
theorem dX8_readNamed_37 : decode cX8_readNamed 37 = .ok (.ireturn, 1) := dk_172 (dk_at dksX8_readNamed_1 14 rfl rfl)
theorem dX8_readNamed_38 : decode cX8_readNamed 38 = .ok (.aload_n 0, 1) := dk_42 (dk_at dksX8_readNamed_1 15 rfl rfl)
theorem dX8_readNamed_39 : decode cX8_readNamed 39 = .ok (.aload_n 0, 1) := dk_42 (dk_at dksX8_readNamed_1 16 rfl rfl)
theorem dX8_readNamed_40 : decode cX8_readNamed 40 = .ok (.bipush 50, 2) := dk_16 50 (dk_at dksX8_readNamed_1 17 rfl rfl)
theorem dX8_readNamed_42 : decode cX8_readNamed 42 = .ok (.iload_n 1, 1) := dk_27 (dk_at dksX8_readNamed_1 19 rfl rfl)
theorem dX8_readNamed_43 : decode cX8_readNamed 43 = .ok (.iadd, 1) := dk_96 (dk_at dksX8_readNamed_1 20 rfl rfl)
theorem dX8_readNamed_44 : decode cX8_readNamed 44 = .ok (.iload_n 2, 1) := dk_28 (dk_at dksX8_readNamed_1 21 rfl rfl)
theorem dX8_readNamed_45 : decode cX8_readNamed 45 = .ok (.iconst 0, 1) := dk_3 (dk_at dksX8_readNamed_1 22 rfl rfl)
theorem dX8_readNamed_46 : decode cX8_readNamed 46 = .ok (.iconst 0, 1) := dk_3 (dk_at dksX8_readNamed_1 23 rfl rfl)
theorem dX8_readNamed_47 : decode cX8_readNamed 47 = .ok (.invokevirtual 371, 3) := dk_182 1 115 (dk_at dksX8_readNamed_2 0 rfl rfl)
theorem dX8_readNamed_50 : decode cX8_readNamed 50 = .ok (.putfield 368, 3) := dk_181 1 112 (dk_at dksX8_readNamed_2 3 rfl rfl)
theorem dX8_readNamed_53 : decode cX8_readNamed 53 = .ok (.aload_n 0, 1) := dk_42 (dk_at dksX8_readNamed_2 6 rfl rfl)
theorem dX8_readNamed_54 : decode cX8_readNamed 54 = .ok (.invokevirtual 161, 3) := dk_182 0 161 (dk_at dksX8_readNamed_2 7 rfl rfl)
theorem dX8_readNamed_57 : decode cX8_readNamed 57 = .ok (.iconst 1, 1) := dk_4 (dk_at dksX8_readNamed_2 10 rfl rfl)
theorem dX8_readNamed_58 : decode cX8_readNamed 58 = .ok (.ireturn, 1) := dk_172 (dk_at dksX8_readNamed_2 11 rfl rfl)
abbrev cX8_readCompare : ByteArray := prog_18_method_105_code
def yX8_readCompare : MethodName := ⟨RX8, "readCompare", "(I)Z"⟩
def dkwX8_readCompare_3 : List UInt8 := [181, 1, 112, 4, 172]
abbrev dktX8_readCompare_3 : List UInt8 := dkwX8_readCompare_3 ++ []
def dkwX8_readCompare_2 : List UInt8 := [182, 0, 205, 154, 0, 5, 3, 172, 42, 42, 16, 50, 27, 96, 3, 42, 180, 0, 158, 28, 182, 1, 115]
abbrev dktX8_readCompare_2 : List UInt8 := dkwX8_readCompare_2 ++ dktX8_readCompare_3
def dkwX8_readCompare_1 : List UInt8 := [154, 0, 9, 42, 4, 182, 0, 151, 172, 42, 180, 0, 115, 61, 42, 182, 0, 161, 42, 3, 17, 39, 15]
abbrev dktX8_readCompare_1 : List UInt8 := dkwX8_readCompare_1 ++ dktX8_readCompare_2
def dkwX8_readCompare_0 : List UInt8 := [42, 16, 60, 182, 0, 164, 154, 0, 27, 42, 16, 61, 182, 0, 164, 154, 0, 18, 42, 16, 62, 182, 0, 164]
abbrev dktX8_readCompare_0 : List UInt8 := dkwX8_readCompare_0 ++ dktX8_readCompare_1
theorem dksX8_readCompare_0 : cX8_readCompare.data.toList.drop 0 = dktX8_readCompare_0 := by decide +kernel
theorem dksX8_readCompare_1 : cX8_readCompare.data.toList.drop 24 = dktX8_readCompare_1 := dk_seg dksX8_readCompare_0 24 rfl rfl
theorem dksX8_readCompare_2 : cX8_readCompare.data.toList.drop 47 = dktX8_readCompare_2 := dk_seg dksX8_readCompare_1 23 rfl rfl
theorem dksX8_readCompare_3 : cX8_readCompare.data.toList.drop 70 = dktX8_readCompare_3 := dk_seg dksX8_readCompare_2 23 rfl rfl
theorem dX8_readCompare_0 : decode cX8_readCompare 0 = .ok (.aload_n 0, 1) := dk_42 (dk_at dksX8_readCompare_0 0 rfl rfl)
theorem dX8_readCompare_1 : decode cX8_readCompare 1 = .ok (.bipush 60, 2) := dk_16 60 (dk_at dksX8_readCompare_0 1 rfl rfl)
theorem dX8_readCompare_3 : decode cX8_readCompare 3 = .ok (.invokevirtual 164, 3) := dk_182 0 164 (dk_at dksX8_readCompare_0 3 rfl rfl)
theorem dX8_readCompare_6 : decode cX8_readCompare 6 = .ok (.ifCond .ne 27, 3) := dk_154 0 27 (dk_at dksX8_readCompare_0 6 rfl rfl)
theorem dX8_readCompare_9 : decode cX8_readCompare 9 = .ok (.aload_n 0, 1) := dk_42 (dk_at dksX8_readCompare_0 9 rfl rfl)
theorem dX8_readCompare_10 : decode cX8_readCompare 10 = .ok (.bipush 61, 2) := dk_16 61 (dk_at dksX8_readCompare_0 10 rfl rfl)
theorem dX8_readCompare_12 : decode cX8_readCompare 12 = .ok (.invokevirtual 164, 3) := dk_182 0 164 (dk_at dksX8_readCompare_0 12 rfl rfl)
theorem dX8_readCompare_15 : decode cX8_readCompare 15 = .ok (.ifCond .ne 18, 3) := dk_154 0 18 (dk_at dksX8_readCompare_0 15 rfl rfl)
theorem dX8_readCompare_18 : decode cX8_readCompare 18 = .ok (.aload_n 0, 1) := dk_42 (dk_at dksX8_readCompare_0 18 rfl rfl)
theorem dX8_readCompare_19 : decode cX8_readCompare 19 = .ok (.bipush 62, 2) := dk_16 62 (dk_at dksX8_readCompare_0 19 rfl rfl)
theorem dX8_readCompare_21 : decode cX8_readCompare 21 = .ok (.invokevirtual 164, 3) := dk_182 0 164 (dk_at dksX8_readCompare_0 21 rfl rfl)
theorem dX8_readCompare_24 : decode cX8_readCompare 24 = .ok (.ifCond .ne 9, 3) := dk_154 0 9 (dk_at dksX8_readCompare_1 0 rfl rfl)
theorem dX8_readCompare_27 : decode cX8_readCompare 27 = .ok (.aload_n 0, 1) := dk_42 (dk_at dksX8_readCompare_1 3 rfl rfl)
theorem dX8_readCompare_28 : decode cX8_readCompare 28 = .ok (.iconst 1, 1) := dk_4 (dk_at dksX8_readCompare_1 4 rfl rfl)
theorem dX8_readCompare_29 : decode cX8_readCompare 29 = .ok (.invokevirtual 151, 3) := dk_182 0 151 (dk_at dksX8_readCompare_1 5 rfl rfl)
theorem dX8_readCompare_32 : decode cX8_readCompare 32 = .ok (.ireturn, 1) := dk_172 (dk_at dksX8_readCompare_1 8 rfl rfl)
theorem dX8_readCompare_33 : decode cX8_readCompare 33 = .ok (.aload_n 0, 1) := dk_42 (dk_at dksX8_readCompare_1 9 rfl rfl)
theorem dX8_readCompare_34 : decode cX8_readCompare 34 = .ok (.getfield 115, 3) := dk_180 0 115 (dk_at dksX8_readCompare_1 10 rfl rfl)
theorem dX8_readCompare_37 : decode cX8_readCompare 37 = .ok (.istore_n 2, 1) := dk_61 (dk_at dksX8_readCompare_1 13 rfl rfl)
theorem dX8_readCompare_38 : decode cX8_readCompare 38 = .ok (.aload_n 0, 1) := dk_42 (dk_at dksX8_readCompare_1 14 rfl rfl)
theorem dX8_readCompare_39 : decode cX8_readCompare 39 = .ok (.invokevirtual 161, 3) := dk_182 0 161 (dk_at dksX8_readCompare_1 15 rfl rfl)
theorem dX8_readCompare_42 : decode cX8_readCompare 42 = .ok (.aload_n 0, 1) := dk_42 (dk_at dksX8_readCompare_1 18 rfl rfl)
theorem dX8_readCompare_43 : decode cX8_readCompare 43 = .ok (.iconst 0, 1) := dk_3 (dk_at dksX8_readCompare_1 19 rfl rfl)
theorem dX8_readCompare_44 : decode cX8_readCompare 44 = .ok (.sipush 9999, 3) := dk_17 39 15 (dk_at dksX8_readCompare_1 20 rfl rfl)
theorem dX8_readCompare_47 : decode cX8_readCompare 47 = .ok (.invokevirtual 205, 3) := dk_182 0 205 (dk_at dksX8_readCompare_2 0 rfl rfl)
theorem dX8_readCompare_50 : decode cX8_readCompare 50 = .ok (.ifCond .ne 5, 3) := dk_154 0 5 (dk_at dksX8_readCompare_2 3 rfl rfl)
theorem dX8_readCompare_53 : decode cX8_readCompare 53 = .ok (.iconst 0, 1) := dk_3 (dk_at dksX8_readCompare_2 6 rfl rfl)
theorem dX8_readCompare_54 : decode cX8_readCompare 54 = .ok (.ireturn, 1) := dk_172 (dk_at dksX8_readCompare_2 7 rfl rfl)
theorem dX8_readCompare_55 : decode cX8_readCompare 55 = .ok (.aload_n 0, 1) := dk_42 (dk_at dksX8_readCompare_2 8 rfl rfl)
theorem dX8_readCompare_56 : decode cX8_readCompare 56 = .ok (.aload_n 0, 1) := dk_42 (dk_at dksX8_readCompare_2 9 rfl rfl)
theorem dX8_readCompare_57 : decode cX8_readCompare 57 = .ok (.bipush 50, 2) := dk_16 50 (dk_at dksX8_readCompare_2 10 rfl rfl)
theorem dX8_readCompare_59 : decode cX8_readCompare 59 = .ok (.iload_n 1, 1) := dk_27 (dk_at dksX8_readCompare_2 12 rfl rfl)
theorem dX8_readCompare_60 : decode cX8_readCompare 60 = .ok (.iadd, 1) := dk_96 (dk_at dksX8_readCompare_2 13 rfl rfl)
theorem dX8_readCompare_61 : decode cX8_readCompare 61 = .ok (.iconst 0, 1) := dk_3 (dk_at dksX8_readCompare_2 14 rfl rfl)
theorem dX8_readCompare_62 : decode cX8_readCompare 62 = .ok (.aload_n 0, 1) := dk_42 (dk_at dksX8_readCompare_2 15 rfl rfl)
theorem dX8_readCompare_63 : decode cX8_readCompare 63 = .ok (.getfield 158, 3) := dk_180 0 158 (dk_at dksX8_readCompare_2 16 rfl rfl)
theorem dX8_readCompare_66 : decode cX8_readCompare 66 = .ok (.iload_n 2, 1) := dk_28 (dk_at dksX8_readCompare_2 19 rfl rfl)
theorem dX8_readCompare_67 : decode cX8_readCompare 67 = .ok (.invokevirtual 371, 3) := dk_182 1 115 (dk_at dksX8_readCompare_2 20 rfl rfl)
theorem dX8_readCompare_70 : decode cX8_readCompare 70 = .ok (.putfield 368, 3) := dk_181 1 112 (dk_at dksX8_readCompare_3 0 rfl rfl)
theorem dX8_readCompare_73 : decode cX8_readCompare 73 = .ok (.iconst 1, 1) := dk_4 (dk_at dksX8_readCompare_3 3 rfl rfl)
theorem dX8_readCompare_74 : decode cX8_readCompare 74 = .ok (.ireturn, 1) := dk_172 (dk_at dksX8_readCompare_3 4 rfl rfl)
abbrev cX8_said : ByteArray := prog_18_method_109_code
def yX8_said : MethodName := ⟨RX8, "said", "(I)I"⟩
def dkwX8_said_3 : List UInt8 := [28, 167, 0, 4, 2, 172]
abbrev dktX8_said_3 : List UInt8 := dkwX8_said_3 ++ []
def dkwX8_said_2 : List UInt8 := [167, 0, 13, 28, 27, 160, 0, 5, 29, 172, 132, 2, 1, 132, 3, 1, 167, 255, 217, 27, 2, 160, 0, 7]
abbrev dktX8_said_2 : List UInt8 := dkwX8_said_2 ++ dktX8_said_3
def dkwX8_said_1 : List UInt8 := [62, 29, 42, 182, 0, 188, 162, 0, 37, 42, 42, 180, 0, 13, 16, 117, 46, 29, 182, 1, 142, 154, 0, 6]
abbrev dktX8_said_1 : List UInt8 := dkwX8_said_1 ++ dktX8_said_2
def dkwX8_said_0 : List UInt8 := [42, 3, 181, 0, 83, 42, 182, 0, 167, 42, 180, 0, 13, 16, 116, 46, 154, 0, 5, 2, 172, 3, 61, 3]
abbrev dktX8_said_0 : List UInt8 := dkwX8_said_0 ++ dktX8_said_1
theorem dksX8_said_0 : cX8_said.data.toList.drop 0 = dktX8_said_0 := by decide +kernel
theorem dksX8_said_1 : cX8_said.data.toList.drop 24 = dktX8_said_1 := dk_seg dksX8_said_0 24 rfl rfl
theorem dksX8_said_2 : cX8_said.data.toList.drop 48 = dktX8_said_2 := dk_seg dksX8_said_1 24 rfl rfl
theorem dksX8_said_3 : cX8_said.data.toList.drop 72 = dktX8_said_3 := dk_seg dksX8_said_2 24 rfl rfl
theorem dX8_said_0 : decode cX8_said 0 = .ok (.aload_n 0, 1) := dk_42 (dk_at dksX8_said_0 0 rfl rfl)
theorem dX8_said_1 : decode cX8_said 1 = .ok (.iconst 0, 1) := dk_3 (dk_at dksX8_said_0 1 rfl rfl)
theorem dX8_said_2 : decode cX8_said 2 = .ok (.putfield 83, 3) := dk_181 0 83 (dk_at dksX8_said_0 2 rfl rfl)
theorem dX8_said_5 : decode cX8_said 5 = .ok (.aload_n 0, 1) := dk_42 (dk_at dksX8_said_0 5 rfl rfl)
theorem dX8_said_6 : decode cX8_said 6 = .ok (.invokevirtual 167, 3) := dk_182 0 167 (dk_at dksX8_said_0 6 rfl rfl)
theorem dX8_said_9 : decode cX8_said 9 = .ok (.aload_n 0, 1) := dk_42 (dk_at dksX8_said_0 9 rfl rfl)
theorem dX8_said_10 : decode cX8_said 10 = .ok (.getfield 13, 3) := dk_180 0 13 (dk_at dksX8_said_0 10 rfl rfl)
theorem dX8_said_13 : decode cX8_said 13 = .ok (.bipush 116, 2) := dk_16 116 (dk_at dksX8_said_0 13 rfl rfl)
theorem dX8_said_15 : decode cX8_said 15 = .ok (.iaload, 1) := dk_46 (dk_at dksX8_said_0 15 rfl rfl)
theorem dX8_said_16 : decode cX8_said 16 = .ok (.ifCond .ne 5, 3) := dk_154 0 5 (dk_at dksX8_said_0 16 rfl rfl)
theorem dX8_said_19 : decode cX8_said 19 = .ok (.iconst (-1), 1) := dk_2 (dk_at dksX8_said_0 19 rfl rfl)
theorem dX8_said_20 : decode cX8_said 20 = .ok (.ireturn, 1) := dk_172 (dk_at dksX8_said_0 20 rfl rfl)
theorem dX8_said_21 : decode cX8_said 21 = .ok (.iconst 0, 1) := dk_3 (dk_at dksX8_said_0 21 rfl rfl)
theorem dX8_said_22 : decode cX8_said 22 = .ok (.istore_n 2, 1) := dk_61 (dk_at dksX8_said_0 22 rfl rfl)
theorem dX8_said_23 : decode cX8_said 23 = .ok (.iconst 0, 1) := dk_3 (dk_at dksX8_said_0 23 rfl rfl)
theorem dX8_said_24 : decode cX8_said 24 = .ok (.istore_n 3, 1) := dk_62 (dk_at dksX8_said_1 0 rfl rfl)
theorem dX8_said_25 : decode cX8_said 25 = .ok (.iload_n 3, 1) := dk_29 (dk_at dksX8_said_1 1 rfl rfl)
theorem dX8_said_26 : decode cX8_said 26 = .ok (.aload_n 0, 1) := dk_42 (dk_at dksX8_said_1 2 rfl rfl)
theorem dX8_said_27 : decode cX8_said 27 = .ok (.invokevirtual 188, 3) := dk_182 0 188 (dk_at dksX8_said_1 3 rfl rfl)
theorem dX8_said_30 : decode cX8_said 30 = .ok (.if_icmp .ge 37, 3) := dk_162 0 37 (dk_at dksX8_said_1 6 rfl rfl)
theorem dX8_said_33 : decode cX8_said 33 = .ok (.aload_n 0, 1) := dk_42 (dk_at dksX8_said_1 9 rfl rfl)
theorem dX8_said_34 : decode cX8_said 34 = .ok (.aload_n 0, 1) := dk_42 (dk_at dksX8_said_1 10 rfl rfl)
theorem dX8_said_35 : decode cX8_said 35 = .ok (.getfield 13, 3) := dk_180 0 13 (dk_at dksX8_said_1 11 rfl rfl)
theorem dX8_said_38 : decode cX8_said 38 = .ok (.bipush 117, 2) := dk_16 117 (dk_at dksX8_said_1 14 rfl rfl)
theorem dX8_said_40 : decode cX8_said 40 = .ok (.iaload, 1) := dk_46 (dk_at dksX8_said_1 16 rfl rfl)
theorem dX8_said_41 : decode cX8_said 41 = .ok (.iload_n 3, 1) := dk_29 (dk_at dksX8_said_1 17 rfl rfl)
theorem dX8_said_42 : decode cX8_said 42 = .ok (.invokevirtual 398, 3) := dk_182 1 142 (dk_at dksX8_said_1 18 rfl rfl)
theorem dX8_said_45 : decode cX8_said 45 = .ok (.ifCond .ne 6, 3) := dk_154 0 6 (dk_at dksX8_said_1 21 rfl rfl)
theorem dX8_said_48 : decode cX8_said 48 = .ok (.goto 13, 3) := dk_167 0 13 (dk_at dksX8_said_2 0 rfl rfl)
theorem dX8_said_51 : decode cX8_said 51 = .ok (.iload_n 2, 1) := dk_28 (dk_at dksX8_said_2 3 rfl rfl)
theorem dX8_said_52 : decode cX8_said 52 = .ok (.iload_n 1, 1) := dk_27 (dk_at dksX8_said_2 4 rfl rfl)
theorem dX8_said_53 : decode cX8_said 53 = .ok (.if_icmp .ne 5, 3) := dk_160 0 5 (dk_at dksX8_said_2 5 rfl rfl)
theorem dX8_said_56 : decode cX8_said 56 = .ok (.iload_n 3, 1) := dk_29 (dk_at dksX8_said_2 8 rfl rfl)
theorem dX8_said_57 : decode cX8_said 57 = .ok (.ireturn, 1) := dk_172 (dk_at dksX8_said_2 9 rfl rfl)
theorem dX8_said_58 : decode cX8_said 58 = .ok (.iinc 2 1, 3) := dk_132 2 1 (dk_at dksX8_said_2 10 rfl rfl)
theorem dX8_said_61 : decode cX8_said 61 = .ok (.iinc 3 1, 3) := dk_132 3 1 (dk_at dksX8_said_2 13 rfl rfl)
theorem dX8_said_64 : decode cX8_said 64 = .ok (.goto (-39), 3) := dk_167 255 217 (dk_at dksX8_said_2 16 rfl rfl)
theorem dX8_said_67 : decode cX8_said 67 = .ok (.iload_n 1, 1) := dk_27 (dk_at dksX8_said_2 19 rfl rfl)
theorem dX8_said_68 : decode cX8_said 68 = .ok (.iconst (-1), 1) := dk_2 (dk_at dksX8_said_2 20 rfl rfl)
theorem dX8_said_69 : decode cX8_said 69 = .ok (.if_icmp .ne 7, 3) := dk_160 0 7 (dk_at dksX8_said_2 21 rfl rfl)
theorem dX8_said_72 : decode cX8_said 72 = .ok (.iload_n 2, 1) := dk_28 (dk_at dksX8_said_3 0 rfl rfl)
theorem dX8_said_73 : decode cX8_said 73 = .ok (.goto 4, 3) := dk_167 0 4 (dk_at dksX8_said_3 1 rfl rfl)
theorem dX8_said_76 : decode cX8_said 76 = .ok (.iconst (-1), 1) := dk_2 (dk_at dksX8_said_3 4 rfl rfl)
theorem dX8_said_77 : decode cX8_said 77 = .ok (.ireturn, 1) := dk_172 (dk_at dksX8_said_3 5 rfl rfl)
abbrev cX8_holds : ByteArray := prog_18_method_108_code
def yX8_holds : MethodName := ⟨RX8, "holds", "(II)Z"⟩
def dkwX8_holds_12 : List UInt8 := [4, 167, 0, 19, 3, 167, 0, 15, 21, 7, 21, 5, 164, 0, 7, 4, 167, 0, 4, 3, 172]
abbrev dktX8_holds_12 : List UInt8 := dkwX8_holds_12 ++ []
def dkwX8_holds_11 : List UInt8 := [3, 167, 0, 43, 42, 180, 0, 13, 29, 6, 96, 46, 16, 61, 160, 0, 18, 21, 7, 21, 5, 160, 0, 7]
abbrev dktX8_holds_11 : List UInt8 := dkwX8_holds_11 ++ dktX8_holds_12
def dkwX8_holds_10 : List UInt8 := [42, 180, 0, 13, 29, 6, 96, 46, 16, 60, 160, 0, 18, 21, 7, 21, 5, 162, 0, 7, 4, 167, 0, 47]
abbrev dktX8_holds_10 : List UInt8 := dkwX8_holds_10 ++ dktX8_holds_11
def dkwX8_holds_9 : List UInt8 := [160, 0, 7, 3, 167, 0, 15, 21, 6, 16, 17, 160, 0, 7, 6, 167, 0, 4, 5, 182, 1, 0, 54, 7]
abbrev dktX8_holds_9 : List UInt8 := dkwX8_holds_9 ++ dktX8_holds_10
def dkwX8_holds_8 : List UInt8 := [4, 167, 0, 4, 3, 172, 42, 180, 0, 13, 29, 46, 16, 50, 100, 54, 6, 42, 28, 21, 6, 16, 16]
abbrev dktX8_holds_8 : List UInt8 := dkwX8_holds_8 ++ dktX8_holds_9
def dkwX8_holds_7 : List UInt8 := [167, 0, 4, 3, 172, 42, 28, 21, 4, 182, 1, 145, 172, 42, 28, 4, 182, 1, 0, 21, 4, 160, 0, 7]
abbrev dktX8_holds_7 : List UInt8 := dkwX8_holds_7 ++ dktX8_holds_8
def dkwX8_holds_6 : List UInt8 := [182, 1, 29, 158, 0, 7, 4, 167, 0, 4, 3, 172, 42, 28, 182, 0, 253, 21, 4, 160, 0, 7, 4]
abbrev dktX8_holds_6 : List UInt8 := dkwX8_holds_6 ++ dktX8_holds_7
def dkwX8_holds_5 : List UInt8 := [182, 1, 142, 154, 0, 13, 42, 21, 5, 28, 182, 1, 142, 153, 0, 7, 4, 167, 0, 4, 3, 172, 42, 28]
abbrev dktX8_holds_5 : List UInt8 := dkwX8_holds_5 ++ dktX8_holds_6
def dkwX8_holds_4 : List UInt8 := [153, 0, 17, 42, 21, 5, 28, 182, 1, 142, 153, 0, 7, 4, 167, 0, 4, 3, 172, 42, 21, 4, 28]
abbrev dktX8_holds_4 : List UInt8 := dkwX8_holds_4 ++ dktX8_holds_5
def dkwX8_holds_3 : List UInt8 := [42, 21, 4, 28, 182, 1, 142, 154, 0, 7, 4, 167, 0, 4, 3, 172, 42, 21, 4, 28, 182, 1, 142]
abbrev dktX8_holds_3 : List UInt8 := dkwX8_holds_3 ++ dktX8_holds_4
def dkwX8_holds_2 : List UInt8 := [171, 0, 0, 0, 0, 189, 0, 0, 0, 7, 0, 0, 0, 1, 0, 0, 0, 66, 0, 0, 0, 2, 0, 0, 0, 82, 0, 0, 0, 3, 0, 0, 0, 108, 0, 0, 0, 4, 0, 0, 0, 134, 0, 0, 0, 62, 0, 0, 0, 148, 0, 0, 0, 63, 0, 0, 0, 164, 0, 0, 0, 64, 0, 0, 0, 172]
abbrev dktX8_holds_2 : List UInt8 := dkwX8_holds_2 ++ dktX8_holds_3
def dkwX8_holds_1 : List UInt8 := [96, 46, 54, 5, 42, 180, 0, 13, 29, 46]
abbrev dktX8_holds_1 : List UInt8 := dkwX8_holds_1 ++ dktX8_holds_2
def dkwX8_holds_0 : List UInt8 := [17, 30, 220, 7, 27, 104, 96, 62, 42, 180, 0, 13, 29, 4, 96, 46, 54, 4, 42, 180, 0, 13, 29, 5]
abbrev dktX8_holds_0 : List UInt8 := dkwX8_holds_0 ++ dktX8_holds_1
theorem dksX8_holds_0 : cX8_holds.data.toList.drop 0 = dktX8_holds_0 := by decide +kernel
theorem dksX8_holds_1 : cX8_holds.data.toList.drop 24 = dktX8_holds_1 := dk_seg dksX8_holds_0 24 rfl rfl
theorem dksX8_holds_2 : cX8_holds.data.toList.drop 34 = dktX8_holds_2 := dk_seg dksX8_holds_1 10 rfl rfl
theorem dksX8_holds_3 : cX8_holds.data.toList.drop 100 = dktX8_holds_3 := dk_seg dksX8_holds_2 66 rfl rfl
theorem dksX8_holds_4 : cX8_holds.data.toList.drop 123 = dktX8_holds_4 := dk_seg dksX8_holds_3 23 rfl rfl
theorem dksX8_holds_5 : cX8_holds.data.toList.drop 146 = dktX8_holds_5 := dk_seg dksX8_holds_4 23 rfl rfl
theorem dksX8_holds_6 : cX8_holds.data.toList.drop 170 = dktX8_holds_6 := dk_seg dksX8_holds_5 24 rfl rfl
theorem dksX8_holds_7 : cX8_holds.data.toList.drop 193 = dktX8_holds_7 := dk_seg dksX8_holds_6 23 rfl rfl
theorem dksX8_holds_8 : cX8_holds.data.toList.drop 217 = dktX8_holds_8 := dk_seg dksX8_holds_7 24 rfl rfl
theorem dksX8_holds_9 : cX8_holds.data.toList.drop 240 = dktX8_holds_9 := dk_seg dksX8_holds_8 23 rfl rfl
theorem dksX8_holds_10 : cX8_holds.data.toList.drop 264 = dktX8_holds_10 := dk_seg dksX8_holds_9 24 rfl rfl
theorem dksX8_holds_11 : cX8_holds.data.toList.drop 288 = dktX8_holds_11 := dk_seg dksX8_holds_10 24 rfl rfl
theorem dksX8_holds_12 : cX8_holds.data.toList.drop 312 = dktX8_holds_12 := dk_seg dksX8_holds_11 24 rfl rfl
theorem dX8_holds_0 : decode cX8_holds 0 = .ok (.sipush 7900, 3) := dk_17 30 220 (dk_at dksX8_holds_0 0 rfl rfl)
theorem dX8_holds_3 : decode cX8_holds 3 = .ok (.iconst 4, 1) := dk_7 (dk_at dksX8_holds_0 3 rfl rfl)
theorem dX8_holds_4 : decode cX8_holds 4 = .ok (.iload_n 1, 1) := dk_27 (dk_at dksX8_holds_0 4 rfl rfl)
theorem dX8_holds_5 : decode cX8_holds 5 = .ok (.imul, 1) := dk_104 (dk_at dksX8_holds_0 5 rfl rfl)
theorem dX8_holds_6 : decode cX8_holds 6 = .ok (.iadd, 1) := dk_96 (dk_at dksX8_holds_0 6 rfl rfl)
theorem dX8_holds_7 : decode cX8_holds 7 = .ok (.istore_n 3, 1) := dk_62 (dk_at dksX8_holds_0 7 rfl rfl)
theorem dX8_holds_8 : decode cX8_holds 8 = .ok (.aload_n 0, 1) := dk_42 (dk_at dksX8_holds_0 8 rfl rfl)
theorem dX8_holds_9 : decode cX8_holds 9 = .ok (.getfield 13, 3) := dk_180 0 13 (dk_at dksX8_holds_0 9 rfl rfl)
theorem dX8_holds_12 : decode cX8_holds 12 = .ok (.iload_n 3, 1) := dk_29 (dk_at dksX8_holds_0 12 rfl rfl)
theorem dX8_holds_13 : decode cX8_holds 13 = .ok (.iconst 1, 1) := dk_4 (dk_at dksX8_holds_0 13 rfl rfl)
theorem dX8_holds_14 : decode cX8_holds 14 = .ok (.iadd, 1) := dk_96 (dk_at dksX8_holds_0 14 rfl rfl)
theorem dX8_holds_15 : decode cX8_holds 15 = .ok (.iaload, 1) := dk_46 (dk_at dksX8_holds_0 15 rfl rfl)
theorem dX8_holds_16 : decode cX8_holds 16 = .ok (.istore 4, 2) := dk_54 4 (dk_at dksX8_holds_0 16 rfl rfl)
theorem dX8_holds_18 : decode cX8_holds 18 = .ok (.aload_n 0, 1) := dk_42 (dk_at dksX8_holds_0 18 rfl rfl)
theorem dX8_holds_19 : decode cX8_holds 19 = .ok (.getfield 13, 3) := dk_180 0 13 (dk_at dksX8_holds_0 19 rfl rfl)
theorem dX8_holds_22 : decode cX8_holds 22 = .ok (.iload_n 3, 1) := dk_29 (dk_at dksX8_holds_0 22 rfl rfl)
theorem dX8_holds_23 : decode cX8_holds 23 = .ok (.iconst 2, 1) := dk_5 (dk_at dksX8_holds_0 23 rfl rfl)
theorem dX8_holds_24 : decode cX8_holds 24 = .ok (.iadd, 1) := dk_96 (dk_at dksX8_holds_1 0 rfl rfl)
theorem dX8_holds_25 : decode cX8_holds 25 = .ok (.iaload, 1) := dk_46 (dk_at dksX8_holds_1 1 rfl rfl)
theorem dX8_holds_26 : decode cX8_holds 26 = .ok (.istore 5, 2) := dk_54 5 (dk_at dksX8_holds_1 2 rfl rfl)
theorem dX8_holds_28 : decode cX8_holds 28 = .ok (.aload_n 0, 1) := dk_42 (dk_at dksX8_holds_1 4 rfl rfl)
theorem dX8_holds_29 : decode cX8_holds 29 = .ok (.getfield 13, 3) := dk_180 0 13 (dk_at dksX8_holds_1 5 rfl rfl)
theorem dX8_holds_32 : decode cX8_holds 32 = .ok (.iload_n 3, 1) := dk_29 (dk_at dksX8_holds_1 8 rfl rfl)
theorem dX8_holds_33 : decode cX8_holds 33 = .ok (.iaload, 1) := dk_46 (dk_at dksX8_holds_1 9 rfl rfl)
theorem dX8_holds_34 : decode cX8_holds 34 = .ok (.lookupswitch 189 #[(1, 66), (2, 82), (3, 108), (4, 134), (62, 148), (63, 164), (64, 172)], 66) := by decide +kernel
theorem dX8_holds_100 : decode cX8_holds 100 = .ok (.aload_n 0, 1) := dk_42 (dk_at dksX8_holds_3 0 rfl rfl)
theorem dX8_holds_101 : decode cX8_holds 101 = .ok (.iload 4, 2) := dk_21 4 (dk_at dksX8_holds_3 1 rfl rfl)
theorem dX8_holds_103 : decode cX8_holds 103 = .ok (.iload_n 2, 1) := dk_28 (dk_at dksX8_holds_3 3 rfl rfl)
theorem dX8_holds_104 : decode cX8_holds 104 = .ok (.invokevirtual 398, 3) := dk_182 1 142 (dk_at dksX8_holds_3 4 rfl rfl)
theorem dX8_holds_107 : decode cX8_holds 107 = .ok (.ifCond .ne 7, 3) := dk_154 0 7 (dk_at dksX8_holds_3 7 rfl rfl)
theorem dX8_holds_110 : decode cX8_holds 110 = .ok (.iconst 1, 1) := dk_4 (dk_at dksX8_holds_3 10 rfl rfl)
theorem dX8_holds_111 : decode cX8_holds 111 = .ok (.goto 4, 3) := dk_167 0 4 (dk_at dksX8_holds_3 11 rfl rfl)
theorem dX8_holds_114 : decode cX8_holds 114 = .ok (.iconst 0, 1) := dk_3 (dk_at dksX8_holds_3 14 rfl rfl)
theorem dX8_holds_115 : decode cX8_holds 115 = .ok (.ireturn, 1) := dk_172 (dk_at dksX8_holds_3 15 rfl rfl)
theorem dX8_holds_116 : decode cX8_holds 116 = .ok (.aload_n 0, 1) := dk_42 (dk_at dksX8_holds_3 16 rfl rfl)
theorem dX8_holds_117 : decode cX8_holds 117 = .ok (.iload 4, 2) := dk_21 4 (dk_at dksX8_holds_3 17 rfl rfl)
theorem dX8_holds_119 : decode cX8_holds 119 = .ok (.iload_n 2, 1) := dk_28 (dk_at dksX8_holds_3 19 rfl rfl)
theorem dX8_holds_120 : decode cX8_holds 120 = .ok (.invokevirtual 398, 3) := dk_182 1 142 (dk_at dksX8_holds_3 20 rfl rfl)
theorem dX8_holds_123 : decode cX8_holds 123 = .ok (.ifCond .eq 17, 3) := dk_153 0 17 (dk_at dksX8_holds_4 0 rfl rfl)
theorem dX8_holds_126 : decode cX8_holds 126 = .ok (.aload_n 0, 1) := dk_42 (dk_at dksX8_holds_4 3 rfl rfl)
theorem dX8_holds_127 : decode cX8_holds 127 = .ok (.iload 5, 2) := dk_21 5 (dk_at dksX8_holds_4 4 rfl rfl)
theorem dX8_holds_129 : decode cX8_holds 129 = .ok (.iload_n 2, 1) := dk_28 (dk_at dksX8_holds_4 6 rfl rfl)
theorem dX8_holds_130 : decode cX8_holds 130 = .ok (.invokevirtual 398, 3) := dk_182 1 142 (dk_at dksX8_holds_4 7 rfl rfl)
theorem dX8_holds_133 : decode cX8_holds 133 = .ok (.ifCond .eq 7, 3) := dk_153 0 7 (dk_at dksX8_holds_4 10 rfl rfl)
theorem dX8_holds_136 : decode cX8_holds 136 = .ok (.iconst 1, 1) := dk_4 (dk_at dksX8_holds_4 13 rfl rfl)
theorem dX8_holds_137 : decode cX8_holds 137 = .ok (.goto 4, 3) := dk_167 0 4 (dk_at dksX8_holds_4 14 rfl rfl)
theorem dX8_holds_140 : decode cX8_holds 140 = .ok (.iconst 0, 1) := dk_3 (dk_at dksX8_holds_4 17 rfl rfl)
theorem dX8_holds_141 : decode cX8_holds 141 = .ok (.ireturn, 1) := dk_172 (dk_at dksX8_holds_4 18 rfl rfl)
theorem dX8_holds_142 : decode cX8_holds 142 = .ok (.aload_n 0, 1) := dk_42 (dk_at dksX8_holds_4 19 rfl rfl)
theorem dX8_holds_143 : decode cX8_holds 143 = .ok (.iload 4, 2) := dk_21 4 (dk_at dksX8_holds_4 20 rfl rfl)
theorem dX8_holds_145 : decode cX8_holds 145 = .ok (.iload_n 2, 1) := dk_28 (dk_at dksX8_holds_4 22 rfl rfl)
theorem dX8_holds_146 : decode cX8_holds 146 = .ok (.invokevirtual 398, 3) := dk_182 1 142 (dk_at dksX8_holds_5 0 rfl rfl)
theorem dX8_holds_149 : decode cX8_holds 149 = .ok (.ifCond .ne 13, 3) := dk_154 0 13 (dk_at dksX8_holds_5 3 rfl rfl)
theorem dX8_holds_152 : decode cX8_holds 152 = .ok (.aload_n 0, 1) := dk_42 (dk_at dksX8_holds_5 6 rfl rfl)
theorem dX8_holds_153 : decode cX8_holds 153 = .ok (.iload 5, 2) := dk_21 5 (dk_at dksX8_holds_5 7 rfl rfl)
theorem dX8_holds_155 : decode cX8_holds 155 = .ok (.iload_n 2, 1) := dk_28 (dk_at dksX8_holds_5 9 rfl rfl)
theorem dX8_holds_156 : decode cX8_holds 156 = .ok (.invokevirtual 398, 3) := dk_182 1 142 (dk_at dksX8_holds_5 10 rfl rfl)
theorem dX8_holds_159 : decode cX8_holds 159 = .ok (.ifCond .eq 7, 3) := dk_153 0 7 (dk_at dksX8_holds_5 13 rfl rfl)
theorem dX8_holds_162 : decode cX8_holds 162 = .ok (.iconst 1, 1) := dk_4 (dk_at dksX8_holds_5 16 rfl rfl)
theorem dX8_holds_163 : decode cX8_holds 163 = .ok (.goto 4, 3) := dk_167 0 4 (dk_at dksX8_holds_5 17 rfl rfl)
theorem dX8_holds_166 : decode cX8_holds 166 = .ok (.iconst 0, 1) := dk_3 (dk_at dksX8_holds_5 20 rfl rfl)
theorem dX8_holds_167 : decode cX8_holds 167 = .ok (.ireturn, 1) := dk_172 (dk_at dksX8_holds_5 21 rfl rfl)
theorem dX8_holds_168 : decode cX8_holds 168 = .ok (.aload_n 0, 1) := dk_42 (dk_at dksX8_holds_5 22 rfl rfl)
theorem dX8_holds_169 : decode cX8_holds 169 = .ok (.iload_n 2, 1) := dk_28 (dk_at dksX8_holds_5 23 rfl rfl)
theorem dX8_holds_170 : decode cX8_holds 170 = .ok (.invokevirtual 285, 3) := dk_182 1 29 (dk_at dksX8_holds_6 0 rfl rfl)
theorem dX8_holds_173 : decode cX8_holds 173 = .ok (.ifCond .le 7, 3) := dk_158 0 7 (dk_at dksX8_holds_6 3 rfl rfl)
theorem dX8_holds_176 : decode cX8_holds 176 = .ok (.iconst 1, 1) := dk_4 (dk_at dksX8_holds_6 6 rfl rfl)
theorem dX8_holds_177 : decode cX8_holds 177 = .ok (.goto 4, 3) := dk_167 0 4 (dk_at dksX8_holds_6 7 rfl rfl)
theorem dX8_holds_180 : decode cX8_holds 180 = .ok (.iconst 0, 1) := dk_3 (dk_at dksX8_holds_6 10 rfl rfl)
theorem dX8_holds_181 : decode cX8_holds 181 = .ok (.ireturn, 1) := dk_172 (dk_at dksX8_holds_6 11 rfl rfl)
theorem dX8_holds_182 : decode cX8_holds 182 = .ok (.aload_n 0, 1) := dk_42 (dk_at dksX8_holds_6 12 rfl rfl)
theorem dX8_holds_183 : decode cX8_holds 183 = .ok (.iload_n 2, 1) := dk_28 (dk_at dksX8_holds_6 13 rfl rfl)
theorem dX8_holds_184 : decode cX8_holds 184 = .ok (.invokevirtual 253, 3) := dk_182 0 253 (dk_at dksX8_holds_6 14 rfl rfl)
theorem dX8_holds_187 : decode cX8_holds 187 = .ok (.iload 4, 2) := dk_21 4 (dk_at dksX8_holds_6 17 rfl rfl)
theorem dX8_holds_189 : decode cX8_holds 189 = .ok (.if_icmp .ne 7, 3) := dk_160 0 7 (dk_at dksX8_holds_6 19 rfl rfl)
theorem dX8_holds_192 : decode cX8_holds 192 = .ok (.iconst 1, 1) := dk_4 (dk_at dksX8_holds_6 22 rfl rfl)
theorem dX8_holds_193 : decode cX8_holds 193 = .ok (.goto 4, 3) := dk_167 0 4 (dk_at dksX8_holds_7 0 rfl rfl)
theorem dX8_holds_196 : decode cX8_holds 196 = .ok (.iconst 0, 1) := dk_3 (dk_at dksX8_holds_7 3 rfl rfl)
theorem dX8_holds_197 : decode cX8_holds 197 = .ok (.ireturn, 1) := dk_172 (dk_at dksX8_holds_7 4 rfl rfl)
theorem dX8_holds_198 : decode cX8_holds 198 = .ok (.aload_n 0, 1) := dk_42 (dk_at dksX8_holds_7 5 rfl rfl)
theorem dX8_holds_199 : decode cX8_holds 199 = .ok (.iload_n 2, 1) := dk_28 (dk_at dksX8_holds_7 6 rfl rfl)
theorem dX8_holds_200 : decode cX8_holds 200 = .ok (.iload 4, 2) := dk_21 4 (dk_at dksX8_holds_7 7 rfl rfl)
theorem dX8_holds_202 : decode cX8_holds 202 = .ok (.invokevirtual 401, 3) := dk_182 1 145 (dk_at dksX8_holds_7 9 rfl rfl)
theorem dX8_holds_205 : decode cX8_holds 205 = .ok (.ireturn, 1) := dk_172 (dk_at dksX8_holds_7 12 rfl rfl)
theorem dX8_holds_206 : decode cX8_holds 206 = .ok (.aload_n 0, 1) := dk_42 (dk_at dksX8_holds_7 13 rfl rfl)
theorem dX8_holds_207 : decode cX8_holds 207 = .ok (.iload_n 2, 1) := dk_28 (dk_at dksX8_holds_7 14 rfl rfl)
theorem dX8_holds_208 : decode cX8_holds 208 = .ok (.iconst 1, 1) := dk_4 (dk_at dksX8_holds_7 15 rfl rfl)
theorem dX8_holds_209 : decode cX8_holds 209 = .ok (.invokevirtual 256, 3) := dk_182 1 0 (dk_at dksX8_holds_7 16 rfl rfl)
theorem dX8_holds_212 : decode cX8_holds 212 = .ok (.iload 4, 2) := dk_21 4 (dk_at dksX8_holds_7 19 rfl rfl)
theorem dX8_holds_214 : decode cX8_holds 214 = .ok (.if_icmp .ne 7, 3) := dk_160 0 7 (dk_at dksX8_holds_7 21 rfl rfl)
theorem dX8_holds_217 : decode cX8_holds 217 = .ok (.iconst 1, 1) := dk_4 (dk_at dksX8_holds_8 0 rfl rfl)
theorem dX8_holds_218 : decode cX8_holds 218 = .ok (.goto 4, 3) := dk_167 0 4 (dk_at dksX8_holds_8 1 rfl rfl)
theorem dX8_holds_221 : decode cX8_holds 221 = .ok (.iconst 0, 1) := dk_3 (dk_at dksX8_holds_8 4 rfl rfl)
theorem dX8_holds_222 : decode cX8_holds 222 = .ok (.ireturn, 1) := dk_172 (dk_at dksX8_holds_8 5 rfl rfl)
theorem dX8_holds_223 : decode cX8_holds 223 = .ok (.aload_n 0, 1) := dk_42 (dk_at dksX8_holds_8 6 rfl rfl)
theorem dX8_holds_224 : decode cX8_holds 224 = .ok (.getfield 13, 3) := dk_180 0 13 (dk_at dksX8_holds_8 7 rfl rfl)
theorem dX8_holds_227 : decode cX8_holds 227 = .ok (.iload_n 3, 1) := dk_29 (dk_at dksX8_holds_8 10 rfl rfl)
theorem dX8_holds_228 : decode cX8_holds 228 = .ok (.iaload, 1) := dk_46 (dk_at dksX8_holds_8 11 rfl rfl)
theorem dX8_holds_229 : decode cX8_holds 229 = .ok (.bipush 50, 2) := dk_16 50 (dk_at dksX8_holds_8 12 rfl rfl)
theorem dX8_holds_231 : decode cX8_holds 231 = .ok (.isub, 1) := dk_100 (dk_at dksX8_holds_8 14 rfl rfl)
theorem dX8_holds_232 : decode cX8_holds 232 = .ok (.istore 6, 2) := dk_54 6 (dk_at dksX8_holds_8 15 rfl rfl)
theorem dX8_holds_234 : decode cX8_holds 234 = .ok (.aload_n 0, 1) := dk_42 (dk_at dksX8_holds_8 17 rfl rfl)
theorem dX8_holds_235 : decode cX8_holds 235 = .ok (.iload_n 2, 1) := dk_28 (dk_at dksX8_holds_8 18 rfl rfl)
theorem dX8_holds_236 : decode cX8_holds 236 = .ok (.iload 6, 2) := dk_21 6 (dk_at dksX8_holds_8 19 rfl rfl)
theorem dX8_holds_238 : decode cX8_holds 238 = .ok (.bipush 16, 2) := dk_16 16 (dk_at dksX8_holds_8 21 rfl rfl)
theorem dX8_holds_240 : decode cX8_holds 240 = .ok (.if_icmp .ne 7, 3) := dk_160 0 7 (dk_at dksX8_holds_9 0 rfl rfl)
theorem dX8_holds_243 : decode cX8_holds 243 = .ok (.iconst 0, 1) := dk_3 (dk_at dksX8_holds_9 3 rfl rfl)
theorem dX8_holds_244 : decode cX8_holds 244 = .ok (.goto 15, 3) := dk_167 0 15 (dk_at dksX8_holds_9 4 rfl rfl)
theorem dX8_holds_247 : decode cX8_holds 247 = .ok (.iload 6, 2) := dk_21 6 (dk_at dksX8_holds_9 7 rfl rfl)
theorem dX8_holds_249 : decode cX8_holds 249 = .ok (.bipush 17, 2) := dk_16 17 (dk_at dksX8_holds_9 9 rfl rfl)
theorem dX8_holds_251 : decode cX8_holds 251 = .ok (.if_icmp .ne 7, 3) := dk_160 0 7 (dk_at dksX8_holds_9 11 rfl rfl)
theorem dX8_holds_254 : decode cX8_holds 254 = .ok (.iconst 3, 1) := dk_6 (dk_at dksX8_holds_9 14 rfl rfl)
theorem dX8_holds_255 : decode cX8_holds 255 = .ok (.goto 4, 3) := dk_167 0 4 (dk_at dksX8_holds_9 15 rfl rfl)
theorem dX8_holds_258 : decode cX8_holds 258 = .ok (.iconst 2, 1) := dk_5 (dk_at dksX8_holds_9 18 rfl rfl)
theorem dX8_holds_259 : decode cX8_holds 259 = .ok (.invokevirtual 256, 3) := dk_182 1 0 (dk_at dksX8_holds_9 19 rfl rfl)
theorem dX8_holds_262 : decode cX8_holds 262 = .ok (.istore 7, 2) := dk_54 7 (dk_at dksX8_holds_9 22 rfl rfl)
theorem dX8_holds_264 : decode cX8_holds 264 = .ok (.aload_n 0, 1) := dk_42 (dk_at dksX8_holds_10 0 rfl rfl)
theorem dX8_holds_265 : decode cX8_holds 265 = .ok (.getfield 13, 3) := dk_180 0 13 (dk_at dksX8_holds_10 1 rfl rfl)
theorem dX8_holds_268 : decode cX8_holds 268 = .ok (.iload_n 3, 1) := dk_29 (dk_at dksX8_holds_10 4 rfl rfl)
theorem dX8_holds_269 : decode cX8_holds 269 = .ok (.iconst 3, 1) := dk_6 (dk_at dksX8_holds_10 5 rfl rfl)
theorem dX8_holds_270 : decode cX8_holds 270 = .ok (.iadd, 1) := dk_96 (dk_at dksX8_holds_10 6 rfl rfl)
theorem dX8_holds_271 : decode cX8_holds 271 = .ok (.iaload, 1) := dk_46 (dk_at dksX8_holds_10 7 rfl rfl)
theorem dX8_holds_272 : decode cX8_holds 272 = .ok (.bipush 60, 2) := dk_16 60 (dk_at dksX8_holds_10 8 rfl rfl)
theorem dX8_holds_274 : decode cX8_holds 274 = .ok (.if_icmp .ne 18, 3) := dk_160 0 18 (dk_at dksX8_holds_10 10 rfl rfl)
theorem dX8_holds_277 : decode cX8_holds 277 = .ok (.iload 7, 2) := dk_21 7 (dk_at dksX8_holds_10 13 rfl rfl)
theorem dX8_holds_279 : decode cX8_holds 279 = .ok (.iload 5, 2) := dk_21 5 (dk_at dksX8_holds_10 15 rfl rfl)
theorem dX8_holds_281 : decode cX8_holds 281 = .ok (.if_icmp .ge 7, 3) := dk_162 0 7 (dk_at dksX8_holds_10 17 rfl rfl)
theorem dX8_holds_284 : decode cX8_holds 284 = .ok (.iconst 1, 1) := dk_4 (dk_at dksX8_holds_10 20 rfl rfl)
theorem dX8_holds_285 : decode cX8_holds 285 = .ok (.goto 47, 3) := dk_167 0 47 (dk_at dksX8_holds_10 21 rfl rfl)
theorem dX8_holds_288 : decode cX8_holds 288 = .ok (.iconst 0, 1) := dk_3 (dk_at dksX8_holds_11 0 rfl rfl)
theorem dX8_holds_289 : decode cX8_holds 289 = .ok (.goto 43, 3) := dk_167 0 43 (dk_at dksX8_holds_11 1 rfl rfl)
theorem dX8_holds_292 : decode cX8_holds 292 = .ok (.aload_n 0, 1) := dk_42 (dk_at dksX8_holds_11 4 rfl rfl)
theorem dX8_holds_293 : decode cX8_holds 293 = .ok (.getfield 13, 3) := dk_180 0 13 (dk_at dksX8_holds_11 5 rfl rfl)
theorem dX8_holds_296 : decode cX8_holds 296 = .ok (.iload_n 3, 1) := dk_29 (dk_at dksX8_holds_11 8 rfl rfl)
theorem dX8_holds_297 : decode cX8_holds 297 = .ok (.iconst 3, 1) := dk_6 (dk_at dksX8_holds_11 9 rfl rfl)
theorem dX8_holds_298 : decode cX8_holds 298 = .ok (.iadd, 1) := dk_96 (dk_at dksX8_holds_11 10 rfl rfl)
theorem dX8_holds_299 : decode cX8_holds 299 = .ok (.iaload, 1) := dk_46 (dk_at dksX8_holds_11 11 rfl rfl)
theorem dX8_holds_300 : decode cX8_holds 300 = .ok (.bipush 61, 2) := dk_16 61 (dk_at dksX8_holds_11 12 rfl rfl)
theorem dX8_holds_302 : decode cX8_holds 302 = .ok (.if_icmp .ne 18, 3) := dk_160 0 18 (dk_at dksX8_holds_11 14 rfl rfl)
theorem dX8_holds_305 : decode cX8_holds 305 = .ok (.iload 7, 2) := dk_21 7 (dk_at dksX8_holds_11 17 rfl rfl)
theorem dX8_holds_307 : decode cX8_holds 307 = .ok (.iload 5, 2) := dk_21 5 (dk_at dksX8_holds_11 19 rfl rfl)
theorem dX8_holds_309 : decode cX8_holds 309 = .ok (.if_icmp .ne 7, 3) := dk_160 0 7 (dk_at dksX8_holds_11 21 rfl rfl)
theorem dX8_holds_312 : decode cX8_holds 312 = .ok (.iconst 1, 1) := dk_4 (dk_at dksX8_holds_12 0 rfl rfl)
theorem dX8_holds_313 : decode cX8_holds 313 = .ok (.goto 19, 3) := dk_167 0 19 (dk_at dksX8_holds_12 1 rfl rfl)
theorem dX8_holds_316 : decode cX8_holds 316 = .ok (.iconst 0, 1) := dk_3 (dk_at dksX8_holds_12 4 rfl rfl)
theorem dX8_holds_317 : decode cX8_holds 317 = .ok (.goto 15, 3) := dk_167 0 15 (dk_at dksX8_holds_12 5 rfl rfl)
theorem dX8_holds_320 : decode cX8_holds 320 = .ok (.iload 7, 2) := dk_21 7 (dk_at dksX8_holds_12 8 rfl rfl)
theorem dX8_holds_322 : decode cX8_holds 322 = .ok (.iload 5, 2) := dk_21 5 (dk_at dksX8_holds_12 10 rfl rfl)
theorem dX8_holds_324 : decode cX8_holds 324 = .ok (.if_icmp .le 7, 3) := dk_164 0 7 (dk_at dksX8_holds_12 12 rfl rfl)
theorem dX8_holds_327 : decode cX8_holds 327 = .ok (.iconst 1, 1) := dk_4 (dk_at dksX8_holds_12 15 rfl rfl)
theorem dX8_holds_328 : decode cX8_holds 328 = .ok (.goto 4, 3) := dk_167 0 4 (dk_at dksX8_holds_12 16 rfl rfl)
theorem dX8_holds_331 : decode cX8_holds 331 = .ok (.iconst 0, 1) := dk_3 (dk_at dksX8_holds_12 19 rfl rfl)
theorem dX8_holds_332 : decode cX8_holds 332 = .ok (.ireturn, 1) := dk_172 (dk_at dksX8_holds_12 20 rfl rfl)
abbrev cX8_shows : ByteArray := prog_18_method_107_code
def yX8_shows : MethodName := ⟨RX8, "shows", "(II)Z"⟩
def dkwX8_shows_1 : List UInt8 := [160, 0, 5, 4, 172, 132, 3, 1, 167, 255, 227, 3, 172]
abbrev dktX8_shows_1 : List UInt8 := dkwX8_shows_1 ++ []
def dkwX8_shows_0 : List UInt8 := [3, 62, 29, 42, 27, 6, 182, 1, 0, 162, 0, 25, 42, 27, 7, 6, 29, 104, 96, 182, 1, 0, 28]
abbrev dktX8_shows_0 : List UInt8 := dkwX8_shows_0 ++ dktX8_shows_1
theorem dksX8_shows_0 : cX8_shows.data.toList.drop 0 = dktX8_shows_0 := by decide +kernel
theorem dksX8_shows_1 : cX8_shows.data.toList.drop 23 = dktX8_shows_1 := dk_seg dksX8_shows_0 23 rfl rfl
theorem dX8_shows_0 : decode cX8_shows 0 = .ok (.iconst 0, 1) := dk_3 (dk_at dksX8_shows_0 0 rfl rfl)
theorem dX8_shows_1 : decode cX8_shows 1 = .ok (.istore_n 3, 1) := dk_62 (dk_at dksX8_shows_0 1 rfl rfl)
theorem dX8_shows_2 : decode cX8_shows 2 = .ok (.iload_n 3, 1) := dk_29 (dk_at dksX8_shows_0 2 rfl rfl)
theorem dX8_shows_3 : decode cX8_shows 3 = .ok (.aload_n 0, 1) := dk_42 (dk_at dksX8_shows_0 3 rfl rfl)
theorem dX8_shows_4 : decode cX8_shows 4 = .ok (.iload_n 1, 1) := dk_27 (dk_at dksX8_shows_0 4 rfl rfl)
theorem dX8_shows_5 : decode cX8_shows 5 = .ok (.iconst 3, 1) := dk_6 (dk_at dksX8_shows_0 5 rfl rfl)
theorem dX8_shows_6 : decode cX8_shows 6 = .ok (.invokevirtual 256, 3) := dk_182 1 0 (dk_at dksX8_shows_0 6 rfl rfl)
theorem dX8_shows_9 : decode cX8_shows 9 = .ok (.if_icmp .ge 25, 3) := dk_162 0 25 (dk_at dksX8_shows_0 9 rfl rfl)
theorem dX8_shows_12 : decode cX8_shows 12 = .ok (.aload_n 0, 1) := dk_42 (dk_at dksX8_shows_0 12 rfl rfl)
theorem dX8_shows_13 : decode cX8_shows 13 = .ok (.iload_n 1, 1) := dk_27 (dk_at dksX8_shows_0 13 rfl rfl)
theorem dX8_shows_14 : decode cX8_shows 14 = .ok (.iconst 4, 1) := dk_7 (dk_at dksX8_shows_0 14 rfl rfl)
theorem dX8_shows_15 : decode cX8_shows 15 = .ok (.iconst 3, 1) := dk_6 (dk_at dksX8_shows_0 15 rfl rfl)
theorem dX8_shows_16 : decode cX8_shows 16 = .ok (.iload_n 3, 1) := dk_29 (dk_at dksX8_shows_0 16 rfl rfl)
theorem dX8_shows_17 : decode cX8_shows 17 = .ok (.imul, 1) := dk_104 (dk_at dksX8_shows_0 17 rfl rfl)
theorem dX8_shows_18 : decode cX8_shows 18 = .ok (.iadd, 1) := dk_96 (dk_at dksX8_shows_0 18 rfl rfl)
theorem dX8_shows_19 : decode cX8_shows 19 = .ok (.invokevirtual 256, 3) := dk_182 1 0 (dk_at dksX8_shows_0 19 rfl rfl)
theorem dX8_shows_22 : decode cX8_shows 22 = .ok (.iload_n 2, 1) := dk_28 (dk_at dksX8_shows_0 22 rfl rfl)
theorem dX8_shows_23 : decode cX8_shows 23 = .ok (.if_icmp .ne 5, 3) := dk_160 0 5 (dk_at dksX8_shows_1 0 rfl rfl)
theorem dX8_shows_26 : decode cX8_shows 26 = .ok (.iconst 1, 1) := dk_4 (dk_at dksX8_shows_1 3 rfl rfl)
theorem dX8_shows_27 : decode cX8_shows 27 = .ok (.ireturn, 1) := dk_172 (dk_at dksX8_shows_1 4 rfl rfl)
theorem dX8_shows_28 : decode cX8_shows 28 = .ok (.iinc 3 1, 3) := dk_132 3 1 (dk_at dksX8_shows_1 5 rfl rfl)
theorem dX8_shows_31 : decode cX8_shows 31 = .ok (.goto (-29), 3) := dk_167 255 227 (dk_at dksX8_shows_1 8 rfl rfl)
theorem dX8_shows_34 : decode cX8_shows 34 = .ok (.iconst 0, 1) := dk_3 (dk_at dksX8_shows_1 11 rfl rfl)
theorem dX8_shows_35 : decode cX8_shows 35 = .ok (.ireturn, 1) := dk_172 (dk_at dksX8_shows_1 12 rfl rfl)
abbrev cX8_image : ByteArray := prog_18_method_110_code
def yX8_image : MethodName := ⟨RX8, "image", "(I)Z"⟩
def dkwX8_image_3 : List UInt8 := [42, 180, 0, 26, 28, 47, 80, 132, 2, 1, 167, 255, 230, 42, 180, 0, 36, 27, 4, 84, 4, 172]
abbrev dktX8_image_3 : List UInt8 := dkwX8_image_3 ++ []
def dkwX8_image_2 : List UInt8 := [132, 2, 1, 167, 255, 228, 3, 61, 28, 16, 12, 162, 0, 26, 42, 180, 0, 33, 16, 12, 27, 104, 28, 96]
abbrev dktX8_image_2 : List UInt8 := dkwX8_image_2 ++ dktX8_image_3
def dkwX8_image_1 : List UInt8 := [17, 31, 204, 162, 0, 27, 42, 180, 0, 19, 17, 31, 204, 27, 104, 28, 96, 42, 180, 0, 13, 28, 46, 79]
abbrev dktX8_image_1 : List UInt8 := dkwX8_image_1 ++ dktX8_image_2
def dkwX8_image_0 : List UInt8 := [42, 3, 181, 0, 83, 42, 182, 0, 167, 27, 3, 4, 184, 0, 154, 154, 0, 5, 3, 172, 3, 61, 28]
abbrev dktX8_image_0 : List UInt8 := dkwX8_image_0 ++ dktX8_image_1
theorem dksX8_image_0 : cX8_image.data.toList.drop 0 = dktX8_image_0 := by decide +kernel
theorem dksX8_image_1 : cX8_image.data.toList.drop 23 = dktX8_image_1 := dk_seg dksX8_image_0 23 rfl rfl
theorem dksX8_image_2 : cX8_image.data.toList.drop 47 = dktX8_image_2 := dk_seg dksX8_image_1 24 rfl rfl
theorem dksX8_image_3 : cX8_image.data.toList.drop 71 = dktX8_image_3 := dk_seg dksX8_image_2 24 rfl rfl
theorem dX8_image_0 : decode cX8_image 0 = .ok (.aload_n 0, 1) := dk_42 (dk_at dksX8_image_0 0 rfl rfl)
theorem dX8_image_1 : decode cX8_image 1 = .ok (.iconst 0, 1) := dk_3 (dk_at dksX8_image_0 1 rfl rfl)
theorem dX8_image_2 : decode cX8_image 2 = .ok (.putfield 83, 3) := dk_181 0 83 (dk_at dksX8_image_0 2 rfl rfl)
theorem dX8_image_5 : decode cX8_image 5 = .ok (.aload_n 0, 1) := dk_42 (dk_at dksX8_image_0 5 rfl rfl)
theorem dX8_image_6 : decode cX8_image 6 = .ok (.invokevirtual 167, 3) := dk_182 0 167 (dk_at dksX8_image_0 6 rfl rfl)
theorem dX8_image_9 : decode cX8_image 9 = .ok (.iload_n 1, 1) := dk_27 (dk_at dksX8_image_0 9 rfl rfl)
theorem dX8_image_10 : decode cX8_image 10 = .ok (.iconst 0, 1) := dk_3 (dk_at dksX8_image_0 10 rfl rfl)
theorem dX8_image_11 : decode cX8_image 11 = .ok (.iconst 1, 1) := dk_4 (dk_at dksX8_image_0 11 rfl rfl)
theorem dX8_image_12 : decode cX8_image 12 = .ok (.invokestatic 154, 3) := dk_184 0 154 (dk_at dksX8_image_0 12 rfl rfl)
theorem dX8_image_15 : decode cX8_image 15 = .ok (.ifCond .ne 5, 3) := dk_154 0 5 (dk_at dksX8_image_0 15 rfl rfl)
theorem dX8_image_18 : decode cX8_image 18 = .ok (.iconst 0, 1) := dk_3 (dk_at dksX8_image_0 18 rfl rfl)
theorem dX8_image_19 : decode cX8_image 19 = .ok (.ireturn, 1) := dk_172 (dk_at dksX8_image_0 19 rfl rfl)
theorem dX8_image_20 : decode cX8_image 20 = .ok (.iconst 0, 1) := dk_3 (dk_at dksX8_image_0 20 rfl rfl)
theorem dX8_image_21 : decode cX8_image 21 = .ok (.istore_n 2, 1) := dk_61 (dk_at dksX8_image_0 21 rfl rfl)
theorem dX8_image_22 : decode cX8_image 22 = .ok (.iload_n 2, 1) := dk_28 (dk_at dksX8_image_0 22 rfl rfl)
theorem dX8_image_23 : decode cX8_image 23 = .ok (.sipush 8140, 3) := dk_17 31 204 (dk_at dksX8_image_1 0 rfl rfl)
theorem dX8_image_26 : decode cX8_image 26 = .ok (.if_icmp .ge 27, 3) := dk_162 0 27 (dk_at dksX8_image_1 3 rfl rfl)
theorem dX8_image_29 : decode cX8_image 29 = .ok (.aload_n 0, 1) := dk_42 (dk_at dksX8_image_1 6 rfl rfl)
theorem dX8_image_30 : decode cX8_image 30 = .ok (.getfield 19, 3) := dk_180 0 19 (dk_at dksX8_image_1 7 rfl rfl)
theorem dX8_image_33 : decode cX8_image 33 = .ok (.sipush 8140, 3) := dk_17 31 204 (dk_at dksX8_image_1 10 rfl rfl)
theorem dX8_image_36 : decode cX8_image 36 = .ok (.iload_n 1, 1) := dk_27 (dk_at dksX8_image_1 13 rfl rfl)
theorem dX8_image_37 : decode cX8_image 37 = .ok (.imul, 1) := dk_104 (dk_at dksX8_image_1 14 rfl rfl)
theorem dX8_image_38 : decode cX8_image 38 = .ok (.iload_n 2, 1) := dk_28 (dk_at dksX8_image_1 15 rfl rfl)
theorem dX8_image_39 : decode cX8_image 39 = .ok (.iadd, 1) := dk_96 (dk_at dksX8_image_1 16 rfl rfl)
theorem dX8_image_40 : decode cX8_image 40 = .ok (.aload_n 0, 1) := dk_42 (dk_at dksX8_image_1 17 rfl rfl)
theorem dX8_image_41 : decode cX8_image 41 = .ok (.getfield 13, 3) := dk_180 0 13 (dk_at dksX8_image_1 18 rfl rfl)
theorem dX8_image_44 : decode cX8_image 44 = .ok (.iload_n 2, 1) := dk_28 (dk_at dksX8_image_1 21 rfl rfl)
theorem dX8_image_45 : decode cX8_image 45 = .ok (.iaload, 1) := dk_46 (dk_at dksX8_image_1 22 rfl rfl)
theorem dX8_image_46 : decode cX8_image 46 = .ok (.iastore, 1) := dk_79 (dk_at dksX8_image_1 23 rfl rfl)
theorem dX8_image_47 : decode cX8_image 47 = .ok (.iinc 2 1, 3) := dk_132 2 1 (dk_at dksX8_image_2 0 rfl rfl)
theorem dX8_image_50 : decode cX8_image 50 = .ok (.goto (-28), 3) := dk_167 255 228 (dk_at dksX8_image_2 3 rfl rfl)
theorem dX8_image_53 : decode cX8_image 53 = .ok (.iconst 0, 1) := dk_3 (dk_at dksX8_image_2 6 rfl rfl)
theorem dX8_image_54 : decode cX8_image 54 = .ok (.istore_n 2, 1) := dk_61 (dk_at dksX8_image_2 7 rfl rfl)
theorem dX8_image_55 : decode cX8_image 55 = .ok (.iload_n 2, 1) := dk_28 (dk_at dksX8_image_2 8 rfl rfl)
theorem dX8_image_56 : decode cX8_image 56 = .ok (.bipush 12, 2) := dk_16 12 (dk_at dksX8_image_2 9 rfl rfl)
theorem dX8_image_58 : decode cX8_image 58 = .ok (.if_icmp .ge 26, 3) := dk_162 0 26 (dk_at dksX8_image_2 11 rfl rfl)
theorem dX8_image_61 : decode cX8_image 61 = .ok (.aload_n 0, 1) := dk_42 (dk_at dksX8_image_2 14 rfl rfl)
theorem dX8_image_62 : decode cX8_image 62 = .ok (.getfield 33, 3) := dk_180 0 33 (dk_at dksX8_image_2 15 rfl rfl)
theorem dX8_image_65 : decode cX8_image 65 = .ok (.bipush 12, 2) := dk_16 12 (dk_at dksX8_image_2 18 rfl rfl)
theorem dX8_image_67 : decode cX8_image 67 = .ok (.iload_n 1, 1) := dk_27 (dk_at dksX8_image_2 20 rfl rfl)
theorem dX8_image_68 : decode cX8_image 68 = .ok (.imul, 1) := dk_104 (dk_at dksX8_image_2 21 rfl rfl)
theorem dX8_image_69 : decode cX8_image 69 = .ok (.iload_n 2, 1) := dk_28 (dk_at dksX8_image_2 22 rfl rfl)
theorem dX8_image_70 : decode cX8_image 70 = .ok (.iadd, 1) := dk_96 (dk_at dksX8_image_2 23 rfl rfl)
theorem dX8_image_71 : decode cX8_image 71 = .ok (.aload_n 0, 1) := dk_42 (dk_at dksX8_image_3 0 rfl rfl)
theorem dX8_image_72 : decode cX8_image 72 = .ok (.getfield 26, 3) := dk_180 0 26 (dk_at dksX8_image_3 1 rfl rfl)
theorem dX8_image_75 : decode cX8_image 75 = .ok (.iload_n 2, 1) := dk_28 (dk_at dksX8_image_3 4 rfl rfl)
theorem dX8_image_76 : decode cX8_image 76 = .ok (.laload, 1) := dk_47 (dk_at dksX8_image_3 5 rfl rfl)
theorem dX8_image_77 : decode cX8_image 77 = .ok (.lastore, 1) := dk_80 (dk_at dksX8_image_3 6 rfl rfl)
theorem dX8_image_78 : decode cX8_image 78 = .ok (.iinc 2 1, 3) := dk_132 2 1 (dk_at dksX8_image_3 7 rfl rfl)
theorem dX8_image_81 : decode cX8_image 81 = .ok (.goto (-26), 3) := dk_167 255 230 (dk_at dksX8_image_3 10 rfl rfl)
theorem dX8_image_84 : decode cX8_image 84 = .ok (.aload_n 0, 1) := dk_42 (dk_at dksX8_image_3 13 rfl rfl)
theorem dX8_image_85 : decode cX8_image 85 = .ok (.getfield 36, 3) := dk_180 0 36 (dk_at dksX8_image_3 14 rfl rfl)
theorem dX8_image_88 : decode cX8_image 88 = .ok (.iload_n 1, 1) := dk_27 (dk_at dksX8_image_3 17 rfl rfl)
theorem dX8_image_89 : decode cX8_image 89 = .ok (.iconst 1, 1) := dk_4 (dk_at dksX8_image_3 18 rfl rfl)
theorem dX8_image_90 : decode cX8_image 90 = .ok (.bastore, 1) := dk_84 (dk_at dksX8_image_3 19 rfl rfl)
theorem dX8_image_91 : decode cX8_image 91 = .ok (.iconst 1, 1) := dk_4 (dk_at dksX8_image_3 20 rfl rfl)
theorem dX8_image_92 : decode cX8_image 92 = .ok (.ireturn, 1) := dk_172 (dk_at dksX8_image_3 21 rfl rfl)
abbrev cX8_restore : ByteArray := prog_18_method_111_code
def yX8_restore : MethodName := ⟨RX8, "restore", "(I)Z"⟩
def dkwX8_restore_4 : List UInt8 := [181, 0, 240, 4, 172]
abbrev dktX8_restore_4 : List UInt8 := dkwX8_restore_4 ++ []
def dkwX8_restore_3 : List UInt8 := [180, 0, 26, 28, 42, 180, 0, 33, 16, 12, 27, 104, 28, 96, 47, 80, 132, 2, 1, 167, 255, 230, 42, 3]
abbrev dktX8_restore_3 : List UInt8 := dkwX8_restore_3 ++ dktX8_restore_4
def dkwX8_restore_2 : List UInt8 := [17, 31, 204, 27, 104, 28, 96, 46, 79, 132, 2, 1, 167, 255, 228, 3, 61, 28, 16, 12, 162, 0, 26, 42]
abbrev dktX8_restore_2 : List UInt8 := dkwX8_restore_2 ++ dktX8_restore_3
def dkwX8_restore_1 : List UInt8 := [154, 0, 5, 3, 172, 3, 61, 28, 17, 31, 204, 162, 0, 27, 42, 180, 0, 13, 28, 42, 180, 0, 19]
abbrev dktX8_restore_1 : List UInt8 := dkwX8_restore_1 ++ dktX8_restore_2
def dkwX8_restore_0 : List UInt8 := [42, 3, 181, 0, 83, 42, 182, 0, 167, 27, 3, 4, 184, 0, 154, 153, 0, 12, 42, 180, 0, 36, 27, 51]
abbrev dktX8_restore_0 : List UInt8 := dkwX8_restore_0 ++ dktX8_restore_1
theorem dksX8_restore_0 : cX8_restore.data.toList.drop 0 = dktX8_restore_0 := by decide +kernel
theorem dksX8_restore_1 : cX8_restore.data.toList.drop 24 = dktX8_restore_1 := dk_seg dksX8_restore_0 24 rfl rfl
theorem dksX8_restore_2 : cX8_restore.data.toList.drop 47 = dktX8_restore_2 := dk_seg dksX8_restore_1 23 rfl rfl
theorem dksX8_restore_3 : cX8_restore.data.toList.drop 71 = dktX8_restore_3 := dk_seg dksX8_restore_2 24 rfl rfl
theorem dksX8_restore_4 : cX8_restore.data.toList.drop 95 = dktX8_restore_4 := dk_seg dksX8_restore_3 24 rfl rfl
theorem dX8_restore_0 : decode cX8_restore 0 = .ok (.aload_n 0, 1) := dk_42 (dk_at dksX8_restore_0 0 rfl rfl)
theorem dX8_restore_1 : decode cX8_restore 1 = .ok (.iconst 0, 1) := dk_3 (dk_at dksX8_restore_0 1 rfl rfl)
theorem dX8_restore_2 : decode cX8_restore 2 = .ok (.putfield 83, 3) := dk_181 0 83 (dk_at dksX8_restore_0 2 rfl rfl)
theorem dX8_restore_5 : decode cX8_restore 5 = .ok (.aload_n 0, 1) := dk_42 (dk_at dksX8_restore_0 5 rfl rfl)
theorem dX8_restore_6 : decode cX8_restore 6 = .ok (.invokevirtual 167, 3) := dk_182 0 167 (dk_at dksX8_restore_0 6 rfl rfl)
theorem dX8_restore_9 : decode cX8_restore 9 = .ok (.iload_n 1, 1) := dk_27 (dk_at dksX8_restore_0 9 rfl rfl)
theorem dX8_restore_10 : decode cX8_restore 10 = .ok (.iconst 0, 1) := dk_3 (dk_at dksX8_restore_0 10 rfl rfl)
theorem dX8_restore_11 : decode cX8_restore 11 = .ok (.iconst 1, 1) := dk_4 (dk_at dksX8_restore_0 11 rfl rfl)
theorem dX8_restore_12 : decode cX8_restore 12 = .ok (.invokestatic 154, 3) := dk_184 0 154 (dk_at dksX8_restore_0 12 rfl rfl)
theorem dX8_restore_15 : decode cX8_restore 15 = .ok (.ifCond .eq 12, 3) := dk_153 0 12 (dk_at dksX8_restore_0 15 rfl rfl)
theorem dX8_restore_18 : decode cX8_restore 18 = .ok (.aload_n 0, 1) := dk_42 (dk_at dksX8_restore_0 18 rfl rfl)
theorem dX8_restore_19 : decode cX8_restore 19 = .ok (.getfield 36, 3) := dk_180 0 36 (dk_at dksX8_restore_0 19 rfl rfl)
theorem dX8_restore_22 : decode cX8_restore 22 = .ok (.iload_n 1, 1) := dk_27 (dk_at dksX8_restore_0 22 rfl rfl)
theorem dX8_restore_23 : decode cX8_restore 23 = .ok (.baload, 1) := dk_51 (dk_at dksX8_restore_0 23 rfl rfl)
theorem dX8_restore_24 : decode cX8_restore 24 = .ok (.ifCond .ne 5, 3) := dk_154 0 5 (dk_at dksX8_restore_1 0 rfl rfl)
theorem dX8_restore_27 : decode cX8_restore 27 = .ok (.iconst 0, 1) := dk_3 (dk_at dksX8_restore_1 3 rfl rfl)
theorem dX8_restore_28 : decode cX8_restore 28 = .ok (.ireturn, 1) := dk_172 (dk_at dksX8_restore_1 4 rfl rfl)
theorem dX8_restore_29 : decode cX8_restore 29 = .ok (.iconst 0, 1) := dk_3 (dk_at dksX8_restore_1 5 rfl rfl)
theorem dX8_restore_30 : decode cX8_restore 30 = .ok (.istore_n 2, 1) := dk_61 (dk_at dksX8_restore_1 6 rfl rfl)
theorem dX8_restore_31 : decode cX8_restore 31 = .ok (.iload_n 2, 1) := dk_28 (dk_at dksX8_restore_1 7 rfl rfl)
theorem dX8_restore_32 : decode cX8_restore 32 = .ok (.sipush 8140, 3) := dk_17 31 204 (dk_at dksX8_restore_1 8 rfl rfl)
theorem dX8_restore_35 : decode cX8_restore 35 = .ok (.if_icmp .ge 27, 3) := dk_162 0 27 (dk_at dksX8_restore_1 11 rfl rfl)
theorem dX8_restore_38 : decode cX8_restore 38 = .ok (.aload_n 0, 1) := dk_42 (dk_at dksX8_restore_1 14 rfl rfl)
theorem dX8_restore_39 : decode cX8_restore 39 = .ok (.getfield 13, 3) := dk_180 0 13 (dk_at dksX8_restore_1 15 rfl rfl)
theorem dX8_restore_42 : decode cX8_restore 42 = .ok (.iload_n 2, 1) := dk_28 (dk_at dksX8_restore_1 18 rfl rfl)
theorem dX8_restore_43 : decode cX8_restore 43 = .ok (.aload_n 0, 1) := dk_42 (dk_at dksX8_restore_1 19 rfl rfl)
theorem dX8_restore_44 : decode cX8_restore 44 = .ok (.getfield 19, 3) := dk_180 0 19 (dk_at dksX8_restore_1 20 rfl rfl)
theorem dX8_restore_47 : decode cX8_restore 47 = .ok (.sipush 8140, 3) := dk_17 31 204 (dk_at dksX8_restore_2 0 rfl rfl)
theorem dX8_restore_50 : decode cX8_restore 50 = .ok (.iload_n 1, 1) := dk_27 (dk_at dksX8_restore_2 3 rfl rfl)
theorem dX8_restore_51 : decode cX8_restore 51 = .ok (.imul, 1) := dk_104 (dk_at dksX8_restore_2 4 rfl rfl)
theorem dX8_restore_52 : decode cX8_restore 52 = .ok (.iload_n 2, 1) := dk_28 (dk_at dksX8_restore_2 5 rfl rfl)
theorem dX8_restore_53 : decode cX8_restore 53 = .ok (.iadd, 1) := dk_96 (dk_at dksX8_restore_2 6 rfl rfl)
theorem dX8_restore_54 : decode cX8_restore 54 = .ok (.iaload, 1) := dk_46 (dk_at dksX8_restore_2 7 rfl rfl)
theorem dX8_restore_55 : decode cX8_restore 55 = .ok (.iastore, 1) := dk_79 (dk_at dksX8_restore_2 8 rfl rfl)
theorem dX8_restore_56 : decode cX8_restore 56 = .ok (.iinc 2 1, 3) := dk_132 2 1 (dk_at dksX8_restore_2 9 rfl rfl)
theorem dX8_restore_59 : decode cX8_restore 59 = .ok (.goto (-28), 3) := dk_167 255 228 (dk_at dksX8_restore_2 12 rfl rfl)
theorem dX8_restore_62 : decode cX8_restore 62 = .ok (.iconst 0, 1) := dk_3 (dk_at dksX8_restore_2 15 rfl rfl)
theorem dX8_restore_63 : decode cX8_restore 63 = .ok (.istore_n 2, 1) := dk_61 (dk_at dksX8_restore_2 16 rfl rfl)
theorem dX8_restore_64 : decode cX8_restore 64 = .ok (.iload_n 2, 1) := dk_28 (dk_at dksX8_restore_2 17 rfl rfl)
theorem dX8_restore_65 : decode cX8_restore 65 = .ok (.bipush 12, 2) := dk_16 12 (dk_at dksX8_restore_2 18 rfl rfl)
theorem dX8_restore_67 : decode cX8_restore 67 = .ok (.if_icmp .ge 26, 3) := dk_162 0 26 (dk_at dksX8_restore_2 20 rfl rfl)
theorem dX8_restore_70 : decode cX8_restore 70 = .ok (.aload_n 0, 1) := dk_42 (dk_at dksX8_restore_2 23 rfl rfl)
theorem dX8_restore_71 : decode cX8_restore 71 = .ok (.getfield 26, 3) := dk_180 0 26 (dk_at dksX8_restore_3 0 rfl rfl)
theorem dX8_restore_74 : decode cX8_restore 74 = .ok (.iload_n 2, 1) := dk_28 (dk_at dksX8_restore_3 3 rfl rfl)
theorem dX8_restore_75 : decode cX8_restore 75 = .ok (.aload_n 0, 1) := dk_42 (dk_at dksX8_restore_3 4 rfl rfl)
theorem dX8_restore_76 : decode cX8_restore 76 = .ok (.getfield 33, 3) := dk_180 0 33 (dk_at dksX8_restore_3 5 rfl rfl)
theorem dX8_restore_79 : decode cX8_restore 79 = .ok (.bipush 12, 2) := dk_16 12 (dk_at dksX8_restore_3 8 rfl rfl)
theorem dX8_restore_81 : decode cX8_restore 81 = .ok (.iload_n 1, 1) := dk_27 (dk_at dksX8_restore_3 10 rfl rfl)
theorem dX8_restore_82 : decode cX8_restore 82 = .ok (.imul, 1) := dk_104 (dk_at dksX8_restore_3 11 rfl rfl)
theorem dX8_restore_83 : decode cX8_restore 83 = .ok (.iload_n 2, 1) := dk_28 (dk_at dksX8_restore_3 12 rfl rfl)
theorem dX8_restore_84 : decode cX8_restore 84 = .ok (.iadd, 1) := dk_96 (dk_at dksX8_restore_3 13 rfl rfl)
theorem dX8_restore_85 : decode cX8_restore 85 = .ok (.laload, 1) := dk_47 (dk_at dksX8_restore_3 14 rfl rfl)
theorem dX8_restore_86 : decode cX8_restore 86 = .ok (.lastore, 1) := dk_80 (dk_at dksX8_restore_3 15 rfl rfl)
theorem dX8_restore_87 : decode cX8_restore 87 = .ok (.iinc 2 1, 3) := dk_132 2 1 (dk_at dksX8_restore_3 16 rfl rfl)
theorem dX8_restore_90 : decode cX8_restore 90 = .ok (.goto (-26), 3) := dk_167 255 230 (dk_at dksX8_restore_3 19 rfl rfl)
theorem dX8_restore_93 : decode cX8_restore 93 = .ok (.aload_n 0, 1) := dk_42 (dk_at dksX8_restore_3 22 rfl rfl)
theorem dX8_restore_94 : decode cX8_restore 94 = .ok (.iconst 0, 1) := dk_3 (dk_at dksX8_restore_3 23 rfl rfl)
theorem dX8_restore_95 : decode cX8_restore 95 = .ok (.putfield 240, 3) := dk_181 0 240 (dk_at dksX8_restore_4 0 rfl rfl)
theorem dX8_restore_98 : decode cX8_restore 98 = .ok (.iconst 1, 1) := dk_4 (dk_at dksX8_restore_4 3 rfl rfl)
theorem dX8_restore_99 : decode cX8_restore 99 = .ok (.ireturn, 1) := dk_172 (dk_at dksX8_restore_4 4 rfl rfl)
abbrev cX8_count : ByteArray := prog_18_method_112_code
def yX8_count : MethodName := ⟨RX8, "count", "(I)I"⟩
def dkwX8_count_4 : List UInt8 := [16, 111, 46, 172]
abbrev dktX8_count_4 : List UInt8 := dkwX8_count_4 ++ []
def dkwX8_count_3 : List UInt8 := [46, 167, 0, 26, 27, 16, 9, 160, 0, 13, 42, 180, 0, 13, 16, 110, 46, 167, 0, 10, 42, 180, 0, 13]
abbrev dktX8_count_3 : List UInt8 := dkwX8_count_3 ++ dktX8_count_4
def dkwX8_count_2 : List UInt8 := [16, 7, 160, 0, 10, 42, 182, 0, 188, 167, 0, 42, 27, 16, 8, 160, 0, 13, 42, 180, 0, 13, 16, 109]
abbrev dktX8_count_2 : List UInt8 := dkwX8_count_2 ++ dktX8_count_3
def dkwX8_count_1 : List UInt8 := [184, 0, 154, 154, 0, 5, 2, 172, 27, 16, 7, 162, 0, 12, 42, 180, 0, 13, 27, 46, 167, 0, 55, 27]
abbrev dktX8_count_1 : List UInt8 := dkwX8_count_1 ++ dktX8_count_2
def dkwX8_count_0 : List UInt8 := [42, 3, 181, 0, 83, 42, 182, 0, 167, 27, 16, 11, 160, 0, 8, 42, 180, 0, 86, 172, 27, 3, 16, 10]
abbrev dktX8_count_0 : List UInt8 := dkwX8_count_0 ++ dktX8_count_1
theorem dksX8_count_0 : cX8_count.data.toList.drop 0 = dktX8_count_0 := by decide +kernel
theorem dksX8_count_1 : cX8_count.data.toList.drop 24 = dktX8_count_1 := dk_seg dksX8_count_0 24 rfl rfl
theorem dksX8_count_2 : cX8_count.data.toList.drop 48 = dktX8_count_2 := dk_seg dksX8_count_1 24 rfl rfl
theorem dksX8_count_3 : cX8_count.data.toList.drop 72 = dktX8_count_3 := dk_seg dksX8_count_2 24 rfl rfl
theorem dksX8_count_4 : cX8_count.data.toList.drop 96 = dktX8_count_4 := dk_seg dksX8_count_3 24 rfl rfl
theorem dX8_count_0 : decode cX8_count 0 = .ok (.aload_n 0, 1) := dk_42 (dk_at dksX8_count_0 0 rfl rfl)
theorem dX8_count_1 : decode cX8_count 1 = .ok (.iconst 0, 1) := dk_3 (dk_at dksX8_count_0 1 rfl rfl)
theorem dX8_count_2 : decode cX8_count 2 = .ok (.putfield 83, 3) := dk_181 0 83 (dk_at dksX8_count_0 2 rfl rfl)
theorem dX8_count_5 : decode cX8_count 5 = .ok (.aload_n 0, 1) := dk_42 (dk_at dksX8_count_0 5 rfl rfl)
theorem dX8_count_6 : decode cX8_count 6 = .ok (.invokevirtual 167, 3) := dk_182 0 167 (dk_at dksX8_count_0 6 rfl rfl)
theorem dX8_count_9 : decode cX8_count 9 = .ok (.iload_n 1, 1) := dk_27 (dk_at dksX8_count_0 9 rfl rfl)
theorem dX8_count_10 : decode cX8_count 10 = .ok (.bipush 11, 2) := dk_16 11 (dk_at dksX8_count_0 10 rfl rfl)
theorem dX8_count_12 : decode cX8_count 12 = .ok (.if_icmp .ne 8, 3) := dk_160 0 8 (dk_at dksX8_count_0 12 rfl rfl)
theorem dX8_count_15 : decode cX8_count 15 = .ok (.aload_n 0, 1) := dk_42 (dk_at dksX8_count_0 15 rfl rfl)
theorem dX8_count_16 : decode cX8_count 16 = .ok (.getfield 86, 3) := dk_180 0 86 (dk_at dksX8_count_0 16 rfl rfl)
theorem dX8_count_19 : decode cX8_count 19 = .ok (.ireturn, 1) := dk_172 (dk_at dksX8_count_0 19 rfl rfl)
theorem dX8_count_20 : decode cX8_count 20 = .ok (.iload_n 1, 1) := dk_27 (dk_at dksX8_count_0 20 rfl rfl)
theorem dX8_count_21 : decode cX8_count 21 = .ok (.iconst 0, 1) := dk_3 (dk_at dksX8_count_0 21 rfl rfl)
theorem dX8_count_22 : decode cX8_count 22 = .ok (.bipush 10, 2) := dk_16 10 (dk_at dksX8_count_0 22 rfl rfl)
theorem dX8_count_24 : decode cX8_count 24 = .ok (.invokestatic 154, 3) := dk_184 0 154 (dk_at dksX8_count_1 0 rfl rfl)
theorem dX8_count_27 : decode cX8_count 27 = .ok (.ifCond .ne 5, 3) := dk_154 0 5 (dk_at dksX8_count_1 3 rfl rfl)
theorem dX8_count_30 : decode cX8_count 30 = .ok (.iconst (-1), 1) := dk_2 (dk_at dksX8_count_1 6 rfl rfl)
theorem dX8_count_31 : decode cX8_count 31 = .ok (.ireturn, 1) := dk_172 (dk_at dksX8_count_1 7 rfl rfl)
theorem dX8_count_32 : decode cX8_count 32 = .ok (.iload_n 1, 1) := dk_27 (dk_at dksX8_count_1 8 rfl rfl)
theorem dX8_count_33 : decode cX8_count 33 = .ok (.bipush 7, 2) := dk_16 7 (dk_at dksX8_count_1 9 rfl rfl)
theorem dX8_count_35 : decode cX8_count 35 = .ok (.if_icmp .ge 12, 3) := dk_162 0 12 (dk_at dksX8_count_1 11 rfl rfl)
theorem dX8_count_38 : decode cX8_count 38 = .ok (.aload_n 0, 1) := dk_42 (dk_at dksX8_count_1 14 rfl rfl)
theorem dX8_count_39 : decode cX8_count 39 = .ok (.getfield 13, 3) := dk_180 0 13 (dk_at dksX8_count_1 15 rfl rfl)
theorem dX8_count_42 : decode cX8_count 42 = .ok (.iload_n 1, 1) := dk_27 (dk_at dksX8_count_1 18 rfl rfl)
theorem dX8_count_43 : decode cX8_count 43 = .ok (.iaload, 1) := dk_46 (dk_at dksX8_count_1 19 rfl rfl)
theorem dX8_count_44 : decode cX8_count 44 = .ok (.goto 55, 3) := dk_167 0 55 (dk_at dksX8_count_1 20 rfl rfl)
theorem dX8_count_47 : decode cX8_count 47 = .ok (.iload_n 1, 1) := dk_27 (dk_at dksX8_count_1 23 rfl rfl)
theorem dX8_count_48 : decode cX8_count 48 = .ok (.bipush 7, 2) := dk_16 7 (dk_at dksX8_count_2 0 rfl rfl)
theorem dX8_count_50 : decode cX8_count 50 = .ok (.if_icmp .ne 10, 3) := dk_160 0 10 (dk_at dksX8_count_2 2 rfl rfl)
theorem dX8_count_53 : decode cX8_count 53 = .ok (.aload_n 0, 1) := dk_42 (dk_at dksX8_count_2 5 rfl rfl)
theorem dX8_count_54 : decode cX8_count 54 = .ok (.invokevirtual 188, 3) := dk_182 0 188 (dk_at dksX8_count_2 6 rfl rfl)
theorem dX8_count_57 : decode cX8_count 57 = .ok (.goto 42, 3) := dk_167 0 42 (dk_at dksX8_count_2 9 rfl rfl)
theorem dX8_count_60 : decode cX8_count 60 = .ok (.iload_n 1, 1) := dk_27 (dk_at dksX8_count_2 12 rfl rfl)
theorem dX8_count_61 : decode cX8_count 61 = .ok (.bipush 8, 2) := dk_16 8 (dk_at dksX8_count_2 13 rfl rfl)
theorem dX8_count_63 : decode cX8_count 63 = .ok (.if_icmp .ne 13, 3) := dk_160 0 13 (dk_at dksX8_count_2 15 rfl rfl)
theorem dX8_count_66 : decode cX8_count 66 = .ok (.aload_n 0, 1) := dk_42 (dk_at dksX8_count_2 18 rfl rfl)
theorem dX8_count_67 : decode cX8_count 67 = .ok (.getfield 13, 3) := dk_180 0 13 (dk_at dksX8_count_2 19 rfl rfl)
theorem dX8_count_70 : decode cX8_count 70 = .ok (.bipush 109, 2) := dk_16 109 (dk_at dksX8_count_2 22 rfl rfl)
theorem dX8_count_72 : decode cX8_count 72 = .ok (.iaload, 1) := dk_46 (dk_at dksX8_count_3 0 rfl rfl)
theorem dX8_count_73 : decode cX8_count 73 = .ok (.goto 26, 3) := dk_167 0 26 (dk_at dksX8_count_3 1 rfl rfl)
theorem dX8_count_76 : decode cX8_count 76 = .ok (.iload_n 1, 1) := dk_27 (dk_at dksX8_count_3 4 rfl rfl)
theorem dX8_count_77 : decode cX8_count 77 = .ok (.bipush 9, 2) := dk_16 9 (dk_at dksX8_count_3 5 rfl rfl)
theorem dX8_count_79 : decode cX8_count 79 = .ok (.if_icmp .ne 13, 3) := dk_160 0 13 (dk_at dksX8_count_3 7 rfl rfl)
theorem dX8_count_82 : decode cX8_count 82 = .ok (.aload_n 0, 1) := dk_42 (dk_at dksX8_count_3 10 rfl rfl)
theorem dX8_count_83 : decode cX8_count 83 = .ok (.getfield 13, 3) := dk_180 0 13 (dk_at dksX8_count_3 11 rfl rfl)
theorem dX8_count_86 : decode cX8_count 86 = .ok (.bipush 110, 2) := dk_16 110 (dk_at dksX8_count_3 14 rfl rfl)
theorem dX8_count_88 : decode cX8_count 88 = .ok (.iaload, 1) := dk_46 (dk_at dksX8_count_3 16 rfl rfl)
theorem dX8_count_89 : decode cX8_count 89 = .ok (.goto 10, 3) := dk_167 0 10 (dk_at dksX8_count_3 17 rfl rfl)
theorem dX8_count_92 : decode cX8_count 92 = .ok (.aload_n 0, 1) := dk_42 (dk_at dksX8_count_3 20 rfl rfl)
theorem dX8_count_93 : decode cX8_count 93 = .ok (.getfield 13, 3) := dk_180 0 13 (dk_at dksX8_count_3 21 rfl rfl)
theorem dX8_count_96 : decode cX8_count 96 = .ok (.bipush 111, 2) := dk_16 111 (dk_at dksX8_count_4 0 rfl rfl)
theorem dX8_count_98 : decode cX8_count 98 = .ok (.iaload, 1) := dk_46 (dk_at dksX8_count_4 2 rfl rfl)
theorem dX8_count_99 : decode cX8_count 99 = .ok (.ireturn, 1) := dk_172 (dk_at dksX8_count_4 3 rfl rfl)
theorem q105 : (Jvm.Cond.initialized "FaceCoinsModel") ∈ lw_all := lw_g (lw_at lw_m1 10 rfl) rfl
theorem q1306 : (Jvm.Cond.instantiable "FaceCoinsModel" (47 : Nat)) ∈ lw_all := lw_g (lw_at lw_m6 11 rfl) rfl
theorem q1308 : (Jvm.Cond.instanceMethod ({ cls := "FaceCoinsModel", name := "<init>", desc := "()V" } : Jvm.MethodName)) ∈ lw_all := lw_g (lw_at lw_m6 13 rfl) rfl
theorem q1309 : (Jvm.Cond.code ({ cls := "FaceCoinsModel", name := "<init>", desc := "()V" } : Jvm.MethodName) prog_18_method_1_code (1 : Nat) (Option.none : Option Jvm.ClassFile.FieldType)) ∈ lw_all := lw_g (lw_at lw_m6 14 rfl) rfl
theorem q1310 : (Jvm.Cond.methodLink "FaceCoinsModel" (1 : Nat) ({ cls := "java/lang/Object", name := "<init>", desc := "()V" } : Jvm.MethodName)) ∈ lw_all := lw_g (lw_at lw_m6 15 rfl) rfl
theorem q1311 : (Jvm.Cond.constant "FaceCoinsModel" (22 : Nat) (47400 : Int32)) ∈ lw_all := lw_g (lw_at lw_m6 16 rfl) rfl
theorem q1312 : (Jvm.Cond.fieldLink "FaceCoinsModel" (83 : Nat) "FaceCoinsModel" "thrown" "I") ∈ lw_all := lw_g (lw_at lw_m6 17 rfl) rfl
theorem q1313 : (Jvm.Cond.fieldLink "FaceCoinsModel" (7 : Nat) "FaceCoinsModel" "tape" "[I") ∈ lw_all := lw_g (lw_at lw_m6 18 rfl) rfl
theorem q1314 : (Jvm.Cond.fieldLink "FaceCoinsModel" (86 : Nat) "FaceCoinsModel" "taped" "I") ∈ lw_all := lw_g (lw_at lw_m6 19 rfl) rfl
theorem q1315 : (Jvm.Cond.fieldLink "FaceCoinsModel" (93 : Nat) "FaceCoinsModel" "size" "I") ∈ lw_all := lw_g (lw_at lw_m6 20 rfl) rfl
theorem q1316 : (Jvm.Cond.fieldLink "FaceCoinsModel" (102 : Nat) "FaceCoinsModel" "limit" "I") ∈ lw_all := lw_g (lw_at lw_m6 21 rfl) rfl
theorem q1317 : (Jvm.Cond.fieldLink "FaceCoinsModel" (96 : Nat) "FaceCoinsModel" "to" "I") ∈ lw_all := lw_g (lw_at lw_m6 22 rfl) rfl
theorem q1318 : (Jvm.Cond.fieldLink "FaceCoinsModel" (99 : Nat) "FaceCoinsModel" "from" "I") ∈ lw_all := lw_g (lw_at lw_m6 23 rfl) rfl
theorem q1319 : (Jvm.Cond.fieldLink "FaceCoinsModel" (105 : Nat) "FaceCoinsModel" "kind" "I") ∈ lw_all := lw_g (lw_at lw_m6 24 rfl) rfl
theorem q1320 : (Jvm.Cond.fieldLink "FaceCoinsModel" (122 : Nat) "FaceCoinsModel" "number" "I") ∈ lw_all := lw_g (lw_at lw_m6 25 rfl) rfl
theorem q1321 : (Jvm.Cond.fieldLink "FaceCoinsModel" (115 : Nat) "FaceCoinsModel" "sign" "I") ∈ lw_all := lw_g (lw_at lw_m6 26 rfl) rfl
theorem q1322 : (Jvm.Cond.fieldLink "FaceCoinsModel" (145 : Nat) "FaceCoinsModel" "fault" "I") ∈ lw_all := lw_g (lw_at lw_m6 27 rfl) rfl
theorem q1323 : (Jvm.Cond.fieldLink "FaceCoinsModel" (148 : Nat) "FaceCoinsModel" "place" "I") ∈ lw_all := lw_g (lw_at lw_m6 28 rfl) rfl
theorem q1324 : (Jvm.Cond.fieldLink "FaceCoinsModel" (118 : Nat) "FaceCoinsModel" "word" "J") ∈ lw_all := lw_g (lw_at lw_m6 29 rfl) rfl
theorem q1325 : (Jvm.Cond.fieldLink "FaceCoinsModel" (158 : Nat) "FaceCoinsModel" "told" "I") ∈ lw_all := lw_g (lw_at lw_m6 30 rfl) rfl
theorem q1326 : (Jvm.Cond.fieldLink "FaceCoinsModel" (13 : Nat) "FaceCoinsModel" "now" "[I") ∈ lw_all := lw_g (lw_at lw_m6 31 rfl) rfl
theorem q1327 : (Jvm.Cond.fieldLink "FaceCoinsModel" (16 : Nat) "FaceCoinsModel" "read" "[I") ∈ lw_all := lw_g (lw_at lw_m6 32 rfl) rfl
theorem q1328 : (Jvm.Cond.fieldLink "FaceCoinsModel" (19 : Nat) "FaceCoinsModel" "kept" "[I") ∈ lw_all := lw_g (lw_at lw_m6 33 rfl) rfl
theorem q1329 : (Jvm.Cond.fieldLink "FaceCoinsModel" (23 : Nat) "FaceCoinsModel" "snaps" "[I") ∈ lw_all := lw_g (lw_at lw_m6 34 rfl) rfl
theorem q1330 : (Jvm.Cond.fieldLink "FaceCoinsModel" (26 : Nat) "FaceCoinsModel" "name" "[J") ∈ lw_all := lw_g (lw_at lw_m6 35 rfl) rfl
theorem q1331 : (Jvm.Cond.fieldLink "FaceCoinsModel" (30 : Nat) "FaceCoinsModel" "readName" "[J") ∈ lw_all := lw_g (lw_at lw_m6 36 rfl) rfl
theorem q1332 : (Jvm.Cond.fieldLink "FaceCoinsModel" (33 : Nat) "FaceCoinsModel" "keptName" "[J") ∈ lw_all := lw_g (lw_at lw_m6 37 rfl) rfl
theorem q1333 : (Jvm.Cond.fieldLink "FaceCoinsModel" (36 : Nat) "FaceCoinsModel" "isKept" "[Z") ∈ lw_all := lw_g (lw_at lw_m6 38 rfl) rfl
theorem q1334 : (Jvm.Cond.fieldLink "FaceCoinsModel" (174 : Nat) "FaceCoinsModel" "isBegun" "Z") ∈ lw_all := lw_g (lw_at lw_m6 39 rfl) rfl
theorem q1335 : (Jvm.Cond.fieldLink "FaceCoinsModel" (240 : Nat) "FaceCoinsModel" "snapMany" "I") ∈ lw_all := lw_g (lw_at lw_m6 40 rfl) rfl
theorem q1336 : (Jvm.Cond.fieldLink "FaceCoinsModel" (212 : Nat) "FaceCoinsModel" "onces" "I") ∈ lw_all := lw_g (lw_at lw_m6 41 rfl) rfl
theorem q1337 : (Jvm.Cond.fieldLink "FaceCoinsModel" (40 : Nat) "FaceCoinsModel" "given" "[I") ∈ lw_all := lw_g (lw_at lw_m6 42 rfl) rfl
theorem q1338 : (Jvm.Cond.fieldLink "FaceCoinsModel" (43 : Nat) "FaceCoinsModel" "looked" "[I") ∈ lw_all := lw_g (lw_at lw_m6 43 rfl) rfl
theorem q1339 : (Jvm.Cond.fieldLink "FaceCoinsModel" (46 : Nat) "FaceCoinsModel" "worth" "[I") ∈ lw_all := lw_g (lw_at lw_m6 44 rfl) rfl
theorem q1340 : (Jvm.Cond.fieldLink "FaceCoinsModel" (49 : Nat) "FaceCoinsModel" "least" "[I") ∈ lw_all := lw_g (lw_at lw_m6 45 rfl) rfl
theorem q1341 : (Jvm.Cond.fieldLink "FaceCoinsModel" (52 : Nat) "FaceCoinsModel" "paid" "[I") ∈ lw_all := lw_g (lw_at lw_m6 46 rfl) rfl
theorem q1342 : (Jvm.Cond.fieldLink "FaceCoinsModel" (55 : Nat) "FaceCoinsModel" "chosen" "[I") ∈ lw_all := lw_g (lw_at lw_m6 47 rfl) rfl
theorem q1343 : (Jvm.Cond.fieldLink "FaceCoinsModel" (307 : Nat) "FaceCoinsModel" "lookedMany" "I") ∈ lw_all := lw_g (lw_at lw_m6 48 rfl) rfl
theorem q1344 : (Jvm.Cond.fieldLink "FaceCoinsModel" (58 : Nat) "FaceCoinsModel" "paidMany" "I") ∈ lw_all := lw_g (lw_at lw_m6 49 rfl) rfl
theorem q1345 : (Jvm.Cond.fieldLink "FaceCoinsModel" (62 : Nat) "FaceCoinsModel" "wayWho" "[I") ∈ lw_all := lw_g (lw_at lw_m6 50 rfl) rfl
theorem q1346 : (Jvm.Cond.fieldLink "FaceCoinsModel" (65 : Nat) "FaceCoinsModel" "wayMint" "[I") ∈ lw_all := lw_g (lw_at lw_m6 51 rfl) rfl
theorem q1347 : (Jvm.Cond.fieldLink "FaceCoinsModel" (68 : Nat) "FaceCoinsModel" "couldWho" "[I") ∈ lw_all := lw_g (lw_at lw_m6 52 rfl) rfl
theorem q1348 : (Jvm.Cond.fieldLink "FaceCoinsModel" (71 : Nat) "FaceCoinsModel" "couldMint" "[I") ∈ lw_all := lw_g (lw_at lw_m6 53 rfl) rfl
theorem q1349 : (Jvm.Cond.fieldLink "FaceCoinsModel" (74 : Nat) "FaceCoinsModel" "shownWho" "[I") ∈ lw_all := lw_g (lw_at lw_m6 54 rfl) rfl
theorem q1350 : (Jvm.Cond.fieldLink "FaceCoinsModel" (77 : Nat) "FaceCoinsModel" "shownDeep" "[I") ∈ lw_all := lw_g (lw_at lw_m6 55 rfl) rfl
theorem q1351 : (Jvm.Cond.fieldLink "FaceCoinsModel" (344 : Nat) "FaceCoinsModel" "rowsMade" "I") ∈ lw_all := lw_g (lw_at lw_m6 56 rfl) rfl
theorem q1352 : (Jvm.Cond.fieldLink "FaceCoinsModel" (352 : Nat) "FaceCoinsModel" "rowsLong" "I") ∈ lw_all := lw_g (lw_at lw_m6 57 rfl) rfl
theorem q1353 : (Jvm.Cond.fieldLink "FaceCoinsModel" (355 : Nat) "FaceCoinsModel" "seed" "I") ∈ lw_all := lw_g (lw_at lw_m6 58 rfl) rfl
theorem q1354 : (Jvm.Cond.fieldLink "FaceCoinsModel" (80 : Nat) "FaceCoinsModel" "node" "[I") ∈ lw_all := lw_g (lw_at lw_m6 59 rfl) rfl
theorem q1355 : (Jvm.Cond.fieldLink "FaceCoinsModel" (362 : Nat) "FaceCoinsModel" "nodes" "I") ∈ lw_all := lw_g (lw_at lw_m6 60 rfl) rfl
theorem q1356 : (Jvm.Cond.fieldLink "FaceCoinsModel" (377 : Nat) "FaceCoinsModel" "onesMany" "I") ∈ lw_all := lw_g (lw_at lw_m6 61 rfl) rfl
theorem q1357 : (Jvm.Cond.fieldLink "FaceCoinsModel" (380 : Nat) "FaceCoinsModel" "within" "I") ∈ lw_all := lw_g (lw_at lw_m6 62 rfl) rfl
theorem q1358 : (Jvm.Cond.fieldLink "FaceCoinsModel" (368 : Nat) "FaceCoinsModel" "top" "I") ∈ lw_all := lw_g (lw_at lw_m6 63 rfl) rfl
theorem q1359 : (Jvm.Cond.lays "FaceCoinsModel" "FaceCoinsModel" "thrown" "I") ∈ lw_all := lw_g (lw_at lw_m6 64 rfl) rfl
theorem q1360 : (Jvm.Cond.soleField "FaceCoinsModel" "thrown") ∈ lw_all := lw_g (lw_at lw_m6 65 rfl) rfl
theorem q1361 : (Jvm.Cond.laysFinal "FaceCoinsModel" "FaceCoinsModel" "tape" "[I") ∈ lw_all := lw_g (lw_at lw_m6 66 rfl) rfl
theorem q1362 : (Jvm.Cond.soleField "FaceCoinsModel" "tape") ∈ lw_all := lw_g (lw_at lw_m6 67 rfl) rfl
theorem q1363 : (Jvm.Cond.lays "FaceCoinsModel" "FaceCoinsModel" "taped" "I") ∈ lw_all := lw_g (lw_at lw_m6 68 rfl) rfl
theorem q1364 : (Jvm.Cond.soleField "FaceCoinsModel" "taped") ∈ lw_all := lw_g (lw_at lw_m6 69 rfl) rfl
theorem q1365 : (Jvm.Cond.lays "FaceCoinsModel" "FaceCoinsModel" "size" "I") ∈ lw_all := lw_g (lw_at lw_m6 70 rfl) rfl
theorem q1366 : (Jvm.Cond.soleField "FaceCoinsModel" "size") ∈ lw_all := lw_g (lw_at lw_m6 71 rfl) rfl
theorem q1367 : (Jvm.Cond.lays "FaceCoinsModel" "FaceCoinsModel" "limit" "I") ∈ lw_all := lw_g (lw_at lw_m6 72 rfl) rfl
theorem q1368 : (Jvm.Cond.soleField "FaceCoinsModel" "limit") ∈ lw_all := lw_g (lw_at lw_m6 73 rfl) rfl
theorem q1369 : (Jvm.Cond.lays "FaceCoinsModel" "FaceCoinsModel" "to" "I") ∈ lw_all := lw_g (lw_at lw_m6 74 rfl) rfl
theorem q1370 : (Jvm.Cond.soleField "FaceCoinsModel" "to") ∈ lw_all := lw_g (lw_at lw_m6 75 rfl) rfl
theorem q1371 : (Jvm.Cond.lays "FaceCoinsModel" "FaceCoinsModel" "from" "I") ∈ lw_all := lw_g (lw_at lw_m6 76 rfl) rfl
theorem q1372 : (Jvm.Cond.soleField "FaceCoinsModel" "from") ∈ lw_all := lw_g (lw_at lw_m6 77 rfl) rfl
theorem q1373 : (Jvm.Cond.lays "FaceCoinsModel" "FaceCoinsModel" "kind" "I") ∈ lw_all := lw_g (lw_at lw_m6 78 rfl) rfl
theorem q1374 : (Jvm.Cond.soleField "FaceCoinsModel" "kind") ∈ lw_all := lw_g (lw_at lw_m6 79 rfl) rfl
theorem q1375 : (Jvm.Cond.lays "FaceCoinsModel" "FaceCoinsModel" "number" "I") ∈ lw_all := lw_g (lw_at lw_m6 80 rfl) rfl
theorem q1376 : (Jvm.Cond.soleField "FaceCoinsModel" "number") ∈ lw_all := lw_g (lw_at lw_m6 81 rfl) rfl
theorem q1377 : (Jvm.Cond.lays "FaceCoinsModel" "FaceCoinsModel" "sign" "I") ∈ lw_all := lw_g (lw_at lw_m6 82 rfl) rfl
theorem q1378 : (Jvm.Cond.soleField "FaceCoinsModel" "sign") ∈ lw_all := lw_g (lw_at lw_m6 83 rfl) rfl
theorem q1379 : (Jvm.Cond.lays "FaceCoinsModel" "FaceCoinsModel" "fault" "I") ∈ lw_all := lw_g (lw_at lw_m6 84 rfl) rfl
theorem q1380 : (Jvm.Cond.soleField "FaceCoinsModel" "fault") ∈ lw_all := lw_g (lw_at lw_m6 85 rfl) rfl
theorem q1381 : (Jvm.Cond.lays "FaceCoinsModel" "FaceCoinsModel" "place" "I") ∈ lw_all := lw_g (lw_at lw_m6 86 rfl) rfl
theorem q1382 : (Jvm.Cond.soleField "FaceCoinsModel" "place") ∈ lw_all := lw_g (lw_at lw_m6 87 rfl) rfl
theorem q1383 : (Jvm.Cond.lays "FaceCoinsModel" "FaceCoinsModel" "word" "J") ∈ lw_all := lw_g (lw_at lw_m6 88 rfl) rfl
theorem q1384 : (Jvm.Cond.soleField "FaceCoinsModel" "word") ∈ lw_all := lw_g (lw_at lw_m6 89 rfl) rfl
theorem q1385 : (Jvm.Cond.lays "FaceCoinsModel" "FaceCoinsModel" "told" "I") ∈ lw_all := lw_g (lw_at lw_m6 90 rfl) rfl
theorem q1386 : (Jvm.Cond.soleField "FaceCoinsModel" "told") ∈ lw_all := lw_g (lw_at lw_m6 91 rfl) rfl
theorem q1387 : (Jvm.Cond.laysFinal "FaceCoinsModel" "FaceCoinsModel" "now" "[I") ∈ lw_all := lw_g (lw_at lw_m6 92 rfl) rfl
theorem q1388 : (Jvm.Cond.soleField "FaceCoinsModel" "now") ∈ lw_all := lw_g (lw_at lw_m6 93 rfl) rfl
theorem q1389 : (Jvm.Cond.laysFinal "FaceCoinsModel" "FaceCoinsModel" "read" "[I") ∈ lw_all := lw_g (lw_at lw_m6 94 rfl) rfl
theorem q1390 : (Jvm.Cond.soleField "FaceCoinsModel" "read") ∈ lw_all := lw_g (lw_at lw_m6 95 rfl) rfl
theorem q1391 : (Jvm.Cond.laysFinal "FaceCoinsModel" "FaceCoinsModel" "kept" "[I") ∈ lw_all := lw_g (lw_at lw_m6 96 rfl) rfl
theorem q1392 : (Jvm.Cond.soleField "FaceCoinsModel" "kept") ∈ lw_all := lw_g (lw_at lw_m6 97 rfl) rfl
theorem q1393 : (Jvm.Cond.laysFinal "FaceCoinsModel" "FaceCoinsModel" "snaps" "[I") ∈ lw_all := lw_g (lw_at lw_m6 98 rfl) rfl
theorem q1394 : (Jvm.Cond.soleField "FaceCoinsModel" "snaps") ∈ lw_all := lw_g (lw_at lw_m6 99 rfl) rfl
theorem q1395 : (Jvm.Cond.laysFinal "FaceCoinsModel" "FaceCoinsModel" "name" "[J") ∈ lw_all := lw_g (lw_at lw_m6 100 rfl) rfl
theorem q1396 : (Jvm.Cond.soleField "FaceCoinsModel" "name") ∈ lw_all := lw_g (lw_at lw_m6 101 rfl) rfl
theorem q1397 : (Jvm.Cond.laysFinal "FaceCoinsModel" "FaceCoinsModel" "readName" "[J") ∈ lw_all := lw_g (lw_at lw_m6 102 rfl) rfl
theorem q1398 : (Jvm.Cond.soleField "FaceCoinsModel" "readName") ∈ lw_all := lw_g (lw_at lw_m6 103 rfl) rfl
theorem q1399 : (Jvm.Cond.laysFinal "FaceCoinsModel" "FaceCoinsModel" "keptName" "[J") ∈ lw_all := lw_g (lw_at lw_m6 104 rfl) rfl
theorem q1400 : (Jvm.Cond.soleField "FaceCoinsModel" "keptName") ∈ lw_all := lw_g (lw_at lw_m6 105 rfl) rfl
theorem q1401 : (Jvm.Cond.laysFinal "FaceCoinsModel" "FaceCoinsModel" "isKept" "[Z") ∈ lw_all := lw_g (lw_at lw_m6 106 rfl) rfl
theorem q1402 : (Jvm.Cond.soleField "FaceCoinsModel" "isKept") ∈ lw_all := lw_g (lw_at lw_m6 107 rfl) rfl
theorem q1403 : (Jvm.Cond.lays "FaceCoinsModel" "FaceCoinsModel" "isBegun" "Z") ∈ lw_all := lw_g (lw_at lw_m6 108 rfl) rfl
theorem q1404 : (Jvm.Cond.soleField "FaceCoinsModel" "isBegun") ∈ lw_all := lw_g (lw_at lw_m6 109 rfl) rfl
theorem q1405 : (Jvm.Cond.lays "FaceCoinsModel" "FaceCoinsModel" "snapMany" "I") ∈ lw_all := lw_g (lw_at lw_m6 110 rfl) rfl
theorem q1406 : (Jvm.Cond.soleField "FaceCoinsModel" "snapMany") ∈ lw_all := lw_g (lw_at lw_m6 111 rfl) rfl
theorem q1407 : (Jvm.Cond.lays "FaceCoinsModel" "FaceCoinsModel" "onces" "I") ∈ lw_all := lw_g (lw_at lw_m6 112 rfl) rfl
theorem q1408 : (Jvm.Cond.soleField "FaceCoinsModel" "onces") ∈ lw_all := lw_g (lw_at lw_m6 113 rfl) rfl
theorem q1409 : (Jvm.Cond.laysFinal "FaceCoinsModel" "FaceCoinsModel" "given" "[I") ∈ lw_all := lw_g (lw_at lw_m6 114 rfl) rfl
theorem q1410 : (Jvm.Cond.soleField "FaceCoinsModel" "given") ∈ lw_all := lw_g (lw_at lw_m6 115 rfl) rfl
theorem q1411 : (Jvm.Cond.laysFinal "FaceCoinsModel" "FaceCoinsModel" "looked" "[I") ∈ lw_all := lw_g (lw_at lw_m6 116 rfl) rfl
theorem q1412 : (Jvm.Cond.soleField "FaceCoinsModel" "looked") ∈ lw_all := lw_g (lw_at lw_m6 117 rfl) rfl
theorem q1413 : (Jvm.Cond.laysFinal "FaceCoinsModel" "FaceCoinsModel" "worth" "[I") ∈ lw_all := lw_g (lw_at lw_m6 118 rfl) rfl
theorem q1414 : (Jvm.Cond.soleField "FaceCoinsModel" "worth") ∈ lw_all := lw_g (lw_at lw_m6 119 rfl) rfl
theorem q1415 : (Jvm.Cond.laysFinal "FaceCoinsModel" "FaceCoinsModel" "least" "[I") ∈ lw_all := lw_g (lw_at lw_m6 120 rfl) rfl
theorem q1416 : (Jvm.Cond.soleField "FaceCoinsModel" "least") ∈ lw_all := lw_g (lw_at lw_m6 121 rfl) rfl
theorem q1417 : (Jvm.Cond.laysFinal "FaceCoinsModel" "FaceCoinsModel" "paid" "[I") ∈ lw_all := lw_g (lw_at lw_m6 122 rfl) rfl
theorem q1418 : (Jvm.Cond.soleField "FaceCoinsModel" "paid") ∈ lw_all := lw_g (lw_at lw_m6 123 rfl) rfl
theorem q1419 : (Jvm.Cond.laysFinal "FaceCoinsModel" "FaceCoinsModel" "chosen" "[I") ∈ lw_all := lw_g (lw_at lw_m6 124 rfl) rfl
theorem q1420 : (Jvm.Cond.soleField "FaceCoinsModel" "chosen") ∈ lw_all := lw_g (lw_at lw_m6 125 rfl) rfl
theorem q1421 : (Jvm.Cond.lays "FaceCoinsModel" "FaceCoinsModel" "lookedMany" "I") ∈ lw_all := lw_g (lw_at lw_m6 126 rfl) rfl
theorem q1422 : (Jvm.Cond.soleField "FaceCoinsModel" "lookedMany") ∈ lw_all := lw_g (lw_at lw_m6 127 rfl) rfl
theorem q1423 : (Jvm.Cond.lays "FaceCoinsModel" "FaceCoinsModel" "paidMany" "I") ∈ lw_all := lw_g (lw_at lw_m6 128 rfl) rfl
theorem q1424 : (Jvm.Cond.soleField "FaceCoinsModel" "paidMany") ∈ lw_all := lw_g (lw_at lw_m6 129 rfl) rfl
theorem q1425 : (Jvm.Cond.laysFinal "FaceCoinsModel" "FaceCoinsModel" "wayWho" "[I") ∈ lw_all := lw_g (lw_at lw_m6 130 rfl) rfl
theorem q1426 : (Jvm.Cond.soleField "FaceCoinsModel" "wayWho") ∈ lw_all := lw_g (lw_at lw_m6 131 rfl) rfl
theorem q1427 : (Jvm.Cond.laysFinal "FaceCoinsModel" "FaceCoinsModel" "wayMint" "[I") ∈ lw_all := lw_g (lw_at lw_m6 132 rfl) rfl
theorem q1428 : (Jvm.Cond.soleField "FaceCoinsModel" "wayMint") ∈ lw_all := lw_g (lw_at lw_m6 133 rfl) rfl
theorem q1429 : (Jvm.Cond.laysFinal "FaceCoinsModel" "FaceCoinsModel" "couldWho" "[I") ∈ lw_all := lw_g (lw_at lw_m6 134 rfl) rfl
theorem q1430 : (Jvm.Cond.soleField "FaceCoinsModel" "couldWho") ∈ lw_all := lw_g (lw_at lw_m6 135 rfl) rfl
theorem q1431 : (Jvm.Cond.laysFinal "FaceCoinsModel" "FaceCoinsModel" "couldMint" "[I") ∈ lw_all := lw_g (lw_at lw_m6 136 rfl) rfl
theorem q1432 : (Jvm.Cond.soleField "FaceCoinsModel" "couldMint") ∈ lw_all := lw_g (lw_at lw_m6 137 rfl) rfl
theorem q1433 : (Jvm.Cond.laysFinal "FaceCoinsModel" "FaceCoinsModel" "shownWho" "[I") ∈ lw_all := lw_g (lw_at lw_m6 138 rfl) rfl
theorem q1434 : (Jvm.Cond.soleField "FaceCoinsModel" "shownWho") ∈ lw_all := lw_g (lw_at lw_m6 139 rfl) rfl
theorem q1435 : (Jvm.Cond.laysFinal "FaceCoinsModel" "FaceCoinsModel" "shownDeep" "[I") ∈ lw_all := lw_g (lw_at lw_m6 140 rfl) rfl
theorem q1436 : (Jvm.Cond.soleField "FaceCoinsModel" "shownDeep") ∈ lw_all := lw_g (lw_at lw_m6 141 rfl) rfl
theorem q1437 : (Jvm.Cond.lays "FaceCoinsModel" "FaceCoinsModel" "rowsMade" "I") ∈ lw_all := lw_g (lw_at lw_m6 142 rfl) rfl
theorem q1438 : (Jvm.Cond.soleField "FaceCoinsModel" "rowsMade") ∈ lw_all := lw_g (lw_at lw_m6 143 rfl) rfl
theorem q1439 : (Jvm.Cond.lays "FaceCoinsModel" "FaceCoinsModel" "rowsLong" "I") ∈ lw_all := lw_g (lw_at lw_m6 144 rfl) rfl
theorem q1440 : (Jvm.Cond.soleField "FaceCoinsModel" "rowsLong") ∈ lw_all := lw_g (lw_at lw_m6 145 rfl) rfl
theorem q1441 : (Jvm.Cond.lays "FaceCoinsModel" "FaceCoinsModel" "seed" "I") ∈ lw_all := lw_g (lw_at lw_m6 146 rfl) rfl
theorem q1442 : (Jvm.Cond.soleField "FaceCoinsModel" "seed") ∈ lw_all := lw_g (lw_at lw_m6 147 rfl) rfl
theorem q1443 : (Jvm.Cond.laysFinal "FaceCoinsModel" "FaceCoinsModel" "node" "[I") ∈ lw_all := lw_g (lw_at lw_m6 148 rfl) rfl
theorem q1444 : (Jvm.Cond.soleField "FaceCoinsModel" "node") ∈ lw_all := lw_g (lw_at lw_m6 149 rfl) rfl
theorem q1445 : (Jvm.Cond.lays "FaceCoinsModel" "FaceCoinsModel" "nodes" "I") ∈ lw_all := lw_g (lw_at lw_m6 150 rfl) rfl
theorem q1446 : (Jvm.Cond.soleField "FaceCoinsModel" "nodes") ∈ lw_all := lw_g (lw_at lw_m6 151 rfl) rfl
theorem q1447 : (Jvm.Cond.lays "FaceCoinsModel" "FaceCoinsModel" "onesMany" "I") ∈ lw_all := lw_g (lw_at lw_m6 152 rfl) rfl
theorem q1448 : (Jvm.Cond.soleField "FaceCoinsModel" "onesMany") ∈ lw_all := lw_g (lw_at lw_m6 153 rfl) rfl
theorem q1449 : (Jvm.Cond.lays "FaceCoinsModel" "FaceCoinsModel" "within" "I") ∈ lw_all := lw_g (lw_at lw_m6 154 rfl) rfl
theorem q1450 : (Jvm.Cond.soleField "FaceCoinsModel" "within") ∈ lw_all := lw_g (lw_at lw_m6 155 rfl) rfl
theorem q1451 : (Jvm.Cond.lays "FaceCoinsModel" "FaceCoinsModel" "top" "I") ∈ lw_all := lw_g (lw_at lw_m6 156 rfl) rfl
theorem q1452 : (Jvm.Cond.soleField "FaceCoinsModel" "top") ∈ lw_all := lw_g (lw_at lw_m6 157 rfl) rfl
theorem q1453 : (Jvm.Cond.superclass "FaceCoinsModel" "java/lang/Object") ∈ lw_all := lw_g (lw_at lw_m6 158 rfl) rfl
theorem q1456 : (Jvm.Cond.instanceMethod ({ cls := "FaceCoinsModel", name := "thrown", desc := "()I" } : Jvm.MethodName)) ∈ lw_all := lw_g (lw_at lw_m6 161 rfl) rfl
theorem q1457 : (Jvm.Cond.selects "FaceCoinsModel" ({ cls := "FaceCoinsModel", name := "thrown", desc := "()I" } : Jvm.MethodName) ({ cls := "FaceCoinsModel", name := "thrown", desc := "()I" } : Jvm.MethodName)) ∈ lw_all := lw_g (lw_at lw_m6 162 rfl) rfl
theorem q1458 : (Jvm.Cond.code ({ cls := "FaceCoinsModel", name := "thrown", desc := "()I" } : Jvm.MethodName) prog_18_method_2_code (1 : Nat) (Option.some Jvm.ClassFile.FieldType.int)) ∈ lw_all := lw_g (lw_at lw_m6 163 rfl) rfl
theorem q1460 : (Jvm.Cond.instanceMethod ({ cls := "FaceCoinsModel", name := "feed", desc := "(IIIII)I" } : Jvm.MethodName)) ∈ lw_all := lw_g (lw_at lw_m6 165 rfl) rfl
theorem q1461 : (Jvm.Cond.selects "FaceCoinsModel" ({ cls := "FaceCoinsModel", name := "feed", desc := "(IIIII)I" } : Jvm.MethodName) ({ cls := "FaceCoinsModel", name := "feed", desc := "(IIIII)I" } : Jvm.MethodName)) ∈ lw_all := lw_g (lw_at lw_m6 166 rfl) rfl
theorem q1462 : (Jvm.Cond.code ({ cls := "FaceCoinsModel", name := "feed", desc := "(IIIII)I" } : Jvm.MethodName) prog_18_method_5_code (6 : Nat) (Option.some Jvm.ClassFile.FieldType.int)) ∈ lw_all := lw_g (lw_at lw_m6 167 rfl) rfl
theorem q1463 : (Jvm.Cond.methodLink "FaceCoinsModel" (89 : Nat) ({ cls := "FaceCoinsModel", name := "come", desc := "(I)V" } : Jvm.MethodName)) ∈ lw_all := lw_g (lw_at lw_m6 168 rfl) rfl
theorem q1464 : (Jvm.Cond.privateMethod ({ cls := "FaceCoinsModel", name := "come", desc := "(I)V" } : Jvm.MethodName)) ∈ lw_tbl := lw_at lw_m6 169 rfl
theorem q1465 : (Jvm.Cond.instanceMethod ({ cls := "FaceCoinsModel", name := "come", desc := "(I)V" } : Jvm.MethodName)) ∈ lw_all := lw_g (lw_at lw_m6 170 rfl) rfl
theorem q1466 : (Jvm.Cond.code ({ cls := "FaceCoinsModel", name := "come", desc := "(I)V" } : Jvm.MethodName) prog_18_method_4_code (3 : Nat) (Option.none : Option Jvm.ClassFile.FieldType)) ∈ lw_all := lw_g (lw_at lw_m6 171 rfl) rfl
theorem q1468 : (Jvm.Cond.instanceMethod ({ cls := "FaceCoinsModel", name := "end", desc := "(I)Z" } : Jvm.MethodName)) ∈ lw_all := lw_g (lw_at lw_m6 173 rfl) rfl
theorem q1469 : (Jvm.Cond.selects "FaceCoinsModel" ({ cls := "FaceCoinsModel", name := "end", desc := "(I)Z" } : Jvm.MethodName) ({ cls := "FaceCoinsModel", name := "end", desc := "(I)Z" } : Jvm.MethodName)) ∈ lw_all := lw_g (lw_at lw_m6 174 rfl) rfl
theorem q1470 : (Jvm.Cond.code ({ cls := "FaceCoinsModel", name := "end", desc := "(I)Z" } : Jvm.MethodName) prog_18_method_6_code (2 : Nat) (Option.some Jvm.ClassFile.FieldType.boolean)) ∈ lw_all := lw_g (lw_at lw_m6 175 rfl) rfl
theorem q1472 : (Jvm.Cond.instanceMethod ({ cls := "FaceCoinsModel", name := "law", desc := "()I" } : Jvm.MethodName)) ∈ lw_all := lw_g (lw_at lw_m6 177 rfl) rfl
theorem q1473 : (Jvm.Cond.selects "FaceCoinsModel" ({ cls := "FaceCoinsModel", name := "law", desc := "()I" } : Jvm.MethodName) ({ cls := "FaceCoinsModel", name := "law", desc := "()I" } : Jvm.MethodName)) ∈ lw_all := lw_g (lw_at lw_m6 178 rfl) rfl
theorem q1474 : (Jvm.Cond.code ({ cls := "FaceCoinsModel", name := "law", desc := "()I" } : Jvm.MethodName) prog_18_method_43_code (3 : Nat) (Option.some Jvm.ClassFile.FieldType.int)) ∈ lw_all := lw_g (lw_at lw_m6 179 rfl) rfl
theorem q1475 : (Jvm.Cond.methodLink "FaceCoinsModel" (234 : Nat) ({ cls := "FaceCoinsModel", name := "begin", desc := "(I)V" } : Jvm.MethodName)) ∈ lw_all := lw_g (lw_at lw_m6 180 rfl) rfl
theorem q1476 : (Jvm.Cond.privateMethod ({ cls := "FaceCoinsModel", name := "begin", desc := "(I)V" } : Jvm.MethodName)) ∈ lw_tbl := lw_at lw_m6 181 rfl
theorem q1477 : (Jvm.Cond.instanceMethod ({ cls := "FaceCoinsModel", name := "begin", desc := "(I)V" } : Jvm.MethodName)) ∈ lw_all := lw_g (lw_at lw_m6 182 rfl) rfl
theorem q1478 : (Jvm.Cond.code ({ cls := "FaceCoinsModel", name := "begin", desc := "(I)V" } : Jvm.MethodName) prog_18_method_23_code (2 : Nat) (Option.none : Option Jvm.ClassFile.FieldType)) ∈ lw_all := lw_g (lw_at lw_m6 183 rfl) rfl
theorem q1479 : (Jvm.Cond.methodLink "FaceCoinsModel" (167 : Nat) ({ cls := "FaceCoinsModel", name := "lay", desc := "()V" } : Jvm.MethodName)) ∈ lw_all := lw_g (lw_at lw_m6 184 rfl) rfl
theorem q1480 : (Jvm.Cond.privateMethod ({ cls := "FaceCoinsModel", name := "lay", desc := "()V" } : Jvm.MethodName)) ∈ lw_tbl := lw_at lw_m6 185 rfl
theorem q1481 : (Jvm.Cond.instanceMethod ({ cls := "FaceCoinsModel", name := "lay", desc := "()V" } : Jvm.MethodName)) ∈ lw_all := lw_g (lw_at lw_m6 186 rfl) rfl
theorem q1482 : (Jvm.Cond.code ({ cls := "FaceCoinsModel", name := "lay", desc := "()V" } : Jvm.MethodName) prog_18_method_25_code (1 : Nat) (Option.none : Option Jvm.ClassFile.FieldType)) ∈ lw_all := lw_g (lw_at lw_m6 187 rfl) rfl
theorem q1483 : (Jvm.Cond.methodLink "FaceCoinsModel" (178 : Nat) ({ cls := "FaceCoinsModel", name := "plain", desc := "([I)V" } : Jvm.MethodName)) ∈ lw_all := lw_g (lw_at lw_m6 188 rfl) rfl
theorem q1484 : (Jvm.Cond.privateMethod ({ cls := "FaceCoinsModel", name := "plain", desc := "([I)V" } : Jvm.MethodName)) ∈ lw_tbl := lw_at lw_m6 189 rfl
theorem q1485 : (Jvm.Cond.instanceMethod ({ cls := "FaceCoinsModel", name := "plain", desc := "([I)V" } : Jvm.MethodName)) ∈ lw_all := lw_g (lw_at lw_m6 190 rfl) rfl
theorem q1486 : (Jvm.Cond.code ({ cls := "FaceCoinsModel", name := "plain", desc := "([I)V" } : Jvm.MethodName) prog_18_method_24_code (2 : Nat) (Option.none : Option Jvm.ClassFile.FieldType)) ∈ lw_all := lw_g (lw_at lw_m6 191 rfl) rfl
theorem q1487 : (Jvm.Cond.methodLink "FaceCoinsModel" (170 : Nat) ({ cls := "FaceCoinsModel", name := "take", desc := "()I" } : Jvm.MethodName)) ∈ lw_all := lw_g (lw_at lw_m6 192 rfl) rfl
theorem q1488 : (Jvm.Cond.privateMethod ({ cls := "FaceCoinsModel", name := "take", desc := "()I" } : Jvm.MethodName)) ∈ lw_tbl := lw_at lw_m6 193 rfl
theorem q1489 : (Jvm.Cond.instanceMethod ({ cls := "FaceCoinsModel", name := "take", desc := "()I" } : Jvm.MethodName)) ∈ lw_all := lw_g (lw_at lw_m6 194 rfl) rfl
theorem q1490 : (Jvm.Cond.code ({ cls := "FaceCoinsModel", name := "take", desc := "()I" } : Jvm.MethodName) prog_18_method_7_code (2 : Nat) (Option.some Jvm.ClassFile.FieldType.int)) ∈ lw_all := lw_g (lw_at lw_m6 195 rfl) rfl
theorem q1491 : (Jvm.Cond.methodLink "FaceCoinsModel" (161 : Nat) ({ cls := "FaceCoinsModel", name := "go", desc := "()V" } : Jvm.MethodName)) ∈ lw_all := lw_g (lw_at lw_m6 196 rfl) rfl
theorem q1492 : (Jvm.Cond.privateMethod ({ cls := "FaceCoinsModel", name := "go", desc := "()V" } : Jvm.MethodName)) ∈ lw_tbl := lw_at lw_m6 197 rfl
theorem q1493 : (Jvm.Cond.instanceMethod ({ cls := "FaceCoinsModel", name := "go", desc := "()V" } : Jvm.MethodName)) ∈ lw_all := lw_g (lw_at lw_m6 198 rfl) rfl
theorem q1494 : (Jvm.Cond.code ({ cls := "FaceCoinsModel", name := "go", desc := "()V" } : Jvm.MethodName) prog_18_method_13_code (5 : Nat) (Option.none : Option Jvm.ClassFile.FieldType)) ∈ lw_all := lw_g (lw_at lw_m6 199 rfl) rfl
theorem q1495 : (Jvm.Cond.methodLink "FaceCoinsModel" (108 : Nat) ({ cls := "FaceCoinsModel", name := "isLetter", desc := "(I)Z" } : Jvm.MethodName)) ∈ lw_all := lw_g (lw_at lw_m6 200 rfl) rfl
theorem q1496 : (Jvm.Cond.static ({ cls := "FaceCoinsModel", name := "isLetter", desc := "(I)Z" } : Jvm.MethodName)) ∈ lw_all := lw_g (lw_at lw_m6 201 rfl) rfl
theorem q1497 : (Jvm.Cond.code ({ cls := "FaceCoinsModel", name := "isLetter", desc := "(I)Z" } : Jvm.MethodName) prog_18_method_12_code (1 : Nat) (Option.some Jvm.ClassFile.FieldType.boolean)) ∈ lw_all := lw_g (lw_at lw_m6 202 rfl) rfl
theorem q1498 : (Jvm.Cond.methodLink "FaceCoinsModel" (112 : Nat) ({ cls := "FaceCoinsModel", name := "isDigit", desc := "(I)Z" } : Jvm.MethodName)) ∈ lw_all := lw_g (lw_at lw_m6 203 rfl) rfl
theorem q1499 : (Jvm.Cond.static ({ cls := "FaceCoinsModel", name := "isDigit", desc := "(I)Z" } : Jvm.MethodName)) ∈ lw_all := lw_g (lw_at lw_m6 204 rfl) rfl
theorem q1500 : (Jvm.Cond.code ({ cls := "FaceCoinsModel", name := "isDigit", desc := "(I)Z" } : Jvm.MethodName) prog_18_method_11_code (1 : Nat) (Option.some Jvm.ClassFile.FieldType.boolean)) ∈ lw_all := lw_g (lw_at lw_m6 205 rfl) rfl
theorem q1501 : (Jvm.Cond.methodLink "FaceCoinsModel" (125 : Nat) ({ cls := "FaceCoinsModel", name := "byteAt", desc := "(I)I" } : Jvm.MethodName)) ∈ lw_all := lw_g (lw_at lw_m6 206 rfl) rfl
theorem q1502 : (Jvm.Cond.privateMethod ({ cls := "FaceCoinsModel", name := "byteAt", desc := "(I)I" } : Jvm.MethodName)) ∈ lw_tbl := lw_at lw_m6 207 rfl
theorem q1503 : (Jvm.Cond.instanceMethod ({ cls := "FaceCoinsModel", name := "byteAt", desc := "(I)I" } : Jvm.MethodName)) ∈ lw_all := lw_g (lw_at lw_m6 208 rfl) rfl
theorem q1504 : (Jvm.Cond.code ({ cls := "FaceCoinsModel", name := "byteAt", desc := "(I)I" } : Jvm.MethodName) prog_18_method_10_code (2 : Nat) (Option.some Jvm.ClassFile.FieldType.int)) ∈ lw_all := lw_g (lw_at lw_m6 209 rfl) rfl
theorem q1505 : (Jvm.Cond.constantLong "FaceCoinsModel" (129 : Nat) (27 : Int64)) ∈ lw_all := lw_g (lw_at lw_m6 210 rfl) rfl
theorem q1506 : (Jvm.Cond.constantLong "FaceCoinsModel" (131 : Nat) (96 : Int64)) ∈ lw_all := lw_g (lw_at lw_m6 211 rfl) rfl
theorem q1507 : (Jvm.Cond.methodLink "FaceCoinsModel" (237 : Nat) ({ cls := "FaceCoinsModel", name := "readLine", desc := "()Z" } : Jvm.MethodName)) ∈ lw_all := lw_g (lw_at lw_m6 212 rfl) rfl
theorem q1508 : (Jvm.Cond.privateMethod ({ cls := "FaceCoinsModel", name := "readLine", desc := "()Z" } : Jvm.MethodName)) ∈ lw_tbl := lw_at lw_m6 213 rfl
theorem q1509 : (Jvm.Cond.instanceMethod ({ cls := "FaceCoinsModel", name := "readLine", desc := "()Z" } : Jvm.MethodName)) ∈ lw_all := lw_g (lw_at lw_m6 214 rfl) rfl
theorem q1510 : (Jvm.Cond.code ({ cls := "FaceCoinsModel", name := "readLine", desc := "()Z" } : Jvm.MethodName) prog_18_method_42_code (2 : Nat) (Option.some Jvm.ClassFile.FieldType.boolean)) ∈ lw_all := lw_g (lw_at lw_m6 215 rfl) rfl
theorem q1511 : (Jvm.Cond.methodLink "FaceCoinsModel" (202 : Nat) ({ cls := "FaceCoinsModel", name := "isWord", desc := "(I)Z" } : Jvm.MethodName)) ∈ lw_all := lw_g (lw_at lw_m6 216 rfl) rfl
theorem q1512 : (Jvm.Cond.privateMethod ({ cls := "FaceCoinsModel", name := "isWord", desc := "(I)Z" } : Jvm.MethodName)) ∈ lw_tbl := lw_at lw_m6 217 rfl
theorem q1513 : (Jvm.Cond.instanceMethod ({ cls := "FaceCoinsModel", name := "isWord", desc := "(I)Z" } : Jvm.MethodName)) ∈ lw_all := lw_g (lw_at lw_m6 218 rfl) rfl
theorem q1514 : (Jvm.Cond.code ({ cls := "FaceCoinsModel", name := "isWord", desc := "(I)Z" } : Jvm.MethodName) prog_18_method_17_code (2 : Nat) (Option.some Jvm.ClassFile.FieldType.boolean)) ∈ lw_all := lw_g (lw_at lw_m6 219 rfl) rfl
theorem q1515 : (Jvm.Cond.methodLink "FaceCoinsModel" (141 : Nat) ({ cls := "FaceCoinsModel", name := "wordOf", desc := "(I)J" } : Jvm.MethodName)) ∈ lw_all := lw_g (lw_at lw_m6 220 rfl) rfl
theorem q1516 : (Jvm.Cond.static ({ cls := "FaceCoinsModel", name := "wordOf", desc := "(I)J" } : Jvm.MethodName)) ∈ lw_all := lw_g (lw_at lw_m6 221 rfl) rfl
theorem q1517 : (Jvm.Cond.code ({ cls := "FaceCoinsModel", name := "wordOf", desc := "(I)J" } : Jvm.MethodName) prog_18_method_16_code (1 : Nat) (Option.some Jvm.ClassFile.FieldType.long)) ∈ lw_all := lw_g (lw_at lw_m6 222 rfl) rfl
theorem q1518 : (Jvm.Cond.methodLink "FaceCoinsModel" (133 : Nat) ({ cls := "FaceCoinsModel", name := "spelt", desc := "(IIII)J" } : Jvm.MethodName)) ∈ lw_all := lw_g (lw_at lw_m6 223 rfl) rfl
theorem q1519 : (Jvm.Cond.static ({ cls := "FaceCoinsModel", name := "spelt", desc := "(IIII)J" } : Jvm.MethodName)) ∈ lw_all := lw_g (lw_at lw_m6 224 rfl) rfl
theorem q1520 : (Jvm.Cond.code ({ cls := "FaceCoinsModel", name := "spelt", desc := "(IIII)J" } : Jvm.MethodName) prog_18_method_14_code (6 : Nat) (Option.some Jvm.ClassFile.FieldType.long)) ∈ lw_all := lw_g (lw_at lw_m6 225 rfl) rfl
theorem q1521 : (Jvm.Cond.methodLink "FaceCoinsModel" (137 : Nat) ({ cls := "FaceCoinsModel", name := "on", desc := "(JII)J" } : Jvm.MethodName)) ∈ lw_all := lw_g (lw_at lw_m6 226 rfl) rfl
theorem q1522 : (Jvm.Cond.static ({ cls := "FaceCoinsModel", name := "on", desc := "(JII)J" } : Jvm.MethodName)) ∈ lw_all := lw_g (lw_at lw_m6 227 rfl) rfl
theorem q1523 : (Jvm.Cond.code ({ cls := "FaceCoinsModel", name := "on", desc := "(JII)J" } : Jvm.MethodName) prog_18_method_15_code (6 : Nat) (Option.some Jvm.ClassFile.FieldType.long)) ∈ lw_all := lw_g (lw_at lw_m6 228 rfl) rfl
theorem q1524 : (Jvm.Cond.methodLink "FaceCoinsModel" (218 : Nat) ({ cls := "FaceCoinsModel", name := "readWho", desc := "()Z" } : Jvm.MethodName)) ∈ lw_all := lw_g (lw_at lw_m6 229 rfl) rfl
theorem q1525 : (Jvm.Cond.privateMethod ({ cls := "FaceCoinsModel", name := "readWho", desc := "()Z" } : Jvm.MethodName)) ∈ lw_tbl := lw_at lw_m6 230 rfl
theorem q1526 : (Jvm.Cond.instanceMethod ({ cls := "FaceCoinsModel", name := "readWho", desc := "()Z" } : Jvm.MethodName)) ∈ lw_all := lw_g (lw_at lw_m6 231 rfl) rfl
theorem q1527 : (Jvm.Cond.code ({ cls := "FaceCoinsModel", name := "readWho", desc := "()Z" } : Jvm.MethodName) prog_18_method_37_code (2 : Nat) (Option.some Jvm.ClassFile.FieldType.boolean)) ∈ lw_all := lw_g (lw_at lw_m6 232 rfl) rfl
theorem q1528 : (Jvm.Cond.methodLink "FaceCoinsModel" (151 : Nat) ({ cls := "FaceCoinsModel", name := "bad", desc := "(I)Z" } : Jvm.MethodName)) ∈ lw_all := lw_g (lw_at lw_m6 233 rfl) rfl
theorem q1529 : (Jvm.Cond.privateMethod ({ cls := "FaceCoinsModel", name := "bad", desc := "(I)Z" } : Jvm.MethodName)) ∈ lw_tbl := lw_at lw_m6 234 rfl
theorem q1530 : (Jvm.Cond.instanceMethod ({ cls := "FaceCoinsModel", name := "bad", desc := "(I)Z" } : Jvm.MethodName)) ∈ lw_all := lw_g (lw_at lw_m6 235 rfl) rfl
theorem q1531 : (Jvm.Cond.code ({ cls := "FaceCoinsModel", name := "bad", desc := "(I)Z" } : Jvm.MethodName) prog_18_method_20_code (2 : Nat) (Option.some Jvm.ClassFile.FieldType.boolean)) ∈ lw_all := lw_g (lw_at lw_m6 236 rfl) rfl
theorem q1532 : (Jvm.Cond.methodLink "FaceCoinsModel" (199 : Nat) ({ cls := "FaceCoinsModel", name := "readNew", desc := "(I)Z" } : Jvm.MethodName)) ∈ lw_all := lw_g (lw_at lw_m6 237 rfl) rfl
theorem q1533 : (Jvm.Cond.privateMethod ({ cls := "FaceCoinsModel", name := "readNew", desc := "(I)Z" } : Jvm.MethodName)) ∈ lw_tbl := lw_at lw_m6 238 rfl
theorem q1534 : (Jvm.Cond.instanceMethod ({ cls := "FaceCoinsModel", name := "readNew", desc := "(I)Z" } : Jvm.MethodName)) ∈ lw_all := lw_g (lw_at lw_m6 239 rfl) rfl
theorem q1535 : (Jvm.Cond.code ({ cls := "FaceCoinsModel", name := "readNew", desc := "(I)Z" } : Jvm.MethodName) prog_18_method_36_code (2 : Nat) (Option.some Jvm.ClassFile.FieldType.boolean)) ∈ lw_all := lw_g (lw_at lw_m7 0 rfl) rfl
theorem q1536 : (Jvm.Cond.methodLink "FaceCoinsModel" (191 : Nat) ({ cls := "FaceCoinsModel", name := "isName", desc := "()Z" } : Jvm.MethodName)) ∈ lw_all := lw_g (lw_at lw_m7 1 rfl) rfl
theorem q1537 : (Jvm.Cond.privateMethod ({ cls := "FaceCoinsModel", name := "isName", desc := "()Z" } : Jvm.MethodName)) ∈ lw_tbl := lw_at lw_m7 2 rfl
theorem q1538 : (Jvm.Cond.instanceMethod ({ cls := "FaceCoinsModel", name := "isName", desc := "()Z" } : Jvm.MethodName)) ∈ lw_all := lw_g (lw_at lw_m7 3 rfl) rfl
theorem q1539 : (Jvm.Cond.code ({ cls := "FaceCoinsModel", name := "isName", desc := "()Z" } : Jvm.MethodName) prog_18_method_19_code (2 : Nat) (Option.some Jvm.ClassFile.FieldType.boolean)) ∈ lw_all := lw_g (lw_at lw_m7 4 rfl) rfl
theorem q1540 : (Jvm.Cond.methodLink "FaceCoinsModel" (195 : Nat) ({ cls := "FaceCoinsModel", name := "findIn", desc := "([JII)I" } : Jvm.MethodName)) ∈ lw_all := lw_g (lw_at lw_m7 5 rfl) rfl
theorem q1541 : (Jvm.Cond.privateMethod ({ cls := "FaceCoinsModel", name := "findIn", desc := "([JII)I" } : Jvm.MethodName)) ∈ lw_tbl := lw_at lw_m7 6 rfl
theorem q1542 : (Jvm.Cond.instanceMethod ({ cls := "FaceCoinsModel", name := "findIn", desc := "([JII)I" } : Jvm.MethodName)) ∈ lw_all := lw_g (lw_at lw_m7 7 rfl) rfl
theorem q1543 : (Jvm.Cond.code ({ cls := "FaceCoinsModel", name := "findIn", desc := "([JII)I" } : Jvm.MethodName) prog_18_method_35_code (5 : Nat) (Option.some Jvm.ClassFile.FieldType.int)) ∈ lw_all := lw_g (lw_at lw_m7 8 rfl) rfl
theorem q1544 : (Jvm.Cond.methodLink "FaceCoinsModel" (221 : Nat) ({ cls := "FaceCoinsModel", name := "readMint", desc := "()Z" } : Jvm.MethodName)) ∈ lw_all := lw_g (lw_at lw_m7 9 rfl) rfl
theorem q1545 : (Jvm.Cond.privateMethod ({ cls := "FaceCoinsModel", name := "readMint", desc := "()Z" } : Jvm.MethodName)) ∈ lw_tbl := lw_at lw_m7 10 rfl
theorem q1546 : (Jvm.Cond.instanceMethod ({ cls := "FaceCoinsModel", name := "readMint", desc := "()Z" } : Jvm.MethodName)) ∈ lw_all := lw_g (lw_at lw_m7 11 rfl) rfl
theorem q1547 : (Jvm.Cond.code ({ cls := "FaceCoinsModel", name := "readMint", desc := "()Z" } : Jvm.MethodName) prog_18_method_38_code (2 : Nat) (Option.some Jvm.ClassFile.FieldType.boolean)) ∈ lw_all := lw_g (lw_at lw_m7 12 rfl) rfl
theorem q1548 : (Jvm.Cond.methodLink "FaceCoinsModel" (205 : Nat) ({ cls := "FaceCoinsModel", name := "readNumber", desc := "(II)Z" } : Jvm.MethodName)) ∈ lw_all := lw_g (lw_at lw_m7 13 rfl) rfl
theorem q1549 : (Jvm.Cond.privateMethod ({ cls := "FaceCoinsModel", name := "readNumber", desc := "(II)Z" } : Jvm.MethodName)) ∈ lw_tbl := lw_at lw_m7 14 rfl
theorem q1550 : (Jvm.Cond.instanceMethod ({ cls := "FaceCoinsModel", name := "readNumber", desc := "(II)Z" } : Jvm.MethodName)) ∈ lw_all := lw_g (lw_at lw_m7 15 rfl) rfl
theorem q1551 : (Jvm.Cond.code ({ cls := "FaceCoinsModel", name := "readNumber", desc := "(II)Z" } : Jvm.MethodName) prog_18_method_21_code (3 : Nat) (Option.some Jvm.ClassFile.FieldType.boolean)) ∈ lw_all := lw_g (lw_at lw_m7 16 rfl) rfl
theorem q1552 : (Jvm.Cond.methodLink "FaceCoinsModel" (154 : Nat) ({ cls := "FaceCoinsModel", name := "isIn", desc := "(III)Z" } : Jvm.MethodName)) ∈ lw_all := lw_g (lw_at lw_m7 17 rfl) rfl
theorem q1553 : (Jvm.Cond.static ({ cls := "FaceCoinsModel", name := "isIn", desc := "(III)Z" } : Jvm.MethodName)) ∈ lw_all := lw_g (lw_at lw_m7 18 rfl) rfl
theorem q1554 : (Jvm.Cond.code ({ cls := "FaceCoinsModel", name := "isIn", desc := "(III)Z" } : Jvm.MethodName) prog_18_method_8_code (3 : Nat) (Option.some Jvm.ClassFile.FieldType.boolean)) ∈ lw_all := lw_g (lw_at lw_m7 19 rfl) rfl
theorem q1555 : (Jvm.Cond.methodLink "FaceCoinsModel" (224 : Nat) ({ cls := "FaceCoinsModel", name := "readTakes", desc := "()Z" } : Jvm.MethodName)) ∈ lw_all := lw_g (lw_at lw_m7 20 rfl) rfl
theorem q1556 : (Jvm.Cond.privateMethod ({ cls := "FaceCoinsModel", name := "readTakes", desc := "()Z" } : Jvm.MethodName)) ∈ lw_tbl := lw_at lw_m7 21 rfl
theorem q1557 : (Jvm.Cond.instanceMethod ({ cls := "FaceCoinsModel", name := "readTakes", desc := "()Z" } : Jvm.MethodName)) ∈ lw_all := lw_g (lw_at lw_m7 22 rfl) rfl
theorem q1558 : (Jvm.Cond.code ({ cls := "FaceCoinsModel", name := "readTakes", desc := "()Z" } : Jvm.MethodName) prog_18_method_40_code (3 : Nat) (Option.some Jvm.ClassFile.FieldType.boolean)) ∈ lw_all := lw_g (lw_at lw_m7 23 rfl) rfl
theorem q1559 : (Jvm.Cond.methodLink "FaceCoinsModel" (209 : Nat) ({ cls := "FaceCoinsModel", name := "readWhoTold", desc := "()Z" } : Jvm.MethodName)) ∈ lw_all := lw_g (lw_at lw_m7 24 rfl) rfl
theorem q1560 : (Jvm.Cond.privateMethod ({ cls := "FaceCoinsModel", name := "readWhoTold", desc := "()Z" } : Jvm.MethodName)) ∈ lw_tbl := lw_at lw_m7 25 rfl
theorem q1561 : (Jvm.Cond.instanceMethod ({ cls := "FaceCoinsModel", name := "readWhoTold", desc := "()Z" } : Jvm.MethodName)) ∈ lw_all := lw_g (lw_at lw_m7 26 rfl) rfl
theorem q1562 : (Jvm.Cond.code ({ cls := "FaceCoinsModel", name := "readWhoTold", desc := "()Z" } : Jvm.MethodName) prog_18_method_39_code (1 : Nat) (Option.some Jvm.ClassFile.FieldType.boolean)) ∈ lw_all := lw_g (lw_at lw_m7 27 rfl) rfl
theorem q1563 : (Jvm.Cond.methodLink "FaceCoinsModel" (227 : Nat) ({ cls := "FaceCoinsModel", name := "readOnce", desc := "(IIII)Z" } : Jvm.MethodName)) ∈ lw_all := lw_g (lw_at lw_m7 28 rfl) rfl
theorem q1564 : (Jvm.Cond.privateMethod ({ cls := "FaceCoinsModel", name := "readOnce", desc := "(IIII)Z" } : Jvm.MethodName)) ∈ lw_tbl := lw_at lw_m7 29 rfl
theorem q1565 : (Jvm.Cond.instanceMethod ({ cls := "FaceCoinsModel", name := "readOnce", desc := "(IIII)Z" } : Jvm.MethodName)) ∈ lw_all := lw_g (lw_at lw_m7 30 rfl) rfl
theorem q1566 : (Jvm.Cond.code ({ cls := "FaceCoinsModel", name := "readOnce", desc := "(IIII)Z" } : Jvm.MethodName) prog_18_method_41_code (5 : Nat) (Option.some Jvm.ClassFile.FieldType.boolean)) ∈ lw_all := lw_g (lw_at lw_m7 31 rfl) rfl
theorem q1567 : (Jvm.Cond.methodLink "FaceCoinsModel" (215 : Nat) ({ cls := "FaceCoinsModel", name := "has", desc := "(II)Z" } : Jvm.MethodName)) ∈ lw_all := lw_g (lw_at lw_m7 32 rfl) rfl
theorem q1568 : (Jvm.Cond.static ({ cls := "FaceCoinsModel", name := "has", desc := "(II)Z" } : Jvm.MethodName)) ∈ lw_all := lw_g (lw_at lw_m7 33 rfl) rfl
theorem q1569 : (Jvm.Cond.code ({ cls := "FaceCoinsModel", name := "has", desc := "(II)Z" } : Jvm.MethodName) prog_18_method_9_code (2 : Nat) (Option.some Jvm.ClassFile.FieldType.boolean)) ∈ lw_all := lw_g (lw_at lw_m7 34 rfl) rfl
theorem q1570 : (Jvm.Cond.methodLink "FaceCoinsModel" (231 : Nat) ({ cls := "FaceCoinsModel", name := "readEnd", desc := "()Z" } : Jvm.MethodName)) ∈ lw_all := lw_g (lw_at lw_m7 35 rfl) rfl
theorem q1571 : (Jvm.Cond.privateMethod ({ cls := "FaceCoinsModel", name := "readEnd", desc := "()Z" } : Jvm.MethodName)) ∈ lw_tbl := lw_at lw_m7 36 rfl
theorem q1572 : (Jvm.Cond.instanceMethod ({ cls := "FaceCoinsModel", name := "readEnd", desc := "()Z" } : Jvm.MethodName)) ∈ lw_all := lw_g (lw_at lw_m7 37 rfl) rfl
theorem q1573 : (Jvm.Cond.code ({ cls := "FaceCoinsModel", name := "readEnd", desc := "()Z" } : Jvm.MethodName) prog_18_method_22_code (1 : Nat) (Option.some Jvm.ClassFile.FieldType.boolean)) ∈ lw_all := lw_g (lw_at lw_m7 38 rfl) rfl
theorem q1574 : (Jvm.Cond.methodLink "FaceCoinsModel" (164 : Nat) ({ cls := "FaceCoinsModel", name := "isSign", desc := "(I)Z" } : Jvm.MethodName)) ∈ lw_all := lw_g (lw_at lw_m7 39 rfl) rfl
theorem q1575 : (Jvm.Cond.privateMethod ({ cls := "FaceCoinsModel", name := "isSign", desc := "(I)Z" } : Jvm.MethodName)) ∈ lw_tbl := lw_at lw_m7 40 rfl
theorem q1576 : (Jvm.Cond.instanceMethod ({ cls := "FaceCoinsModel", name := "isSign", desc := "(I)Z" } : Jvm.MethodName)) ∈ lw_all := lw_g (lw_at lw_m7 41 rfl) rfl
theorem q1577 : (Jvm.Cond.code ({ cls := "FaceCoinsModel", name := "isSign", desc := "(I)Z" } : Jvm.MethodName) prog_18_method_18_code (2 : Nat) (Option.some Jvm.ClassFile.FieldType.boolean)) ∈ lw_all := lw_g (lw_at lw_m7 42 rfl) rfl
theorem q1579 : (Jvm.Cond.instanceMethod ({ cls := "FaceCoinsModel", name := "fault", desc := "()I" } : Jvm.MethodName)) ∈ lw_all := lw_g (lw_at lw_m7 44 rfl) rfl
theorem q1580 : (Jvm.Cond.selects "FaceCoinsModel" ({ cls := "FaceCoinsModel", name := "fault", desc := "()I" } : Jvm.MethodName) ({ cls := "FaceCoinsModel", name := "fault", desc := "()I" } : Jvm.MethodName)) ∈ lw_all := lw_g (lw_at lw_m7 45 rfl) rfl
theorem q1581 : (Jvm.Cond.code ({ cls := "FaceCoinsModel", name := "fault", desc := "()I" } : Jvm.MethodName) prog_18_method_44_code (1 : Nat) (Option.some Jvm.ClassFile.FieldType.int)) ∈ lw_all := lw_g (lw_at lw_m7 46 rfl) rfl
theorem q1583 : (Jvm.Cond.instanceMethod ({ cls := "FaceCoinsModel", name := "who", desc := "(II)I" } : Jvm.MethodName)) ∈ lw_all := lw_g (lw_at lw_m7 48 rfl) rfl
theorem q1584 : (Jvm.Cond.selects "FaceCoinsModel" ({ cls := "FaceCoinsModel", name := "who", desc := "(II)I" } : Jvm.MethodName) ({ cls := "FaceCoinsModel", name := "who", desc := "(II)I" } : Jvm.MethodName)) ∈ lw_all := lw_g (lw_at lw_m7 49 rfl) rfl
theorem q1585 : (Jvm.Cond.code ({ cls := "FaceCoinsModel", name := "who", desc := "(II)I" } : Jvm.MethodName) prog_18_method_45_code (5 : Nat) (Option.some Jvm.ClassFile.FieldType.int)) ∈ lw_all := lw_g (lw_at lw_m7 50 rfl) rfl
theorem q1586 : (Jvm.Cond.methodLink "FaceCoinsModel" (243 : Nat) ({ cls := "FaceCoinsModel", name := "isWho", desc := "(I)Z" } : Jvm.MethodName)) ∈ lw_all := lw_g (lw_at lw_m7 51 rfl) rfl
theorem q1587 : (Jvm.Cond.privateMethod ({ cls := "FaceCoinsModel", name := "isWho", desc := "(I)Z" } : Jvm.MethodName)) ∈ lw_tbl := lw_at lw_m7 52 rfl
theorem q1588 : (Jvm.Cond.instanceMethod ({ cls := "FaceCoinsModel", name := "isWho", desc := "(I)Z" } : Jvm.MethodName)) ∈ lw_all := lw_g (lw_at lw_m7 53 rfl) rfl
theorem q1589 : (Jvm.Cond.code ({ cls := "FaceCoinsModel", name := "isWho", desc := "(I)Z" } : Jvm.MethodName) prog_18_method_29_code (2 : Nat) (Option.some Jvm.ClassFile.FieldType.boolean)) ∈ lw_all := lw_g (lw_at lw_m7 54 rfl) rfl
theorem q1590 : (Jvm.Cond.methodLink "FaceCoinsModel" (182 : Nat) ({ cls := "FaceCoinsModel", name := "people", desc := "()I" } : Jvm.MethodName)) ∈ lw_all := lw_g (lw_at lw_m7 55 rfl) rfl
theorem q1591 : (Jvm.Cond.privateMethod ({ cls := "FaceCoinsModel", name := "people", desc := "()I" } : Jvm.MethodName)) ∈ lw_tbl := lw_at lw_m7 56 rfl
theorem q1592 : (Jvm.Cond.instanceMethod ({ cls := "FaceCoinsModel", name := "people", desc := "()I" } : Jvm.MethodName)) ∈ lw_all := lw_g (lw_at lw_m7 57 rfl) rfl
theorem q1593 : (Jvm.Cond.code ({ cls := "FaceCoinsModel", name := "people", desc := "()I" } : Jvm.MethodName) prog_18_method_26_code (1 : Nat) (Option.some Jvm.ClassFile.FieldType.int)) ∈ lw_all := lw_g (lw_at lw_m7 58 rfl) rfl
theorem q1594 : (Jvm.Cond.methodLink "FaceCoinsModel" (246 : Nat) ({ cls := "FaceCoinsModel", name := "refuse", desc := "()I" } : Jvm.MethodName)) ∈ lw_all := lw_g (lw_at lw_m7 59 rfl) rfl
theorem q1595 : (Jvm.Cond.privateMethod ({ cls := "FaceCoinsModel", name := "refuse", desc := "()I" } : Jvm.MethodName)) ∈ lw_tbl := lw_at lw_m7 60 rfl
theorem q1596 : (Jvm.Cond.instanceMethod ({ cls := "FaceCoinsModel", name := "refuse", desc := "()I" } : Jvm.MethodName)) ∈ lw_all := lw_g (lw_at lw_m7 61 rfl) rfl
theorem q1597 : (Jvm.Cond.code ({ cls := "FaceCoinsModel", name := "refuse", desc := "()I" } : Jvm.MethodName) prog_18_method_3_code (1 : Nat) (Option.some Jvm.ClassFile.FieldType.int)) ∈ lw_all := lw_g (lw_at lw_m7 62 rfl) rfl
theorem q1598 : (Jvm.Cond.methodLink "FaceCoinsModel" (249 : Nat) ({ cls := "FaceCoinsModel", name := "ofWho", desc := "(II)I" } : Jvm.MethodName)) ∈ lw_all := lw_g (lw_at lw_m7 63 rfl) rfl
theorem q1599 : (Jvm.Cond.privateMethod ({ cls := "FaceCoinsModel", name := "ofWho", desc := "(II)I" } : Jvm.MethodName)) ∈ lw_tbl := lw_at lw_m7 64 rfl
theorem q1600 : (Jvm.Cond.instanceMethod ({ cls := "FaceCoinsModel", name := "ofWho", desc := "(II)I" } : Jvm.MethodName)) ∈ lw_all := lw_g (lw_at lw_m7 65 rfl) rfl
theorem q1601 : (Jvm.Cond.code ({ cls := "FaceCoinsModel", name := "ofWho", desc := "(II)I" } : Jvm.MethodName) prog_18_method_32_code (3 : Nat) (Option.some Jvm.ClassFile.FieldType.int)) ∈ lw_all := lw_g (lw_at lw_m7 66 rfl) rfl
theorem q1602 : (Jvm.Cond.methodLink "FaceCoinsModel" (188 : Nat) ({ cls := "FaceCoinsModel", name := "coins", desc := "()I" } : Jvm.MethodName)) ∈ lw_all := lw_g (lw_at lw_m7 67 rfl) rfl
theorem q1603 : (Jvm.Cond.privateMethod ({ cls := "FaceCoinsModel", name := "coins", desc := "()I" } : Jvm.MethodName)) ∈ lw_tbl := lw_at lw_m7 68 rfl
theorem q1604 : (Jvm.Cond.instanceMethod ({ cls := "FaceCoinsModel", name := "coins", desc := "()I" } : Jvm.MethodName)) ∈ lw_all := lw_g (lw_at lw_m7 69 rfl) rfl
theorem q1605 : (Jvm.Cond.code ({ cls := "FaceCoinsModel", name := "coins", desc := "()I" } : Jvm.MethodName) prog_18_method_28_code (1 : Nat) (Option.some Jvm.ClassFile.FieldType.int)) ∈ lw_all := lw_g (lw_at lw_m7 70 rfl) rfl
theorem q1606 : (Jvm.Cond.methodLink "FaceCoinsModel" (253 : Nat) ({ cls := "FaceCoinsModel", name := "topOf", desc := "(I)I" } : Jvm.MethodName)) ∈ lw_all := lw_g (lw_at lw_m7 71 rfl) rfl
theorem q1607 : (Jvm.Cond.privateMethod ({ cls := "FaceCoinsModel", name := "topOf", desc := "(I)I" } : Jvm.MethodName)) ∈ lw_tbl := lw_at lw_m7 72 rfl
theorem q1608 : (Jvm.Cond.instanceMethod ({ cls := "FaceCoinsModel", name := "topOf", desc := "(I)I" } : Jvm.MethodName)) ∈ lw_all := lw_g (lw_at lw_m7 73 rfl) rfl
theorem q1609 : (Jvm.Cond.code ({ cls := "FaceCoinsModel", name := "topOf", desc := "(I)I" } : Jvm.MethodName) prog_18_method_47_code (2 : Nat) (Option.some Jvm.ClassFile.FieldType.int)) ∈ lw_all := lw_g (lw_at lw_m7 74 rfl) rfl
theorem q1610 : (Jvm.Cond.methodLink "FaceCoinsModel" (256 : Nat) ({ cls := "FaceCoinsModel", name := "ofCoin", desc := "(II)I" } : Jvm.MethodName)) ∈ lw_all := lw_g (lw_at lw_m7 75 rfl) rfl
theorem q1611 : (Jvm.Cond.privateMethod ({ cls := "FaceCoinsModel", name := "ofCoin", desc := "(II)I" } : Jvm.MethodName)) ∈ lw_tbl := lw_at lw_m7 76 rfl
theorem q1612 : (Jvm.Cond.instanceMethod ({ cls := "FaceCoinsModel", name := "ofCoin", desc := "(II)I" } : Jvm.MethodName)) ∈ lw_all := lw_g (lw_at lw_m7 77 rfl) rfl
theorem q1613 : (Jvm.Cond.code ({ cls := "FaceCoinsModel", name := "ofCoin", desc := "(II)I" } : Jvm.MethodName) prog_18_method_34_code (3 : Nat) (Option.some Jvm.ClassFile.FieldType.int)) ∈ lw_all := lw_g (lw_at lw_m7 78 rfl) rfl
theorem q1615 : (Jvm.Cond.instanceMethod ({ cls := "FaceCoinsModel", name := "mint", desc := "(II)I" } : Jvm.MethodName)) ∈ lw_all := lw_g (lw_at lw_m7 80 rfl) rfl
theorem q1616 : (Jvm.Cond.selects "FaceCoinsModel" ({ cls := "FaceCoinsModel", name := "mint", desc := "(II)I" } : Jvm.MethodName) ({ cls := "FaceCoinsModel", name := "mint", desc := "(II)I" } : Jvm.MethodName)) ∈ lw_all := lw_g (lw_at lw_m7 81 rfl) rfl
theorem q1617 : (Jvm.Cond.code ({ cls := "FaceCoinsModel", name := "mint", desc := "(II)I" } : Jvm.MethodName) prog_18_method_46_code (5 : Nat) (Option.some Jvm.ClassFile.FieldType.int)) ∈ lw_all := lw_g (lw_at lw_m7 82 rfl) rfl
theorem q1618 : (Jvm.Cond.methodLink "FaceCoinsModel" (259 : Nat) ({ cls := "FaceCoinsModel", name := "isMint", desc := "(I)Z" } : Jvm.MethodName)) ∈ lw_all := lw_g (lw_at lw_m7 83 rfl) rfl
theorem q1619 : (Jvm.Cond.privateMethod ({ cls := "FaceCoinsModel", name := "isMint", desc := "(I)Z" } : Jvm.MethodName)) ∈ lw_tbl := lw_at lw_m7 84 rfl
theorem q1620 : (Jvm.Cond.instanceMethod ({ cls := "FaceCoinsModel", name := "isMint", desc := "(I)Z" } : Jvm.MethodName)) ∈ lw_all := lw_g (lw_at lw_m7 85 rfl) rfl
theorem q1621 : (Jvm.Cond.code ({ cls := "FaceCoinsModel", name := "isMint", desc := "(I)Z" } : Jvm.MethodName) prog_18_method_30_code (2 : Nat) (Option.some Jvm.ClassFile.FieldType.boolean)) ∈ lw_all := lw_g (lw_at lw_m7 86 rfl) rfl
theorem q1622 : (Jvm.Cond.methodLink "FaceCoinsModel" (185 : Nat) ({ cls := "FaceCoinsModel", name := "mints", desc := "()I" } : Jvm.MethodName)) ∈ lw_all := lw_g (lw_at lw_m7 87 rfl) rfl
theorem q1623 : (Jvm.Cond.privateMethod ({ cls := "FaceCoinsModel", name := "mints", desc := "()I" } : Jvm.MethodName)) ∈ lw_tbl := lw_at lw_m7 88 rfl
theorem q1624 : (Jvm.Cond.instanceMethod ({ cls := "FaceCoinsModel", name := "mints", desc := "()I" } : Jvm.MethodName)) ∈ lw_all := lw_g (lw_at lw_m7 89 rfl) rfl
theorem q1625 : (Jvm.Cond.code ({ cls := "FaceCoinsModel", name := "mints", desc := "()I" } : Jvm.MethodName) prog_18_method_27_code (1 : Nat) (Option.some Jvm.ClassFile.FieldType.int)) ∈ lw_all := lw_g (lw_at lw_m7 90 rfl) rfl
theorem q1626 : (Jvm.Cond.methodLink "FaceCoinsModel" (262 : Nat) ({ cls := "FaceCoinsModel", name := "ofMint", desc := "(II)I" } : Jvm.MethodName)) ∈ lw_all := lw_g (lw_at lw_m7 91 rfl) rfl
theorem q1627 : (Jvm.Cond.privateMethod ({ cls := "FaceCoinsModel", name := "ofMint", desc := "(II)I" } : Jvm.MethodName)) ∈ lw_tbl := lw_at lw_m7 92 rfl
theorem q1628 : (Jvm.Cond.instanceMethod ({ cls := "FaceCoinsModel", name := "ofMint", desc := "(II)I" } : Jvm.MethodName)) ∈ lw_all := lw_g (lw_at lw_m7 93 rfl) rfl
theorem q1629 : (Jvm.Cond.code ({ cls := "FaceCoinsModel", name := "ofMint", desc := "(II)I" } : Jvm.MethodName) prog_18_method_33_code (3 : Nat) (Option.some Jvm.ClassFile.FieldType.int)) ∈ lw_all := lw_g (lw_at lw_m7 94 rfl) rfl
theorem q1631 : (Jvm.Cond.instanceMethod ({ cls := "FaceCoinsModel", name := "coin", desc := "(III)I" } : Jvm.MethodName)) ∈ lw_all := lw_g (lw_at lw_m7 96 rfl) rfl
theorem q1632 : (Jvm.Cond.selects "FaceCoinsModel" ({ cls := "FaceCoinsModel", name := "coin", desc := "(III)I" } : Jvm.MethodName) ({ cls := "FaceCoinsModel", name := "coin", desc := "(III)I" } : Jvm.MethodName)) ∈ lw_all := lw_g (lw_at lw_m7 97 rfl) rfl
theorem q1633 : (Jvm.Cond.code ({ cls := "FaceCoinsModel", name := "coin", desc := "(III)I" } : Jvm.MethodName) prog_18_method_53_code (7 : Nat) (Option.some Jvm.ClassFile.FieldType.int)) ∈ lw_all := lw_g (lw_at lw_m7 98 rfl) rfl
theorem q1634 : (Jvm.Cond.methodLink "FaceCoinsModel" (269 : Nat) ({ cls := "FaceCoinsModel", name := "isFull", desc := "(I)Z" } : Jvm.MethodName)) ∈ lw_all := lw_g (lw_at lw_m7 99 rfl) rfl
theorem q1635 : (Jvm.Cond.privateMethod ({ cls := "FaceCoinsModel", name := "isFull", desc := "(I)Z" } : Jvm.MethodName)) ∈ lw_tbl := lw_at lw_m7 100 rfl
theorem q1636 : (Jvm.Cond.instanceMethod ({ cls := "FaceCoinsModel", name := "isFull", desc := "(I)Z" } : Jvm.MethodName)) ∈ lw_all := lw_g (lw_at lw_m7 101 rfl) rfl
theorem q1637 : (Jvm.Cond.code ({ cls := "FaceCoinsModel", name := "isFull", desc := "(I)Z" } : Jvm.MethodName) prog_18_method_52_code (2 : Nat) (Option.some Jvm.ClassFile.FieldType.boolean)) ∈ lw_all := lw_g (lw_at lw_m7 102 rfl) rfl
theorem q1638 : (Jvm.Cond.methodLink "FaceCoinsModel" (265 : Nat) ({ cls := "FaceCoinsModel", name := "wrongStroke", desc := "(III)I" } : Jvm.MethodName)) ∈ lw_all := lw_g (lw_at lw_m7 103 rfl) rfl
theorem q1639 : (Jvm.Cond.privateMethod ({ cls := "FaceCoinsModel", name := "wrongStroke", desc := "(III)I" } : Jvm.MethodName)) ∈ lw_tbl := lw_at lw_m7 104 rfl
theorem q1640 : (Jvm.Cond.instanceMethod ({ cls := "FaceCoinsModel", name := "wrongStroke", desc := "(III)I" } : Jvm.MethodName)) ∈ lw_all := lw_g (lw_at lw_m7 105 rfl) rfl
theorem q1641 : (Jvm.Cond.code ({ cls := "FaceCoinsModel", name := "wrongStroke", desc := "(III)I" } : Jvm.MethodName) prog_18_method_48_code (4 : Nat) (Option.some Jvm.ClassFile.FieldType.int)) ∈ lw_all := lw_g (lw_at lw_m7 106 rfl) rfl
theorem q1642 : (Jvm.Cond.methodLink "FaceCoinsModel" (272 : Nat) ({ cls := "FaceCoinsModel", name := "snap", desc := "()V" } : Jvm.MethodName)) ∈ lw_all := lw_g (lw_at lw_m7 107 rfl) rfl
theorem q1643 : (Jvm.Cond.privateMethod ({ cls := "FaceCoinsModel", name := "snap", desc := "()V" } : Jvm.MethodName)) ∈ lw_tbl := lw_at lw_m7 108 rfl
theorem q1644 : (Jvm.Cond.instanceMethod ({ cls := "FaceCoinsModel", name := "snap", desc := "()V" } : Jvm.MethodName)) ∈ lw_all := lw_g (lw_at lw_m7 109 rfl) rfl
theorem q1645 : (Jvm.Cond.code ({ cls := "FaceCoinsModel", name := "snap", desc := "()V" } : Jvm.MethodName) prog_18_method_51_code (2 : Nat) (Option.none : Option Jvm.ClassFile.FieldType)) ∈ lw_all := lw_g (lw_at lw_m7 110 rfl) rfl
theorem q1646 : (Jvm.Cond.methodLink "FaceCoinsModel" (275 : Nat) ({ cls := "FaceCoinsModel", name := "strike", desc := "(IIIII)V" } : Jvm.MethodName)) ∈ lw_all := lw_g (lw_at lw_m7 111 rfl) rfl
theorem q1647 : (Jvm.Cond.privateMethod ({ cls := "FaceCoinsModel", name := "strike", desc := "(IIIII)V" } : Jvm.MethodName)) ∈ lw_tbl := lw_at lw_m7 112 rfl
theorem q1648 : (Jvm.Cond.instanceMethod ({ cls := "FaceCoinsModel", name := "strike", desc := "(IIIII)V" } : Jvm.MethodName)) ∈ lw_all := lw_g (lw_at lw_m7 113 rfl) rfl
theorem q1649 : (Jvm.Cond.code ({ cls := "FaceCoinsModel", name := "strike", desc := "(IIIII)V" } : Jvm.MethodName) prog_18_method_50_code (13 : Nat) (Option.none : Option Jvm.ClassFile.FieldType)) ∈ lw_all := lw_g (lw_at lw_m7 114 rfl) rfl
theorem q1651 : (Jvm.Cond.instanceMethod ({ cls := "FaceCoinsModel", name := "of", desc := "(II)I" } : Jvm.MethodName)) ∈ lw_all := lw_g (lw_at lw_m7 116 rfl) rfl
theorem q1652 : (Jvm.Cond.selects "FaceCoinsModel" ({ cls := "FaceCoinsModel", name := "of", desc := "(II)I" } : Jvm.MethodName) ({ cls := "FaceCoinsModel", name := "of", desc := "(II)I" } : Jvm.MethodName)) ∈ lw_all := lw_g (lw_at lw_m7 117 rfl) rfl
theorem q1653 : (Jvm.Cond.code ({ cls := "FaceCoinsModel", name := "of", desc := "(II)I" } : Jvm.MethodName) prog_18_method_56_code (3 : Nat) (Option.some Jvm.ClassFile.FieldType.int)) ∈ lw_all := lw_g (lw_at lw_m7 118 rfl) rfl
theorem q1654 : (Jvm.Cond.methodLink "FaceCoinsModel" (282 : Nat) ({ cls := "FaceCoinsModel", name := "isCoin", desc := "(I)Z" } : Jvm.MethodName)) ∈ lw_all := lw_g (lw_at lw_m7 119 rfl) rfl
theorem q1655 : (Jvm.Cond.privateMethod ({ cls := "FaceCoinsModel", name := "isCoin", desc := "(I)Z" } : Jvm.MethodName)) ∈ lw_tbl := lw_at lw_m7 120 rfl
theorem q1656 : (Jvm.Cond.instanceMethod ({ cls := "FaceCoinsModel", name := "isCoin", desc := "(I)Z" } : Jvm.MethodName)) ∈ lw_all := lw_g (lw_at lw_m7 121 rfl) rfl
theorem q1657 : (Jvm.Cond.code ({ cls := "FaceCoinsModel", name := "isCoin", desc := "(I)Z" } : Jvm.MethodName) prog_18_method_31_code (2 : Nat) (Option.some Jvm.ClassFile.FieldType.boolean)) ∈ lw_all := lw_g (lw_at lw_m7 122 rfl) rfl
theorem q1658 : (Jvm.Cond.methodLink "FaceCoinsModel" (285 : Nat) ({ cls := "FaceCoinsModel", name := "showsFalse", desc := "(I)I" } : Jvm.MethodName)) ∈ lw_all := lw_g (lw_at lw_m7 123 rfl) rfl
theorem q1659 : (Jvm.Cond.privateMethod ({ cls := "FaceCoinsModel", name := "showsFalse", desc := "(I)I" } : Jvm.MethodName)) ∈ lw_tbl := lw_at lw_m7 124 rfl
theorem q1660 : (Jvm.Cond.instanceMethod ({ cls := "FaceCoinsModel", name := "showsFalse", desc := "(I)I" } : Jvm.MethodName)) ∈ lw_all := lw_g (lw_at lw_m7 125 rfl) rfl
theorem q1661 : (Jvm.Cond.code ({ cls := "FaceCoinsModel", name := "showsFalse", desc := "(I)I" } : Jvm.MethodName) prog_18_method_55_code (4 : Nat) (Option.some Jvm.ClassFile.FieldType.int)) ∈ lw_all := lw_g (lw_at lw_m7 126 rfl) rfl
theorem q1662 : (Jvm.Cond.methodLink "FaceCoinsModel" (279 : Nat) ({ cls := "FaceCoinsModel", name := "faceFalse", desc := "(II)I" } : Jvm.MethodName)) ∈ lw_all := lw_g (lw_at lw_m7 127 rfl) rfl
theorem q1663 : (Jvm.Cond.privateMethod ({ cls := "FaceCoinsModel", name := "faceFalse", desc := "(II)I" } : Jvm.MethodName)) ∈ lw_tbl := lw_at lw_m7 128 rfl
theorem q1664 : (Jvm.Cond.instanceMethod ({ cls := "FaceCoinsModel", name := "faceFalse", desc := "(II)I" } : Jvm.MethodName)) ∈ lw_all := lw_g (lw_at lw_m7 129 rfl) rfl
theorem q1665 : (Jvm.Cond.code ({ cls := "FaceCoinsModel", name := "faceFalse", desc := "(II)I" } : Jvm.MethodName) prog_18_method_54_code (3 : Nat) (Option.some Jvm.ClassFile.FieldType.int)) ∈ lw_all := lw_g (lw_at lw_m7 130 rfl) rfl
theorem q1667 : (Jvm.Cond.instanceMethod ({ cls := "FaceCoinsModel", name := "face", desc := "(III)I" } : Jvm.MethodName)) ∈ lw_all := lw_g (lw_at lw_m7 132 rfl) rfl
theorem q1668 : (Jvm.Cond.selects "FaceCoinsModel" ({ cls := "FaceCoinsModel", name := "face", desc := "(III)I" } : Jvm.MethodName) ({ cls := "FaceCoinsModel", name := "face", desc := "(III)I" } : Jvm.MethodName)) ∈ lw_all := lw_g (lw_at lw_m7 133 rfl) rfl
theorem q1669 : (Jvm.Cond.code ({ cls := "FaceCoinsModel", name := "face", desc := "(III)I" } : Jvm.MethodName) prog_18_method_57_code (4 : Nat) (Option.some Jvm.ClassFile.FieldType.int)) ∈ lw_all := lw_g (lw_at lw_m7 134 rfl) rfl
theorem q1671 : (Jvm.Cond.instanceMethod ({ cls := "FaceCoinsModel", name := "luck", desc := "()I" } : Jvm.MethodName)) ∈ lw_all := lw_g (lw_at lw_m7 136 rfl) rfl
theorem q1672 : (Jvm.Cond.selects "FaceCoinsModel" ({ cls := "FaceCoinsModel", name := "luck", desc := "()I" } : Jvm.MethodName) ({ cls := "FaceCoinsModel", name := "luck", desc := "()I" } : Jvm.MethodName)) ∈ lw_all := lw_g (lw_at lw_m7 137 rfl) rfl
theorem q1673 : (Jvm.Cond.code ({ cls := "FaceCoinsModel", name := "luck", desc := "()I" } : Jvm.MethodName) prog_18_method_59_code (1 : Nat) (Option.some Jvm.ClassFile.FieldType.int)) ∈ lw_all := lw_g (lw_at lw_m7 138 rfl) rfl
theorem q1674 : (Jvm.Cond.methodLink "FaceCoinsModel" (288 : Nat) ({ cls := "FaceCoinsModel", name := "luckOf", desc := "()I" } : Jvm.MethodName)) ∈ lw_all := lw_g (lw_at lw_m7 139 rfl) rfl
theorem q1675 : (Jvm.Cond.privateMethod ({ cls := "FaceCoinsModel", name := "luckOf", desc := "()I" } : Jvm.MethodName)) ∈ lw_tbl := lw_at lw_m7 140 rfl
theorem q1676 : (Jvm.Cond.instanceMethod ({ cls := "FaceCoinsModel", name := "luckOf", desc := "()I" } : Jvm.MethodName)) ∈ lw_all := lw_g (lw_at lw_m7 141 rfl) rfl
theorem q1677 : (Jvm.Cond.code ({ cls := "FaceCoinsModel", name := "luckOf", desc := "()I" } : Jvm.MethodName) prog_18_method_58_code (3 : Nat) (Option.some Jvm.ClassFile.FieldType.int)) ∈ lw_all := lw_g (lw_at lw_m7 142 rfl) rfl
theorem q1679 : (Jvm.Cond.instanceMethod ({ cls := "FaceCoinsModel", name := "value", desc := "(III)I" } : Jvm.MethodName)) ∈ lw_all := lw_g (lw_at lw_m7 144 rfl) rfl
theorem q1680 : (Jvm.Cond.selects "FaceCoinsModel" ({ cls := "FaceCoinsModel", name := "value", desc := "(III)I" } : Jvm.MethodName) ({ cls := "FaceCoinsModel", name := "value", desc := "(III)I" } : Jvm.MethodName)) ∈ lw_all := lw_g (lw_at lw_m7 145 rfl) rfl
theorem q1681 : (Jvm.Cond.code ({ cls := "FaceCoinsModel", name := "value", desc := "(III)I" } : Jvm.MethodName) prog_18_method_62_code (4 : Nat) (Option.some Jvm.ClassFile.FieldType.int)) ∈ lw_all := lw_g (lw_at lw_m7 146 rfl) rfl
theorem q1682 : (Jvm.Cond.methodLink "FaceCoinsModel" (291 : Nat) ({ cls := "FaceCoinsModel", name := "hundredths", desc := "(III)I" } : Jvm.MethodName)) ∈ lw_all := lw_g (lw_at lw_m7 147 rfl) rfl
theorem q1683 : (Jvm.Cond.privateMethod ({ cls := "FaceCoinsModel", name := "hundredths", desc := "(III)I" } : Jvm.MethodName)) ∈ lw_tbl := lw_at lw_m7 148 rfl
theorem q1684 : (Jvm.Cond.instanceMethod ({ cls := "FaceCoinsModel", name := "hundredths", desc := "(III)I" } : Jvm.MethodName)) ∈ lw_all := lw_g (lw_at lw_m7 149 rfl) rfl
theorem q1685 : (Jvm.Cond.code ({ cls := "FaceCoinsModel", name := "hundredths", desc := "(III)I" } : Jvm.MethodName) prog_18_method_60_code (6 : Nat) (Option.some Jvm.ClassFile.FieldType.int)) ∈ lw_all := lw_g (lw_at lw_m7 150 rfl) rfl
theorem q1686 : (Jvm.Cond.methodLink "FaceCoinsModel" (294 : Nat) ({ cls := "FaceCoinsModel", name := "valueOf", desc := "(II)I" } : Jvm.MethodName)) ∈ lw_all := lw_g (lw_at lw_m7 151 rfl) rfl
theorem q1687 : (Jvm.Cond.privateMethod ({ cls := "FaceCoinsModel", name := "valueOf", desc := "(II)I" } : Jvm.MethodName)) ∈ lw_tbl := lw_at lw_m7 152 rfl
theorem q1688 : (Jvm.Cond.instanceMethod ({ cls := "FaceCoinsModel", name := "valueOf", desc := "(II)I" } : Jvm.MethodName)) ∈ lw_all := lw_g (lw_at lw_m7 153 rfl) rfl
theorem q1689 : (Jvm.Cond.code ({ cls := "FaceCoinsModel", name := "valueOf", desc := "(II)I" } : Jvm.MethodName) prog_18_method_61_code (3 : Nat) (Option.some Jvm.ClassFile.FieldType.int)) ∈ lw_all := lw_g (lw_at lw_m7 154 rfl) rfl
theorem q1691 : (Jvm.Cond.instanceMethod ({ cls := "FaceCoinsModel", name := "bears", desc := "(II)I" } : Jvm.MethodName)) ∈ lw_all := lw_g (lw_at lw_m7 156 rfl) rfl
theorem q1692 : (Jvm.Cond.selects "FaceCoinsModel" ({ cls := "FaceCoinsModel", name := "bears", desc := "(II)I" } : Jvm.MethodName) ({ cls := "FaceCoinsModel", name := "bears", desc := "(II)I" } : Jvm.MethodName)) ∈ lw_all := lw_g (lw_at lw_m7 157 rfl) rfl
theorem q1693 : (Jvm.Cond.code ({ cls := "FaceCoinsModel", name := "bears", desc := "(II)I" } : Jvm.MethodName) prog_18_method_63_code (4 : Nat) (Option.some Jvm.ClassFile.FieldType.int)) ∈ lw_all := lw_g (lw_at lw_m7 158 rfl) rfl
theorem q1695 : (Jvm.Cond.instanceMethod ({ cls := "FaceCoinsModel", name := "sale", desc := "(IIII)I" } : Jvm.MethodName)) ∈ lw_all := lw_g (lw_at lw_m7 160 rfl) rfl
theorem q1696 : (Jvm.Cond.selects "FaceCoinsModel" ({ cls := "FaceCoinsModel", name := "sale", desc := "(IIII)I" } : Jvm.MethodName) ({ cls := "FaceCoinsModel", name := "sale", desc := "(IIII)I" } : Jvm.MethodName)) ∈ lw_all := lw_g (lw_at lw_m7 161 rfl) rfl
theorem q1697 : (Jvm.Cond.code ({ cls := "FaceCoinsModel", name := "sale", desc := "(IIII)I" } : Jvm.MethodName) prog_18_method_66_code (13 : Nat) (Option.some Jvm.ClassFile.FieldType.int)) ∈ lw_all := lw_g (lw_at lw_m7 162 rfl) rfl
theorem q1698 : (Jvm.Cond.methodLink "FaceCoinsModel" (297 : Nat) ({ cls := "FaceCoinsModel", name := "areUnfit", desc := "(II)Z" } : Jvm.MethodName)) ∈ lw_all := lw_g (lw_at lw_m7 163 rfl) rfl
theorem q1699 : (Jvm.Cond.privateMethod ({ cls := "FaceCoinsModel", name := "areUnfit", desc := "(II)Z" } : Jvm.MethodName)) ∈ lw_tbl := lw_at lw_m7 164 rfl
theorem q1700 : (Jvm.Cond.instanceMethod ({ cls := "FaceCoinsModel", name := "areUnfit", desc := "(II)Z" } : Jvm.MethodName)) ∈ lw_all := lw_g (lw_at lw_m7 165 rfl) rfl
theorem q1701 : (Jvm.Cond.code ({ cls := "FaceCoinsModel", name := "areUnfit", desc := "(II)Z" } : Jvm.MethodName) prog_18_method_65_code (3 : Nat) (Option.some Jvm.ClassFile.FieldType.boolean)) ∈ lw_all := lw_g (lw_at lw_m7 166 rfl) rfl
theorem q1702 : (Jvm.Cond.methodLink "FaceCoinsModel" (300 : Nat) ({ cls := "FaceCoinsModel", name := "wrongAt", desc := "(II)I" } : Jvm.MethodName)) ∈ lw_all := lw_g (lw_at lw_m7 167 rfl) rfl
theorem q1703 : (Jvm.Cond.privateMethod ({ cls := "FaceCoinsModel", name := "wrongAt", desc := "(II)I" } : Jvm.MethodName)) ∈ lw_tbl := lw_at lw_m7 168 rfl
theorem q1704 : (Jvm.Cond.instanceMethod ({ cls := "FaceCoinsModel", name := "wrongAt", desc := "(II)I" } : Jvm.MethodName)) ∈ lw_all := lw_g (lw_at lw_m7 169 rfl) rfl
theorem q1705 : (Jvm.Cond.code ({ cls := "FaceCoinsModel", name := "wrongAt", desc := "(II)I" } : Jvm.MethodName) prog_18_method_49_code (3 : Nat) (Option.some Jvm.ClassFile.FieldType.int)) ∈ lw_all := lw_g (lw_at lw_m7 170 rfl) rfl
theorem q1706 : (Jvm.Cond.methodLink "FaceCoinsModel" (303 : Nat) ({ cls := "FaceCoinsModel", name := "keepSale", desc := "(IIIIII)V" } : Jvm.MethodName)) ∈ lw_all := lw_g (lw_at lw_m7 171 rfl) rfl
theorem q1707 : (Jvm.Cond.privateMethod ({ cls := "FaceCoinsModel", name := "keepSale", desc := "(IIIIII)V" } : Jvm.MethodName)) ∈ lw_tbl := lw_at lw_m7 172 rfl
theorem q1708 : (Jvm.Cond.instanceMethod ({ cls := "FaceCoinsModel", name := "keepSale", desc := "(IIIIII)V" } : Jvm.MethodName)) ∈ lw_all := lw_g (lw_at lw_m7 173 rfl) rfl
theorem q1709 : (Jvm.Cond.code ({ cls := "FaceCoinsModel", name := "keepSale", desc := "(IIIIII)V" } : Jvm.MethodName) prog_18_method_64_code (8 : Nat) (Option.none : Option Jvm.ClassFile.FieldType)) ∈ lw_all := lw_g (lw_at lw_m7 174 rfl) rfl
theorem q1711 : (Jvm.Cond.instanceMethod ({ cls := "FaceCoinsModel", name := "sales", desc := "()I" } : Jvm.MethodName)) ∈ lw_all := lw_g (lw_at lw_m7 176 rfl) rfl
theorem q1712 : (Jvm.Cond.selects "FaceCoinsModel" ({ cls := "FaceCoinsModel", name := "sales", desc := "()I" } : Jvm.MethodName) ({ cls := "FaceCoinsModel", name := "sales", desc := "()I" } : Jvm.MethodName)) ∈ lw_all := lw_g (lw_at lw_m7 177 rfl) rfl
theorem q1713 : (Jvm.Cond.code ({ cls := "FaceCoinsModel", name := "sales", desc := "()I" } : Jvm.MethodName) prog_18_method_67_code (1 : Nat) (Option.some Jvm.ClassFile.FieldType.int)) ∈ lw_all := lw_g (lw_at lw_m7 178 rfl) rfl
theorem q1715 : (Jvm.Cond.instanceMethod ({ cls := "FaceCoinsModel", name := "sold", desc := "(II)I" } : Jvm.MethodName)) ∈ lw_all := lw_g (lw_at lw_m7 180 rfl) rfl
theorem q1716 : (Jvm.Cond.selects "FaceCoinsModel" ({ cls := "FaceCoinsModel", name := "sold", desc := "(II)I" } : Jvm.MethodName) ({ cls := "FaceCoinsModel", name := "sold", desc := "(II)I" } : Jvm.MethodName)) ∈ lw_all := lw_g (lw_at lw_m7 181 rfl) rfl
theorem q1717 : (Jvm.Cond.code ({ cls := "FaceCoinsModel", name := "sold", desc := "(II)I" } : Jvm.MethodName) prog_18_method_68_code (3 : Nat) (Option.some Jvm.ClassFile.FieldType.int)) ∈ lw_all := lw_g (lw_at lw_m7 182 rfl) rfl
theorem q1719 : (Jvm.Cond.instanceMethod ({ cls := "FaceCoinsModel", name := "payment", desc := "(IIII)I" } : Jvm.MethodName)) ∈ lw_all := lw_g (lw_at lw_m7 184 rfl) rfl
theorem q1720 : (Jvm.Cond.selects "FaceCoinsModel" ({ cls := "FaceCoinsModel", name := "payment", desc := "(IIII)I" } : Jvm.MethodName) ({ cls := "FaceCoinsModel", name := "payment", desc := "(IIII)I" } : Jvm.MethodName)) ∈ lw_all := lw_g (lw_at lw_m7 185 rfl) rfl
theorem q1721 : (Jvm.Cond.code ({ cls := "FaceCoinsModel", name := "payment", desc := "(IIII)I" } : Jvm.MethodName) prog_18_method_74_code (6 : Nat) (Option.some Jvm.ClassFile.FieldType.int)) ∈ lw_all := lw_g (lw_at lw_m7 186 rfl) rfl
theorem q1722 : (Jvm.Cond.methodLink "FaceCoinsModel" (321 : Nat) ({ cls := "FaceCoinsModel", name := "layPayment", desc := "(IIII)I" } : Jvm.MethodName)) ∈ lw_all := lw_g (lw_at lw_m7 187 rfl) rfl
theorem q1723 : (Jvm.Cond.privateMethod ({ cls := "FaceCoinsModel", name := "layPayment", desc := "(IIII)I" } : Jvm.MethodName)) ∈ lw_tbl := lw_at lw_m7 188 rfl
theorem q1724 : (Jvm.Cond.instanceMethod ({ cls := "FaceCoinsModel", name := "layPayment", desc := "(IIII)I" } : Jvm.MethodName)) ∈ lw_all := lw_g (lw_at lw_m7 189 rfl) rfl
theorem q1725 : (Jvm.Cond.code ({ cls := "FaceCoinsModel", name := "layPayment", desc := "(IIII)I" } : Jvm.MethodName) prog_18_method_70_code (10 : Nat) (Option.some Jvm.ClassFile.FieldType.int)) ∈ lw_all := lw_g (lw_at lw_m7 190 rfl) rfl
theorem q1726 : (Jvm.Cond.methodLink "FaceCoinsModel" (310 : Nat) ({ cls := "FaceCoinsModel", name := "worthOf", desc := "(IIIIII)I" } : Jvm.MethodName)) ∈ lw_all := lw_g (lw_at lw_m7 191 rfl) rfl
theorem q1727 : (Jvm.Cond.privateMethod ({ cls := "FaceCoinsModel", name := "worthOf", desc := "(IIIIII)I" } : Jvm.MethodName)) ∈ lw_tbl := lw_at lw_m7 192 rfl
theorem q1728 : (Jvm.Cond.instanceMethod ({ cls := "FaceCoinsModel", name := "worthOf", desc := "(IIIIII)I" } : Jvm.MethodName)) ∈ lw_all := lw_g (lw_at lw_m7 193 rfl) rfl
theorem q1729 : (Jvm.Cond.code ({ cls := "FaceCoinsModel", name := "worthOf", desc := "(IIIIII)I" } : Jvm.MethodName) prog_18_method_69_code (10 : Nat) (Option.some Jvm.ClassFile.FieldType.int)) ∈ lw_all := lw_g (lw_at lw_m7 194 rfl) rfl
theorem q1730 : (Jvm.Cond.constant "FaceCoinsModel" (314 : Nat) (100000000 : Int32)) ∈ lw_all := lw_g (lw_at lw_m7 195 rfl) rfl
theorem q1731 : (Jvm.Cond.methodLink "FaceCoinsModel" (315 : Nat) ({ cls := "FaceCoinsModel", name := "bestOf", desc := "(II)I" } : Jvm.MethodName)) ∈ lw_all := lw_g (lw_at lw_m7 196 rfl) rfl
theorem q1732 : (Jvm.Cond.privateMethod ({ cls := "FaceCoinsModel", name := "bestOf", desc := "(II)I" } : Jvm.MethodName)) ∈ lw_tbl := lw_at lw_m7 197 rfl
theorem q1733 : (Jvm.Cond.instanceMethod ({ cls := "FaceCoinsModel", name := "bestOf", desc := "(II)I" } : Jvm.MethodName)) ∈ lw_all := lw_g (lw_at lw_m7 198 rfl) rfl
theorem q1734 : (Jvm.Cond.code ({ cls := "FaceCoinsModel", name := "bestOf", desc := "(II)I" } : Jvm.MethodName) prog_18_method_72_code (6 : Nat) (Option.some Jvm.ClassFile.FieldType.int)) ∈ lw_all := lw_g (lw_at lw_m7 199 rfl) rfl
theorem q1735 : (Jvm.Cond.methodLink "FaceCoinsModel" (318 : Nat) ({ cls := "FaceCoinsModel", name := "costOf", desc := "(III)I" } : Jvm.MethodName)) ∈ lw_all := lw_g (lw_at lw_m7 200 rfl) rfl
theorem q1736 : (Jvm.Cond.privateMethod ({ cls := "FaceCoinsModel", name := "costOf", desc := "(III)I" } : Jvm.MethodName)) ∈ lw_tbl := lw_at lw_m7 201 rfl
theorem q1737 : (Jvm.Cond.instanceMethod ({ cls := "FaceCoinsModel", name := "costOf", desc := "(III)I" } : Jvm.MethodName)) ∈ lw_all := lw_g (lw_at lw_m7 202 rfl) rfl
theorem q1738 : (Jvm.Cond.code ({ cls := "FaceCoinsModel", name := "costOf", desc := "(III)I" } : Jvm.MethodName) prog_18_method_71_code (7 : Nat) (Option.some Jvm.ClassFile.FieldType.int)) ∈ lw_all := lw_g (lw_at lw_m7 203 rfl) rfl
theorem q1739 : (Jvm.Cond.methodLink "FaceCoinsModel" (325 : Nat) ({ cls := "FaceCoinsModel", name := "tellPaid", desc := "()V" } : Jvm.MethodName)) ∈ lw_all := lw_g (lw_at lw_m7 204 rfl) rfl
theorem q1740 : (Jvm.Cond.privateMethod ({ cls := "FaceCoinsModel", name := "tellPaid", desc := "()V" } : Jvm.MethodName)) ∈ lw_tbl := lw_at lw_m7 205 rfl
theorem q1741 : (Jvm.Cond.instanceMethod ({ cls := "FaceCoinsModel", name := "tellPaid", desc := "()V" } : Jvm.MethodName)) ∈ lw_all := lw_g (lw_at lw_m7 206 rfl) rfl
theorem q1742 : (Jvm.Cond.code ({ cls := "FaceCoinsModel", name := "tellPaid", desc := "()V" } : Jvm.MethodName) prog_18_method_73_code (2 : Nat) (Option.none : Option Jvm.ClassFile.FieldType)) ∈ lw_all := lw_g (lw_at lw_m7 207 rfl) rfl
theorem q1744 : (Jvm.Cond.instanceMethod ({ cls := "FaceCoinsModel", name := "paid", desc := "(I)I" } : Jvm.MethodName)) ∈ lw_all := lw_g (lw_at lw_m7 209 rfl) rfl
theorem q1745 : (Jvm.Cond.selects "FaceCoinsModel" ({ cls := "FaceCoinsModel", name := "paid", desc := "(I)I" } : Jvm.MethodName) ({ cls := "FaceCoinsModel", name := "paid", desc := "(I)I" } : Jvm.MethodName)) ∈ lw_all := lw_g (lw_at lw_m7 210 rfl) rfl
theorem q1746 : (Jvm.Cond.code ({ cls := "FaceCoinsModel", name := "paid", desc := "(I)I" } : Jvm.MethodName) prog_18_method_75_code (2 : Nat) (Option.some Jvm.ClassFile.FieldType.int)) ∈ lw_all := lw_g (lw_at lw_m7 211 rfl) rfl
theorem q1748 : (Jvm.Cond.instanceMethod ({ cls := "FaceCoinsModel", name := "buy", desc := "(IIII)I" } : Jvm.MethodName)) ∈ lw_all := lw_g (lw_at lw_m7 213 rfl) rfl
theorem q1749 : (Jvm.Cond.selects "FaceCoinsModel" ({ cls := "FaceCoinsModel", name := "buy", desc := "(IIII)I" } : Jvm.MethodName) ({ cls := "FaceCoinsModel", name := "buy", desc := "(IIII)I" } : Jvm.MethodName)) ∈ lw_all := lw_g (lw_at lw_m7 214 rfl) rfl
theorem q1750 : (Jvm.Cond.code ({ cls := "FaceCoinsModel", name := "buy", desc := "(IIII)I" } : Jvm.MethodName) prog_18_method_78_code (6 : Nat) (Option.some Jvm.ClassFile.FieldType.int)) ∈ lw_all := lw_g (lw_at lw_m7 215 rfl) rfl
theorem q1751 : (Jvm.Cond.methodLink "FaceCoinsModel" (328 : Nat) ({ cls := "FaceCoinsModel", name := "strokesToPay", desc := "()I" } : Jvm.MethodName)) ∈ lw_all := lw_g (lw_at lw_m7 216 rfl) rfl
theorem q1752 : (Jvm.Cond.privateMethod ({ cls := "FaceCoinsModel", name := "strokesToPay", desc := "()I" } : Jvm.MethodName)) ∈ lw_tbl := lw_at lw_m7 217 rfl
theorem q1753 : (Jvm.Cond.instanceMethod ({ cls := "FaceCoinsModel", name := "strokesToPay", desc := "()I" } : Jvm.MethodName)) ∈ lw_all := lw_g (lw_at lw_m7 218 rfl) rfl
theorem q1754 : (Jvm.Cond.code ({ cls := "FaceCoinsModel", name := "strokesToPay", desc := "()I" } : Jvm.MethodName) prog_18_method_76_code (3 : Nat) (Option.some Jvm.ClassFile.FieldType.int)) ∈ lw_all := lw_g (lw_at lw_m7 219 rfl) rfl
theorem q1755 : (Jvm.Cond.methodLink "FaceCoinsModel" (331 : Nat) ({ cls := "FaceCoinsModel", name := "pay", desc := "(IIII)V" } : Jvm.MethodName)) ∈ lw_all := lw_g (lw_at lw_m7 220 rfl) rfl
theorem q1756 : (Jvm.Cond.privateMethod ({ cls := "FaceCoinsModel", name := "pay", desc := "(IIII)V" } : Jvm.MethodName)) ∈ lw_tbl := lw_at lw_m7 221 rfl
theorem q1757 : (Jvm.Cond.instanceMethod ({ cls := "FaceCoinsModel", name := "pay", desc := "(IIII)V" } : Jvm.MethodName)) ∈ lw_all := lw_g (lw_at lw_m7 222 rfl) rfl
theorem q1758 : (Jvm.Cond.code ({ cls := "FaceCoinsModel", name := "pay", desc := "(IIII)V" } : Jvm.MethodName) prog_18_method_77_code (8 : Nat) (Option.none : Option Jvm.ClassFile.FieldType)) ∈ lw_all := lw_g (lw_at lw_m7 223 rfl) rfl
theorem q1760 : (Jvm.Cond.instanceMethod ({ cls := "FaceCoinsModel", name := "steal", desc := "(II)Z" } : Jvm.MethodName)) ∈ lw_all := lw_g (lw_at lw_m7 225 rfl) rfl
theorem q1761 : (Jvm.Cond.selects "FaceCoinsModel" ({ cls := "FaceCoinsModel", name := "steal", desc := "(II)Z" } : Jvm.MethodName) ({ cls := "FaceCoinsModel", name := "steal", desc := "(II)Z" } : Jvm.MethodName)) ∈ lw_all := lw_g (lw_at lw_m7 226 rfl) rfl
theorem q1762 : (Jvm.Cond.code ({ cls := "FaceCoinsModel", name := "steal", desc := "(II)Z" } : Jvm.MethodName) prog_18_method_79_code (3 : Nat) (Option.some Jvm.ClassFile.FieldType.boolean)) ∈ lw_all := lw_g (lw_at lw_m7 227 rfl) rfl
theorem q1764 : (Jvm.Cond.instanceMethod ({ cls := "FaceCoinsModel", name := "forge", desc := "(II)I" } : Jvm.MethodName)) ∈ lw_all := lw_g (lw_at lw_m7 229 rfl) rfl
theorem q1765 : (Jvm.Cond.selects "FaceCoinsModel" ({ cls := "FaceCoinsModel", name := "forge", desc := "(II)I" } : Jvm.MethodName) ({ cls := "FaceCoinsModel", name := "forge", desc := "(II)I" } : Jvm.MethodName)) ∈ lw_all := lw_g (lw_at lw_m7 230 rfl) rfl
theorem q1766 : (Jvm.Cond.code ({ cls := "FaceCoinsModel", name := "forge", desc := "(II)I" } : Jvm.MethodName) prog_18_method_81_code (4 : Nat) (Option.some Jvm.ClassFile.FieldType.int)) ∈ lw_all := lw_g (lw_at lw_m7 231 rfl) rfl
theorem q1768 : (Jvm.Cond.instanceMethod ({ cls := "FaceCoinsModel", name := "day", desc := "()I" } : Jvm.MethodName)) ∈ lw_all := lw_g (lw_at lw_m7 233 rfl) rfl
theorem q1769 : (Jvm.Cond.selects "FaceCoinsModel" ({ cls := "FaceCoinsModel", name := "day", desc := "()I" } : Jvm.MethodName) ({ cls := "FaceCoinsModel", name := "day", desc := "()I" } : Jvm.MethodName)) ∈ lw_all := lw_g (lw_at lw_m7 234 rfl) rfl
theorem q1770 : (Jvm.Cond.code ({ cls := "FaceCoinsModel", name := "day", desc := "()I" } : Jvm.MethodName) prog_18_method_82_code (1 : Nat) (Option.some Jvm.ClassFile.FieldType.int)) ∈ lw_all := lw_g (lw_at lw_m7 235 rfl) rfl
theorem q1771 : (Jvm.Cond.methodLink "FaceCoinsModel" (335 : Nat) ({ cls := "FaceCoinsModel", name := "giveBack", desc := "()V" } : Jvm.MethodName)) ∈ lw_all := lw_g (lw_at lw_m7 236 rfl) rfl
theorem q1772 : (Jvm.Cond.privateMethod ({ cls := "FaceCoinsModel", name := "giveBack", desc := "()V" } : Jvm.MethodName)) ∈ lw_tbl := lw_at lw_m7 237 rfl
theorem q1773 : (Jvm.Cond.instanceMethod ({ cls := "FaceCoinsModel", name := "giveBack", desc := "()V" } : Jvm.MethodName)) ∈ lw_all := lw_g (lw_at lw_m7 238 rfl) rfl
theorem q1774 : (Jvm.Cond.code ({ cls := "FaceCoinsModel", name := "giveBack", desc := "()V" } : Jvm.MethodName) prog_18_method_80_code (1 : Nat) (Option.none : Option Jvm.ClassFile.FieldType)) ∈ lw_all := lw_g (lw_at lw_m7 239 rfl) rfl
theorem q1776 : (Jvm.Cond.instanceMethod ({ cls := "FaceCoinsModel", name := "rob", desc := "(II)Z" } : Jvm.MethodName)) ∈ lw_all := lw_g (lw_at lw_m8 1 rfl) rfl
theorem q1777 : (Jvm.Cond.selects "FaceCoinsModel" ({ cls := "FaceCoinsModel", name := "rob", desc := "(II)Z" } : Jvm.MethodName) ({ cls := "FaceCoinsModel", name := "rob", desc := "(II)Z" } : Jvm.MethodName)) ∈ lw_all := lw_g (lw_at lw_m8 2 rfl) rfl
theorem q1778 : (Jvm.Cond.code ({ cls := "FaceCoinsModel", name := "rob", desc := "(II)Z" } : Jvm.MethodName) prog_18_method_83_code (3 : Nat) (Option.some Jvm.ClassFile.FieldType.boolean)) ∈ lw_all := lw_g (lw_at lw_m8 3 rfl) rfl
theorem q1780 : (Jvm.Cond.instanceMethod ({ cls := "FaceCoinsModel", name := "dies", desc := "(II)I" } : Jvm.MethodName)) ∈ lw_all := lw_g (lw_at lw_m8 5 rfl) rfl
theorem q1781 : (Jvm.Cond.selects "FaceCoinsModel" ({ cls := "FaceCoinsModel", name := "dies", desc := "(II)I" } : Jvm.MethodName) ({ cls := "FaceCoinsModel", name := "dies", desc := "(II)I" } : Jvm.MethodName)) ∈ lw_all := lw_g (lw_at lw_m8 6 rfl) rfl
theorem q1782 : (Jvm.Cond.code ({ cls := "FaceCoinsModel", name := "dies", desc := "(II)I" } : Jvm.MethodName) prog_18_method_84_code (5 : Nat) (Option.some Jvm.ClassFile.FieldType.int)) ∈ lw_all := lw_g (lw_at lw_m8 7 rfl) rfl
theorem q1784 : (Jvm.Cond.instanceMethod ({ cls := "FaceCoinsModel", name := "close", desc := "(I)Z" } : Jvm.MethodName)) ∈ lw_all := lw_g (lw_at lw_m8 9 rfl) rfl
theorem q1785 : (Jvm.Cond.selects "FaceCoinsModel" ({ cls := "FaceCoinsModel", name := "close", desc := "(I)Z" } : Jvm.MethodName) ({ cls := "FaceCoinsModel", name := "close", desc := "(I)Z" } : Jvm.MethodName)) ∈ lw_all := lw_g (lw_at lw_m8 10 rfl) rfl
theorem q1786 : (Jvm.Cond.code ({ cls := "FaceCoinsModel", name := "close", desc := "(I)Z" } : Jvm.MethodName) prog_18_method_85_code (2 : Nat) (Option.some Jvm.ClassFile.FieldType.boolean)) ∈ lw_all := lw_g (lw_at lw_m8 11 rfl) rfl
theorem q1788 : (Jvm.Cond.instanceMethod ({ cls := "FaceCoinsModel", name := "strokes", desc := "()I" } : Jvm.MethodName)) ∈ lw_all := lw_g (lw_at lw_m8 13 rfl) rfl
theorem q1789 : (Jvm.Cond.selects "FaceCoinsModel" ({ cls := "FaceCoinsModel", name := "strokes", desc := "()I" } : Jvm.MethodName) ({ cls := "FaceCoinsModel", name := "strokes", desc := "()I" } : Jvm.MethodName)) ∈ lw_all := lw_g (lw_at lw_m8 14 rfl) rfl
theorem q1790 : (Jvm.Cond.code ({ cls := "FaceCoinsModel", name := "strokes", desc := "()I" } : Jvm.MethodName) prog_18_method_86_code (1 : Nat) (Option.some Jvm.ClassFile.FieldType.int)) ∈ lw_all := lw_g (lw_at lw_m8 15 rfl) rfl
theorem q1792 : (Jvm.Cond.instanceMethod ({ cls := "FaceCoinsModel", name := "stroke", desc := "(II)I" } : Jvm.MethodName)) ∈ lw_all := lw_g (lw_at lw_m8 17 rfl) rfl
theorem q1793 : (Jvm.Cond.selects "FaceCoinsModel" ({ cls := "FaceCoinsModel", name := "stroke", desc := "(II)I" } : Jvm.MethodName) ({ cls := "FaceCoinsModel", name := "stroke", desc := "(II)I" } : Jvm.MethodName)) ∈ lw_all := lw_g (lw_at lw_m8 18 rfl) rfl
theorem q1794 : (Jvm.Cond.code ({ cls := "FaceCoinsModel", name := "stroke", desc := "(II)I" } : Jvm.MethodName) prog_18_method_88_code (3 : Nat) (Option.some Jvm.ClassFile.FieldType.int)) ∈ lw_all := lw_g (lw_at lw_m8 19 rfl) rfl
theorem q1795 : (Jvm.Cond.methodLink "FaceCoinsModel" (338 : Nat) ({ cls := "FaceCoinsModel", name := "isShown", desc := "(I)I" } : Jvm.MethodName)) ∈ lw_all := lw_g (lw_at lw_m8 20 rfl) rfl
theorem q1796 : (Jvm.Cond.privateMethod ({ cls := "FaceCoinsModel", name := "isShown", desc := "(I)I" } : Jvm.MethodName)) ∈ lw_tbl := lw_at lw_m8 21 rfl
theorem q1797 : (Jvm.Cond.instanceMethod ({ cls := "FaceCoinsModel", name := "isShown", desc := "(I)I" } : Jvm.MethodName)) ∈ lw_all := lw_g (lw_at lw_m8 22 rfl) rfl
theorem q1798 : (Jvm.Cond.code ({ cls := "FaceCoinsModel", name := "isShown", desc := "(I)I" } : Jvm.MethodName) prog_18_method_87_code (4 : Nat) (Option.some Jvm.ClassFile.FieldType.int)) ∈ lw_all := lw_g (lw_at lw_m8 23 rfl) rfl
theorem q1800 : (Jvm.Cond.instanceMethod ({ cls := "FaceCoinsModel", name := "foreign", desc := "(I)I" } : Jvm.MethodName)) ∈ lw_all := lw_g (lw_at lw_m8 25 rfl) rfl
theorem q1801 : (Jvm.Cond.selects "FaceCoinsModel" ({ cls := "FaceCoinsModel", name := "foreign", desc := "(I)I" } : Jvm.MethodName) ({ cls := "FaceCoinsModel", name := "foreign", desc := "(I)I" } : Jvm.MethodName)) ∈ lw_all := lw_g (lw_at lw_m8 26 rfl) rfl
theorem q1802 : (Jvm.Cond.code ({ cls := "FaceCoinsModel", name := "foreign", desc := "(I)I" } : Jvm.MethodName) prog_18_method_89_code (4 : Nat) (Option.some Jvm.ClassFile.FieldType.int)) ∈ lw_all := lw_g (lw_at lw_m8 27 rfl) rfl
theorem q1804 : (Jvm.Cond.instanceMethod ({ cls := "FaceCoinsModel", name := "silver", desc := "(I)I" } : Jvm.MethodName)) ∈ lw_all := lw_g (lw_at lw_m8 29 rfl) rfl
theorem q1805 : (Jvm.Cond.selects "FaceCoinsModel" ({ cls := "FaceCoinsModel", name := "silver", desc := "(I)I" } : Jvm.MethodName) ({ cls := "FaceCoinsModel", name := "silver", desc := "(I)I" } : Jvm.MethodName)) ∈ lw_all := lw_g (lw_at lw_m8 30 rfl) rfl
theorem q1806 : (Jvm.Cond.code ({ cls := "FaceCoinsModel", name := "silver", desc := "(I)I" } : Jvm.MethodName) prog_18_method_90_code (4 : Nat) (Option.some Jvm.ClassFile.FieldType.int)) ∈ lw_all := lw_g (lw_at lw_m8 31 rfl) rfl
theorem q1808 : (Jvm.Cond.instanceMethod ({ cls := "FaceCoinsModel", name := "rows", desc := "(III)I" } : Jvm.MethodName)) ∈ lw_all := lw_g (lw_at lw_m8 33 rfl) rfl
theorem q1809 : (Jvm.Cond.selects "FaceCoinsModel" ({ cls := "FaceCoinsModel", name := "rows", desc := "(III)I" } : Jvm.MethodName) ({ cls := "FaceCoinsModel", name := "rows", desc := "(III)I" } : Jvm.MethodName)) ∈ lw_all := lw_g (lw_at lw_m8 34 rfl) rfl
theorem q1810 : (Jvm.Cond.code ({ cls := "FaceCoinsModel", name := "rows", desc := "(III)I" } : Jvm.MethodName) prog_18_method_93_code (7 : Nat) (Option.some Jvm.ClassFile.FieldType.int)) ∈ lw_all := lw_g (lw_at lw_m8 35 rfl) rfl
theorem q1811 : (Jvm.Cond.constantLong "FaceCoinsModel" (350 : Nat) (60000 : Int64)) ∈ lw_all := lw_g (lw_at lw_m8 36 rfl) rfl
theorem q1812 : (Jvm.Cond.methodLink "FaceCoinsModel" (347 : Nat) ({ cls := "FaceCoinsModel", name := "tryRows", desc := "(IIII)V" } : Jvm.MethodName)) ∈ lw_all := lw_g (lw_at lw_m8 37 rfl) rfl
theorem q1813 : (Jvm.Cond.privateMethod ({ cls := "FaceCoinsModel", name := "tryRows", desc := "(IIII)V" } : Jvm.MethodName)) ∈ lw_tbl := lw_at lw_m8 38 rfl
theorem q1814 : (Jvm.Cond.instanceMethod ({ cls := "FaceCoinsModel", name := "tryRows", desc := "(IIII)V" } : Jvm.MethodName)) ∈ lw_all := lw_g (lw_at lw_m8 39 rfl) rfl
theorem q1815 : (Jvm.Cond.code ({ cls := "FaceCoinsModel", name := "tryRows", desc := "(IIII)V" } : Jvm.MethodName) prog_18_method_92_code (8 : Nat) (Option.none : Option Jvm.ClassFile.FieldType)) ∈ lw_all := lw_g (lw_at lw_m8 40 rfl) rfl
theorem q1816 : (Jvm.Cond.methodLink "FaceCoinsModel" (341 : Nat) ({ cls := "FaceCoinsModel", name := "isLike", desc := "(II)Z" } : Jvm.MethodName)) ∈ lw_all := lw_g (lw_at lw_m8 41 rfl) rfl
theorem q1817 : (Jvm.Cond.privateMethod ({ cls := "FaceCoinsModel", name := "isLike", desc := "(II)Z" } : Jvm.MethodName)) ∈ lw_tbl := lw_at lw_m8 42 rfl
theorem q1818 : (Jvm.Cond.instanceMethod ({ cls := "FaceCoinsModel", name := "isLike", desc := "(II)Z" } : Jvm.MethodName)) ∈ lw_all := lw_g (lw_at lw_m8 43 rfl) rfl
theorem q1819 : (Jvm.Cond.code ({ cls := "FaceCoinsModel", name := "isLike", desc := "(II)Z" } : Jvm.MethodName) prog_18_method_91_code (7 : Nat) (Option.some Jvm.ClassFile.FieldType.boolean)) ∈ lw_all := lw_g (lw_at lw_m8 44 rfl) rfl
theorem q1821 : (Jvm.Cond.instanceMethod ({ cls := "FaceCoinsModel", name := "could", desc := "(II)I" } : Jvm.MethodName)) ∈ lw_all := lw_g (lw_at lw_m8 46 rfl) rfl
theorem q1822 : (Jvm.Cond.selects "FaceCoinsModel" ({ cls := "FaceCoinsModel", name := "could", desc := "(II)I" } : Jvm.MethodName) ({ cls := "FaceCoinsModel", name := "could", desc := "(II)I" } : Jvm.MethodName)) ∈ lw_all := lw_g (lw_at lw_m8 47 rfl) rfl
theorem q1823 : (Jvm.Cond.code ({ cls := "FaceCoinsModel", name := "could", desc := "(II)I" } : Jvm.MethodName) prog_18_method_94_code (3 : Nat) (Option.some Jvm.ClassFile.FieldType.int)) ∈ lw_all := lw_g (lw_at lw_m8 48 rfl) rfl
theorem q1825 : (Jvm.Cond.instanceMethod ({ cls := "FaceCoinsModel", name := "market", desc := "(II)I" } : Jvm.MethodName)) ∈ lw_all := lw_g (lw_at lw_m8 50 rfl) rfl
theorem q1826 : (Jvm.Cond.selects "FaceCoinsModel" ({ cls := "FaceCoinsModel", name := "market", desc := "(II)I" } : Jvm.MethodName) ({ cls := "FaceCoinsModel", name := "market", desc := "(II)I" } : Jvm.MethodName)) ∈ lw_all := lw_g (lw_at lw_m8 51 rfl) rfl
theorem q1827 : (Jvm.Cond.code ({ cls := "FaceCoinsModel", name := "market", desc := "(II)I" } : Jvm.MethodName) prog_18_method_96_code (9 : Nat) (Option.some Jvm.ClassFile.FieldType.int)) ∈ lw_all := lw_g (lw_at lw_m8 52 rfl) rfl
theorem q1828 : (Jvm.Cond.methodLink "FaceCoinsModel" (359 : Nat) ({ cls := "FaceCoinsModel", name := "draw", desc := "(I)I" } : Jvm.MethodName)) ∈ lw_all := lw_g (lw_at lw_m8 53 rfl) rfl
theorem q1829 : (Jvm.Cond.privateMethod ({ cls := "FaceCoinsModel", name := "draw", desc := "(I)I" } : Jvm.MethodName)) ∈ lw_tbl := lw_at lw_m8 54 rfl
theorem q1830 : (Jvm.Cond.instanceMethod ({ cls := "FaceCoinsModel", name := "draw", desc := "(I)I" } : Jvm.MethodName)) ∈ lw_all := lw_g (lw_at lw_m8 55 rfl) rfl
theorem q1831 : (Jvm.Cond.code ({ cls := "FaceCoinsModel", name := "draw", desc := "(I)I" } : Jvm.MethodName) prog_18_method_95_code (2 : Nat) (Option.some Jvm.ClassFile.FieldType.int)) ∈ lw_all := lw_g (lw_at lw_m8 56 rfl) rfl
theorem q1832 : (Jvm.Cond.constant "FaceCoinsModel" (358 : Nat) (1103515245 : Int32)) ∈ lw_all := lw_g (lw_at lw_m8 57 rfl) rfl
theorem q1834 : (Jvm.Cond.instanceMethod ({ cls := "FaceCoinsModel", name := "undo", desc := "()I" } : Jvm.MethodName)) ∈ lw_all := lw_g (lw_at lw_m8 59 rfl) rfl
theorem q1835 : (Jvm.Cond.selects "FaceCoinsModel" ({ cls := "FaceCoinsModel", name := "undo", desc := "()I" } : Jvm.MethodName) ({ cls := "FaceCoinsModel", name := "undo", desc := "()I" } : Jvm.MethodName)) ∈ lw_all := lw_g (lw_at lw_m8 60 rfl) rfl
theorem q1836 : (Jvm.Cond.code ({ cls := "FaceCoinsModel", name := "undo", desc := "()I" } : Jvm.MethodName) prog_18_method_97_code (4 : Nat) (Option.some Jvm.ClassFile.FieldType.int)) ∈ lw_all := lw_g (lw_at lw_m8 61 rfl) rfl
theorem q1838 : (Jvm.Cond.instanceMethod ({ cls := "FaceCoinsModel", name := "sentence", desc := "()I" } : Jvm.MethodName)) ∈ lw_all := lw_g (lw_at lw_m8 63 rfl) rfl
theorem q1839 : (Jvm.Cond.selects "FaceCoinsModel" ({ cls := "FaceCoinsModel", name := "sentence", desc := "()I" } : Jvm.MethodName) ({ cls := "FaceCoinsModel", name := "sentence", desc := "()I" } : Jvm.MethodName)) ∈ lw_all := lw_g (lw_at lw_m8 64 rfl) rfl
theorem q1840 : (Jvm.Cond.code ({ cls := "FaceCoinsModel", name := "sentence", desc := "()I" } : Jvm.MethodName) prog_18_method_106_code (2 : Nat) (Option.some Jvm.ClassFile.FieldType.int)) ∈ lw_all := lw_g (lw_at lw_m8 65 rfl) rfl
theorem q1841 : (Jvm.Cond.methodLink "FaceCoinsModel" (395 : Nat) ({ cls := "FaceCoinsModel", name := "readOr", desc := "()Z" } : Jvm.MethodName)) ∈ lw_all := lw_g (lw_at lw_m8 66 rfl) rfl
theorem q1842 : (Jvm.Cond.privateMethod ({ cls := "FaceCoinsModel", name := "readOr", desc := "()Z" } : Jvm.MethodName)) ∈ lw_tbl := lw_at lw_m8 67 rfl
theorem q1843 : (Jvm.Cond.instanceMethod ({ cls := "FaceCoinsModel", name := "readOr", desc := "()Z" } : Jvm.MethodName)) ∈ lw_all := lw_g (lw_at lw_m8 68 rfl) rfl
theorem q1844 : (Jvm.Cond.code ({ cls := "FaceCoinsModel", name := "readOr", desc := "()Z" } : Jvm.MethodName) prog_18_method_99_code (2 : Nat) (Option.some Jvm.ClassFile.FieldType.boolean)) ∈ lw_all := lw_g (lw_at lw_m8 69 rfl) rfl
theorem q1845 : (Jvm.Cond.methodLink "FaceCoinsModel" (365 : Nat) ({ cls := "FaceCoinsModel", name := "readAnd", desc := "()Z" } : Jvm.MethodName)) ∈ lw_all := lw_g (lw_at lw_m8 70 rfl) rfl
theorem q1846 : (Jvm.Cond.privateMethod ({ cls := "FaceCoinsModel", name := "readAnd", desc := "()Z" } : Jvm.MethodName)) ∈ lw_tbl := lw_at lw_m8 71 rfl
theorem q1847 : (Jvm.Cond.instanceMethod ({ cls := "FaceCoinsModel", name := "readAnd", desc := "()Z" } : Jvm.MethodName)) ∈ lw_all := lw_g (lw_at lw_m8 72 rfl) rfl
theorem q1848 : (Jvm.Cond.code ({ cls := "FaceCoinsModel", name := "readAnd", desc := "()Z" } : Jvm.MethodName) prog_18_method_100_code (2 : Nat) (Option.some Jvm.ClassFile.FieldType.boolean)) ∈ lw_all := lw_g (lw_at lw_m8 73 rfl) rfl
theorem q1849 : (Jvm.Cond.methodLink "FaceCoinsModel" (374 : Nat) ({ cls := "FaceCoinsModel", name := "readOne", desc := "()Z" } : Jvm.MethodName)) ∈ lw_all := lw_g (lw_at lw_m8 74 rfl) rfl
theorem q1850 : (Jvm.Cond.privateMethod ({ cls := "FaceCoinsModel", name := "readOne", desc := "()Z" } : Jvm.MethodName)) ∈ lw_tbl := lw_at lw_m8 75 rfl
theorem q1851 : (Jvm.Cond.instanceMethod ({ cls := "FaceCoinsModel", name := "readOne", desc := "()Z" } : Jvm.MethodName)) ∈ lw_all := lw_g (lw_at lw_m8 76 rfl) rfl
theorem q1852 : (Jvm.Cond.code ({ cls := "FaceCoinsModel", name := "readOne", desc := "()Z" } : Jvm.MethodName) prog_18_method_101_code (4 : Nat) (Option.some Jvm.ClassFile.FieldType.boolean)) ∈ lw_all := lw_g (lw_at lw_m8 77 rfl) rfl
theorem q1853 : (Jvm.Cond.methodLink "FaceCoinsModel" (383 : Nat) ({ cls := "FaceCoinsModel", name := "readBracket", desc := "()Z" } : Jvm.MethodName)) ∈ lw_all := lw_g (lw_at lw_m8 78 rfl) rfl
theorem q1854 : (Jvm.Cond.privateMethod ({ cls := "FaceCoinsModel", name := "readBracket", desc := "()Z" } : Jvm.MethodName)) ∈ lw_tbl := lw_at lw_m8 79 rfl
theorem q1855 : (Jvm.Cond.instanceMethod ({ cls := "FaceCoinsModel", name := "readBracket", desc := "()Z" } : Jvm.MethodName)) ∈ lw_all := lw_g (lw_at lw_m8 80 rfl) rfl
theorem q1856 : (Jvm.Cond.code ({ cls := "FaceCoinsModel", name := "readBracket", desc := "()Z" } : Jvm.MethodName) prog_18_method_103_code (1 : Nat) (Option.some Jvm.ClassFile.FieldType.boolean)) ∈ lw_all := lw_g (lw_at lw_m8 81 rfl) rfl
theorem q1857 : (Jvm.Cond.methodLink "FaceCoinsModel" (386 : Nat) ({ cls := "FaceCoinsModel", name := "readNot", desc := "()Z" } : Jvm.MethodName)) ∈ lw_all := lw_g (lw_at lw_m8 82 rfl) rfl
theorem q1858 : (Jvm.Cond.privateMethod ({ cls := "FaceCoinsModel", name := "readNot", desc := "()Z" } : Jvm.MethodName)) ∈ lw_tbl := lw_at lw_m8 83 rfl
theorem q1859 : (Jvm.Cond.instanceMethod ({ cls := "FaceCoinsModel", name := "readNot", desc := "()Z" } : Jvm.MethodName)) ∈ lw_all := lw_g (lw_at lw_m8 84 rfl) rfl
theorem q1860 : (Jvm.Cond.code ({ cls := "FaceCoinsModel", name := "readNot", desc := "()Z" } : Jvm.MethodName) prog_18_method_102_code (1 : Nat) (Option.some Jvm.ClassFile.FieldType.boolean)) ∈ lw_all := lw_g (lw_at lw_m8 85 rfl) rfl
theorem q1861 : (Jvm.Cond.methodLink "FaceCoinsModel" (371 : Nat) ({ cls := "FaceCoinsModel", name := "lays", desc := "(IIII)I" } : Jvm.MethodName)) ∈ lw_all := lw_g (lw_at lw_m8 86 rfl) rfl
theorem q1862 : (Jvm.Cond.privateMethod ({ cls := "FaceCoinsModel", name := "lays", desc := "(IIII)I" } : Jvm.MethodName)) ∈ lw_tbl := lw_at lw_m8 87 rfl
theorem q1863 : (Jvm.Cond.instanceMethod ({ cls := "FaceCoinsModel", name := "lays", desc := "(IIII)I" } : Jvm.MethodName)) ∈ lw_all := lw_g (lw_at lw_m8 88 rfl) rfl
theorem q1864 : (Jvm.Cond.code ({ cls := "FaceCoinsModel", name := "lays", desc := "(IIII)I" } : Jvm.MethodName) prog_18_method_98_code (6 : Nat) (Option.some Jvm.ClassFile.FieldType.int)) ∈ lw_all := lw_g (lw_at lw_m8 89 rfl) rfl
theorem q1865 : (Jvm.Cond.methodLink "FaceCoinsModel" (389 : Nat) ({ cls := "FaceCoinsModel", name := "readNamed", desc := "(I)Z" } : Jvm.MethodName)) ∈ lw_all := lw_g (lw_at lw_m8 90 rfl) rfl
theorem q1866 : (Jvm.Cond.privateMethod ({ cls := "FaceCoinsModel", name := "readNamed", desc := "(I)Z" } : Jvm.MethodName)) ∈ lw_tbl := lw_at lw_m8 91 rfl
theorem q1867 : (Jvm.Cond.instanceMethod ({ cls := "FaceCoinsModel", name := "readNamed", desc := "(I)Z" } : Jvm.MethodName)) ∈ lw_all := lw_g (lw_at lw_m8 92 rfl) rfl
theorem q1868 : (Jvm.Cond.code ({ cls := "FaceCoinsModel", name := "readNamed", desc := "(I)Z" } : Jvm.MethodName) prog_18_method_104_code (3 : Nat) (Option.some Jvm.ClassFile.FieldType.boolean)) ∈ lw_all := lw_g (lw_at lw_m8 93 rfl) rfl
theorem q1869 : (Jvm.Cond.methodLink "FaceCoinsModel" (392 : Nat) ({ cls := "FaceCoinsModel", name := "readCompare", desc := "(I)Z" } : Jvm.MethodName)) ∈ lw_all := lw_g (lw_at lw_m8 94 rfl) rfl
theorem q1870 : (Jvm.Cond.privateMethod ({ cls := "FaceCoinsModel", name := "readCompare", desc := "(I)Z" } : Jvm.MethodName)) ∈ lw_tbl := lw_at lw_m8 95 rfl
theorem q1871 : (Jvm.Cond.instanceMethod ({ cls := "FaceCoinsModel", name := "readCompare", desc := "(I)Z" } : Jvm.MethodName)) ∈ lw_all := lw_g (lw_at lw_m8 96 rfl) rfl
theorem q1872 : (Jvm.Cond.code ({ cls := "FaceCoinsModel", name := "readCompare", desc := "(I)Z" } : Jvm.MethodName) prog_18_method_105_code (3 : Nat) (Option.some Jvm.ClassFile.FieldType.boolean)) ∈ lw_all := lw_g (lw_at lw_m8 97 rfl) rfl
theorem q1874 : (Jvm.Cond.instanceMethod ({ cls := "FaceCoinsModel", name := "said", desc := "(I)I" } : Jvm.MethodName)) ∈ lw_all := lw_g (lw_at lw_m8 99 rfl) rfl
theorem q1875 : (Jvm.Cond.selects "FaceCoinsModel" ({ cls := "FaceCoinsModel", name := "said", desc := "(I)I" } : Jvm.MethodName) ({ cls := "FaceCoinsModel", name := "said", desc := "(I)I" } : Jvm.MethodName)) ∈ lw_all := lw_g (lw_at lw_m8 100 rfl) rfl
theorem q1876 : (Jvm.Cond.code ({ cls := "FaceCoinsModel", name := "said", desc := "(I)I" } : Jvm.MethodName) prog_18_method_109_code (4 : Nat) (Option.some Jvm.ClassFile.FieldType.int)) ∈ lw_all := lw_g (lw_at lw_m8 101 rfl) rfl
theorem q1877 : (Jvm.Cond.methodLink "FaceCoinsModel" (398 : Nat) ({ cls := "FaceCoinsModel", name := "holds", desc := "(II)Z" } : Jvm.MethodName)) ∈ lw_all := lw_g (lw_at lw_m8 102 rfl) rfl
theorem q1878 : (Jvm.Cond.privateMethod ({ cls := "FaceCoinsModel", name := "holds", desc := "(II)Z" } : Jvm.MethodName)) ∈ lw_tbl := lw_at lw_m8 103 rfl
theorem q1879 : (Jvm.Cond.instanceMethod ({ cls := "FaceCoinsModel", name := "holds", desc := "(II)Z" } : Jvm.MethodName)) ∈ lw_all := lw_g (lw_at lw_m8 104 rfl) rfl
theorem q1880 : (Jvm.Cond.code ({ cls := "FaceCoinsModel", name := "holds", desc := "(II)Z" } : Jvm.MethodName) prog_18_method_108_code (8 : Nat) (Option.some Jvm.ClassFile.FieldType.boolean)) ∈ lw_all := lw_g (lw_at lw_m8 105 rfl) rfl
theorem q1881 : (Jvm.Cond.methodLink "FaceCoinsModel" (401 : Nat) ({ cls := "FaceCoinsModel", name := "shows", desc := "(II)Z" } : Jvm.MethodName)) ∈ lw_all := lw_g (lw_at lw_m8 106 rfl) rfl
theorem q1882 : (Jvm.Cond.privateMethod ({ cls := "FaceCoinsModel", name := "shows", desc := "(II)Z" } : Jvm.MethodName)) ∈ lw_tbl := lw_at lw_m8 107 rfl
theorem q1883 : (Jvm.Cond.instanceMethod ({ cls := "FaceCoinsModel", name := "shows", desc := "(II)Z" } : Jvm.MethodName)) ∈ lw_all := lw_g (lw_at lw_m8 108 rfl) rfl
theorem q1884 : (Jvm.Cond.code ({ cls := "FaceCoinsModel", name := "shows", desc := "(II)Z" } : Jvm.MethodName) prog_18_method_107_code (4 : Nat) (Option.some Jvm.ClassFile.FieldType.boolean)) ∈ lw_all := lw_g (lw_at lw_m8 109 rfl) rfl
theorem q1886 : (Jvm.Cond.instanceMethod ({ cls := "FaceCoinsModel", name := "image", desc := "(I)Z" } : Jvm.MethodName)) ∈ lw_all := lw_g (lw_at lw_m8 111 rfl) rfl
theorem q1887 : (Jvm.Cond.selects "FaceCoinsModel" ({ cls := "FaceCoinsModel", name := "image", desc := "(I)Z" } : Jvm.MethodName) ({ cls := "FaceCoinsModel", name := "image", desc := "(I)Z" } : Jvm.MethodName)) ∈ lw_all := lw_g (lw_at lw_m8 112 rfl) rfl
theorem q1888 : (Jvm.Cond.code ({ cls := "FaceCoinsModel", name := "image", desc := "(I)Z" } : Jvm.MethodName) prog_18_method_110_code (3 : Nat) (Option.some Jvm.ClassFile.FieldType.boolean)) ∈ lw_all := lw_g (lw_at lw_m8 113 rfl) rfl
theorem q1890 : (Jvm.Cond.instanceMethod ({ cls := "FaceCoinsModel", name := "restore", desc := "(I)Z" } : Jvm.MethodName)) ∈ lw_all := lw_g (lw_at lw_m8 115 rfl) rfl
theorem q1891 : (Jvm.Cond.selects "FaceCoinsModel" ({ cls := "FaceCoinsModel", name := "restore", desc := "(I)Z" } : Jvm.MethodName) ({ cls := "FaceCoinsModel", name := "restore", desc := "(I)Z" } : Jvm.MethodName)) ∈ lw_all := lw_g (lw_at lw_m8 116 rfl) rfl
theorem q1892 : (Jvm.Cond.code ({ cls := "FaceCoinsModel", name := "restore", desc := "(I)Z" } : Jvm.MethodName) prog_18_method_111_code (3 : Nat) (Option.some Jvm.ClassFile.FieldType.boolean)) ∈ lw_all := lw_g (lw_at lw_m8 117 rfl) rfl
theorem q1894 : (Jvm.Cond.instanceMethod ({ cls := "FaceCoinsModel", name := "count", desc := "(I)I" } : Jvm.MethodName)) ∈ lw_all := lw_g (lw_at lw_m8 119 rfl) rfl
theorem q1895 : (Jvm.Cond.selects "FaceCoinsModel" ({ cls := "FaceCoinsModel", name := "count", desc := "(I)I" } : Jvm.MethodName) ({ cls := "FaceCoinsModel", name := "count", desc := "(I)I" } : Jvm.MethodName)) ∈ lw_all := lw_g (lw_at lw_m8 120 rfl) rfl
theorem q1896 : (Jvm.Cond.code ({ cls := "FaceCoinsModel", name := "count", desc := "(I)I" } : Jvm.MethodName) prog_18_method_112_code (2 : Nat) (Option.some Jvm.ClassFile.FieldType.int)) ∈ lw_all := lw_g (lw_at lw_m8 121 rfl) rfl
theorem q1920 : (Jvm.Cond.castable "FaceCoinsModel" "java/lang/Object") ∈ lw_tbl := lw_at lw_m8 145 rfl
theorem in_X8 : ∀ w ∈ wsX80, w ∈ lw_all := lw_in wsX80 [1359, 1361, 1363, 1365, 1367, 1369, 1371, 1373, 1375, 1377, 1379, 1381, 1383, 1385, 1387, 1389, 1391, 1393, 1395, 1397, 1399, 1401, 1403, 1405, 1407, 1409, 1411, 1413, 1415, 1417, 1419, 1421, 1423, 1425, 1427, 1429, 1431, 1433, 1435, 1437, 1439, 1441, 1443, 1445, 1447, 1449, 1451] (by decide +kernel) (by decide +kernel)
