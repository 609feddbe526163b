/-! FaceCoins -/
set_option maxRecDepth 100000
def RX1 : String := "FaceCoins"
def TX1 : u_T := fun k => match k with
  | 0 => ("FaceCoins", "tape", "[B", true)
  | 1 => ("FaceCoins", "length", "I", false)
  | 2 => ("FaceCoins", "size", "I", false)
  | 3 => ("FaceCoins", "today", "I", false)
  | 4 => ("FaceCoins", "broken", "LFaceCoins$Fault;", true)
  | 5 => ("FaceCoins", "lines", "[Ljava/lang/String;", true)
  | 6 => ("FaceCoins", "words", "[Ljava/lang/String;", true)
  | 7 => ("FaceCoins", "now", "LFaceCoins$State;", true)
  | 8 => ("FaceCoins", "before", "[LFaceCoins$State;", true)
  | 9 => ("FaceCoins", "beforeMany", "I", false)
  | 10 => ("FaceCoins", "lawReader", "LFaceCoins$LawReader;", true)
  | 11 => ("FaceCoins", "fault", "I", false)
  | 12 => ("FaceCoins", "looked", "[I", true)
  | 13 => ("FaceCoins", "worths", "[I", true)
  | 14 => ("FaceCoins", "least", "[I", true)
  | 15 => ("FaceCoins", "paid", "[I", true)
  | 16 => ("FaceCoins", "paidKept", "[I", true)
  | 17 => ("FaceCoins", "lookedMany", "I", false)
  | 18 => ("FaceCoins", "hasPaid", "Z", false)
  | 19 => ("FaceCoins", "rowWho", "[I", true)
  | 20 => ("FaceCoins", "rowMint", "[I", true)
  | 21 => ("FaceCoins", "couldWho", "[I", true)
  | 22 => ("FaceCoins", "couldMint", "[I", true)
  | 23 => ("FaceCoins", "rowMany", "I", false)
  | 24 => ("FaceCoins", "seed", "I", false)
  | 25 => ("FaceCoins", "sentenceReader", "LFaceCoins$SentenceReader;", true)
  | 26 => ("FaceCoins", "sentence", "LFaceCoins$Cond;", false)
  | 27 => ("FaceCoins", "images", "[LFaceCoins$State;", true)
  | _ => ("FaceCoins", "sentences", "[LFaceCoins$Cond;", true)
def tyX1 : Nat → FieldType := fun k => match k with
  | 0 => .array .byte
  | 1 => .int
  | 2 => .int
  | 3 => .int
  | 4 => .object "FaceCoins$Fault"
  | 5 => .array (.object "java/lang/String")
  | 6 => .array (.object "java/lang/String")
  | 7 => .object "FaceCoins$State"
  | 8 => .array (.object "FaceCoins$State")
  | 9 => .int
  | 10 => .object "FaceCoins$LawReader"
  | 11 => .int
  | 12 => .array .int
  | 13 => .array .int
  | 14 => .array .int
  | 15 => .array .int
  | 16 => .array .int
  | 17 => .int
  | 18 => .boolean
  | 19 => .array .int
  | 20 => .array .int
  | 21 => .array .int
  | 22 => .array .int
  | 23 => .int
  | 24 => .int
  | 25 => .object "FaceCoins$SentenceReader"
  | 26 => .object "FaceCoins$Cond"
  | 27 => .array (.object "FaceCoins$State")
  | _ => .array (.object "FaceCoins$Cond")
abbrev wsX10 : List Cond := u_ws RX1 TX1 29
set_option maxRecDepth 100000 in
theorem nmX1 : ∀ a, a < 29 → ∀ b, b < 29 → a ≠ b → (TX1 a).2.1 ≠ (TX1 b).2.1 := by decide +kernel
set_option maxRecDepth 100000 in
theorem tyX1_ok : ∀ k, k < 29 → parseFieldDescriptor (TX1 k).2.2.1 = some (tyX1 k) := by decide +kernel
abbrev cX1_init : ByteArray := prog_1_method_1_code
def yX1_init : MethodName := ⟨RX1, "<init>", "()V"⟩
def dkwX1_init_11 : List UInt8 := [183, 0, 121, 181, 0, 122, 42, 5, 189, 0, 67, 181, 0, 126, 42, 5, 189, 0, 129, 181, 0, 131, 177]
abbrev dktX1_init_11 : List UInt8 := dkwX1_init_11 ++ []
def dkwX1_init_10 : List UInt8 := [188, 10, 181, 0, 109, 42, 16, 9, 188, 10, 181, 0, 112, 42, 2, 181, 0, 115, 42, 187, 0, 119, 89, 42]
abbrev dktX1_init_10 : List UInt8 := dkwX1_init_10 ++ dktX1_init_11
def dkwX1_init_9 : List UInt8 := [188, 10, 181, 0, 100, 42, 16, 9, 188, 10, 181, 0, 103, 42, 16, 9, 188, 10, 181, 0, 106, 42, 16, 9]
abbrev dktX1_init_9 : List UInt8 := dkwX1_init_9 ++ dktX1_init_10
def dkwX1_init_8 : List UInt8 := [181, 0, 91, 42, 17, 101, 157, 188, 10, 181, 0, 94, 42, 16, 40, 188, 10, 181, 0, 97, 42, 16, 40]
abbrev dktX1_init_8 : List UInt8 := dkwX1_init_8 ++ dktX1_init_9
def dkwX1_init_7 : List UInt8 := [187, 0, 78, 89, 42, 183, 0, 80, 181, 0, 83, 42, 16, 12, 188, 10, 181, 0, 87, 42, 16, 72, 188, 10]
abbrev dktX1_init_7 : List UInt8 := dkwX1_init_7 ++ dktX1_init_8
def dkwX1_init_6 : List UInt8 := [181, 0, 64, 42, 187, 0, 67, 89, 183, 0, 69, 181, 0, 70, 42, 16, 6, 189, 0, 67, 181, 0, 74, 42]
abbrev dktX1_init_6 : List UInt8 := dkwX1_init_6 ++ dktX1_init_7
def dkwX1_init_5 : List UInt8 := [16, 8, 18, 56, 83, 89, 16, 9, 18, 58, 83, 89, 16, 10, 18, 60, 83, 89, 16, 11, 18, 62, 83]
abbrev dktX1_init_5 : List UInt8 := dkwX1_init_5 ++ dktX1_init_6
def dkwX1_init_4 : List UInt8 := [83, 89, 7, 18, 48, 83, 89, 8, 18, 50, 83, 89, 16, 6, 18, 52, 83, 89, 16, 7, 18, 54, 83, 89]
abbrev dktX1_init_4 : List UInt8 := dkwX1_init_4 ++ dktX1_init_5
def dkwX1_init_3 : List UInt8 := [16, 12, 189, 0, 20, 89, 3, 18, 40, 83, 89, 4, 18, 42, 83, 89, 5, 18, 44, 83, 89, 6, 18, 46]
abbrev dktX1_init_3 : List UInt8 := dkwX1_init_3 ++ dktX1_init_4
def dkwX1_init_2 : List UInt8 := [18, 28, 83, 89, 7, 18, 30, 83, 89, 8, 18, 32, 83, 89, 16, 6, 18, 34, 83, 181, 0, 36, 42]
abbrev dktX1_init_2 : List UInt8 := dkwX1_init_2 ++ dktX1_init_3
def dkwX1_init_1 : List UInt8 := [42, 16, 7, 189, 0, 20, 89, 3, 18, 22, 83, 89, 4, 18, 24, 83, 89, 5, 18, 26, 83, 89, 6]
abbrev dktX1_init_1 : List UInt8 := dkwX1_init_1 ++ dktX1_init_2
def dkwX1_init_0 : List UInt8 := [42, 183, 0, 3, 42, 17, 2, 228, 188, 8, 181, 0, 9, 42, 187, 0, 13, 89, 183, 0, 15, 181, 0, 16]
abbrev dktX1_init_0 : List UInt8 := dkwX1_init_0 ++ dktX1_init_1
theorem dksX1_init_0 : cX1_init.data.toList.drop 0 = dktX1_init_0 := by decide +kernel
theorem dksX1_init_1 : cX1_init.data.toList.drop 24 = dktX1_init_1 := dk_seg dksX1_init_0 24 rfl rfl
theorem dksX1_init_2 : cX1_init.data.toList.drop 47 = dktX1_init_2 := dk_seg dksX1_init_1 23 rfl rfl
theorem dksX1_init_3 : cX1_init.data.toList.drop 70 = dktX1_init_3 := dk_seg dksX1_init_2 23 rfl rfl
theorem dksX1_init_4 : cX1_init.data.toList.drop 94 = dktX1_init_4 := dk_seg dksX1_init_3 24 rfl rfl
theorem dksX1_init_5 : cX1_init.data.toList.drop 118 = dktX1_init_5 := dk_seg dksX1_init_4 24 rfl rfl
theorem dksX1_init_6 : cX1_init.data.toList.drop 141 = dktX1_init_6 := dk_seg dksX1_init_5 23 rfl rfl
theorem dksX1_init_7 : cX1_init.data.toList.drop 165 = dktX1_init_7 := dk_seg dksX1_init_6 24 rfl rfl
theorem dksX1_init_8 : cX1_init.data.toList.drop 189 = dktX1_init_8 := dk_seg dksX1_init_7 24 rfl rfl
theorem dksX1_init_9 : cX1_init.data.toList.drop 212 = dktX1_init_9 := dk_seg dksX1_init_8 23 rfl rfl
theorem dksX1_init_10 : cX1_init.data.toList.drop 236 = dktX1_init_10 := dk_seg dksX1_init_9 24 rfl rfl
theorem dksX1_init_11 : cX1_init.data.toList.drop 260 = dktX1_init_11 := dk_seg dksX1_init_10 24 rfl rfl
theorem dX1_init_0 : decode cX1_init 0 = .ok (.aload_n 0, 1) := dk_42 (dk_at dksX1_init_0 0 rfl rfl)
theorem dX1_init_1 : decode cX1_init 1 = .ok (.invokespecial 3, 3) := dk_183 0 3 (dk_at dksX1_init_0 1 rfl rfl)
theorem dX1_init_4 : decode cX1_init 4 = .ok (.aload_n 0, 1) := dk_42 (dk_at dksX1_init_0 4 rfl rfl)
theorem dX1_init_5 : decode cX1_init 5 = .ok (.sipush 740, 3) := dk_17 2 228 (dk_at dksX1_init_0 5 rfl rfl)
theorem dX1_init_8 : decode cX1_init 8 = .ok (.newarray .byte, 2) := dk_188_8 (dk_at dksX1_init_0 8 rfl rfl)
theorem dX1_init_10 : decode cX1_init 10 = .ok (.putfield 9, 3) := dk_181 0 9 (dk_at dksX1_init_0 10 rfl rfl)
theorem dX1_init_13 : decode cX1_init 13 = .ok (.aload_n 0, 1) := dk_42 (dk_at dksX1_init_0 13 rfl rfl)
theorem dX1_init_14 : decode cX1_init 14 = .ok (.new 13, 3) := dk_187 0 13 (dk_at dksX1_init_0 14 rfl rfl)
theorem dX1_init_17 : decode cX1_init 17 = .ok (.dup, 1) := dk_89 (dk_at dksX1_init_0 17 rfl rfl)
theorem dX1_init_18 : decode cX1_init 18 = .ok (.invokespecial 15, 3) := dk_183 0 15 (dk_at dksX1_init_0 18 rfl rfl)
theorem dX1_init_21 : decode cX1_init 21 = .ok (.putfield 16, 3) := dk_181 0 16 (dk_at dksX1_init_0 21 rfl rfl)
theorem dX1_init_24 : decode cX1_init 24 = .ok (.aload_n 0, 1) := dk_42 (dk_at dksX1_init_1 0 rfl rfl)
theorem dX1_init_25 : decode cX1_init 25 = .ok (.bipush 7, 2) := dk_16 7 (dk_at dksX1_init_1 1 rfl rfl)
theorem dX1_init_27 : decode cX1_init 27 = .ok (.anewarray 20, 3) := dk_189 0 20 (dk_at dksX1_init_1 3 rfl rfl)
theorem dX1_init_30 : decode cX1_init 30 = .ok (.dup, 1) := dk_89 (dk_at dksX1_init_1 6 rfl rfl)
theorem dX1_init_31 : decode cX1_init 31 = .ok (.iconst 0, 1) := dk_3 (dk_at dksX1_init_1 7 rfl rfl)
theorem dX1_init_32 : decode cX1_init 32 = .ok (.ldc 22, 2) := dk_18 22 (dk_at dksX1_init_1 8 rfl rfl)
theorem dX1_init_34 : decode cX1_init 34 = .ok (.aastore, 1) := dk_83 (dk_at dksX1_init_1 10 rfl rfl)
theorem dX1_init_35 : decode cX1_init 35 = .ok (.dup, 1) := dk_89 (dk_at dksX1_init_1 11 rfl rfl)
theorem dX1_init_36 : decode cX1_init 36 = .ok (.iconst 1, 1) := dk_4 (dk_at dksX1_init_1 12 rfl rfl)
theorem dX1_init_37 : decode cX1_init 37 = .ok (.ldc 24, 2) := dk_18 24 (dk_at dksX1_init_1 13 rfl rfl)
theorem dX1_init_39 : decode cX1_init 39 = .ok (.aastore, 1) := dk_83 (dk_at dksX1_init_1 15 rfl rfl)
theorem dX1_init_40 : decode cX1_init 40 = .ok (.dup, 1) := dk_89 (dk_at dksX1_init_1 16 rfl rfl)
theorem dX1_init_41 : decode cX1_init 41 = .ok (.iconst 2, 1) := dk_5 (dk_at dksX1_init_1 17 rfl rfl)
theorem dX1_init_42 : decode cX1_init 42 = .ok (.ldc 26, 2) := dk_18 26 (dk_at dksX1_init_1 18 rfl rfl)
theorem dX1_init_44 : decode cX1_init 44 = .ok (.aastore, 1) := dk_83 (dk_at dksX1_init_1 20 rfl rfl)
theorem dX1_init_45 : decode cX1_init 45 = .ok (.dup, 1) := dk_89 (dk_at dksX1_init_1 21 rfl rfl)
theorem dX1_init_46 : decode cX1_init 46 = .ok (.iconst 3, 1) := dk_6 (dk_at dksX1_init_1 22 rfl rfl)
theorem dX1_init_47 : decode cX1_init 47 = .ok (.ldc 28, 2) := dk_18 28 (dk_at dksX1_init_2 0 rfl rfl)
theorem dX1_init_49 : decode cX1_init 49 = .ok (.aastore, 1) := dk_83 (dk_at dksX1_init_2 2 rfl rfl)
theorem dX1_init_50 : decode cX1_init 50 = .ok (.dup, 1) := dk_89 (dk_at dksX1_init_2 3 rfl rfl)
theorem dX1_init_51 : decode cX1_init 51 = .ok (.iconst 4, 1) := dk_7 (dk_at dksX1_init_2 4 rfl rfl)
theorem dX1_init_52 : decode cX1_init 52 = .ok (.ldc 30, 2) := dk_18 30 (dk_at dksX1_init_2 5 rfl rfl)
theorem dX1_init_54 : decode cX1_init 54 = .ok (.aastore, 1) := dk_83 (dk_at dksX1_init_2 7 rfl rfl)
theorem dX1_init_55 : decode cX1_init 55 = .ok (.dup, 1) := dk_89 (dk_at dksX1_init_2 8 rfl rfl)
theorem dX1_init_56 : decode cX1_init 56 = .ok (.iconst 5, 1) := dk_8 (dk_at dksX1_init_2 9 rfl rfl)
theorem dX1_init_57 : decode cX1_init 57 = .ok (.ldc 32, 2) := dk_18 32 (dk_at dksX1_init_2 10 rfl rfl)
theorem dX1_init_59 : decode cX1_init 59 = .ok (.aastore, 1) := dk_83 (dk_at dksX1_init_2 12 rfl rfl)
theorem dX1_init_60 : decode cX1_init 60 = .ok (.dup, 1) := dk_89 (dk_at dksX1_init_2 13 rfl rfl)
theorem dX1_init_61 : decode cX1_init 61 = .ok (.bipush 6, 2) := dk_16 6 (dk_at dksX1_init_2 14 rfl rfl)
theorem dX1_init_63 : decode cX1_init 63 = .ok (.ldc 34, 2) := dk_18 34 (dk_at dksX1_init_2 16 rfl rfl)
theorem dX1_init_65 : decode cX1_init 65 = .ok (.aastore, 1) := dk_83 (dk_at dksX1_init_2 18 rfl rfl)
theorem dX1_init_66 : decode cX1_init 66 = .ok (.putfield 36, 3) := dk_181 0 36 (dk_at dksX1_init_2 19 rfl rfl)
theorem dX1_init_69 : decode cX1_init 69 = .ok (.aload_n 0, 1) := dk_42 (dk_at dksX1_init_2 22 rfl rfl)
theorem dX1_init_70 : decode cX1_init 70 = .ok (.bipush 12, 2) := dk_16 12 (dk_at dksX1_init_3 0 rfl rfl)
theorem dX1_init_72 : decode cX1_init 72 = .ok (.anewarray 20, 3) := dk_189 0 20 (dk_at dksX1_init_3 2 rfl rfl)
theorem dX1_init_75 : decode cX1_init 75 = .ok (.dup, 1) := dk_89 (dk_at dksX1_init_3 5 rfl rfl)
theorem dX1_init_76 : decode cX1_init 76 = .ok (.iconst 0, 1) := dk_3 (dk_at dksX1_init_3 6 rfl rfl)
theorem dX1_init_77 : decode cX1_init 77 = .ok (.ldc 40, 2) := dk_18 40 (dk_at dksX1_init_3 7 rfl rfl)
theorem dX1_init_79 : decode cX1_init 79 = .ok (.aastore, 1) := dk_83 (dk_at dksX1_init_3 9 rfl rfl)
theorem dX1_init_80 : decode cX1_init 80 = .ok (.dup, 1) := dk_89 (dk_at dksX1_init_3 10 rfl rfl)
theorem dX1_init_81 : decode cX1_init 81 = .ok (.iconst 1, 1) := dk_4 (dk_at dksX1_init_3 11 rfl rfl)
theorem dX1_init_82 : decode cX1_init 82 = .ok (.ldc 42, 2) := dk_18 42 (dk_at dksX1_init_3 12 rfl rfl)
theorem dX1_init_84 : decode cX1_init 84 = .ok (.aastore, 1) := dk_83 (dk_at dksX1_init_3 14 rfl rfl)
theorem dX1_init_85 : decode cX1_init 85 = .ok (.dup, 1) := dk_89 (dk_at dksX1_init_3 15 rfl rfl)
theorem dX1_init_86 : decode cX1_init 86 = .ok (.iconst 2, 1) := dk_5 (dk_at dksX1_init_3 16 rfl rfl)
theorem dX1_init_87 : decode cX1_init 87 = .ok (.ldc 44, 2) := dk_18 44 (dk_at dksX1_init_3 17 rfl rfl)
theorem dX1_init_89 : decode cX1_init 89 = .ok (.aastore, 1) := dk_83 (dk_at dksX1_init_3 19 rfl rfl)
theorem dX1_init_90 : decode cX1_init 90 = .ok (.dup, 1) := dk_89 (dk_at dksX1_init_3 20 rfl rfl)
theorem dX1_init_91 : decode cX1_init 91 = .ok (.iconst 3, 1) := dk_6 (dk_at dksX1_init_3 21 rfl rfl)
theorem dX1_init_92 : decode cX1_init 92 = .ok (.ldc 46, 2) := dk_18 46 (dk_at dksX1_init_3 22 rfl rfl)
theorem dX1_init_94 : decode cX1_init 94 = .ok (.aastore, 1) := dk_83 (dk_at dksX1_init_4 0 rfl rfl)
theorem dX1_init_95 : decode cX1_init 95 = .ok (.dup, 1) := dk_89 (dk_at dksX1_init_4 1 rfl rfl)
theorem dX1_init_96 : decode cX1_init 96 = .ok (.iconst 4, 1) := dk_7 (dk_at dksX1_init_4 2 rfl rfl)
theorem dX1_init_97 : decode cX1_init 97 = .ok (.ldc 48, 2) := dk_18 48 (dk_at dksX1_init_4 3 rfl rfl)
theorem dX1_init_99 : decode cX1_init 99 = .ok (.aastore, 1) := dk_83 (dk_at dksX1_init_4 5 rfl rfl)
theorem dX1_init_100 : decode cX1_init 100 = .ok (.dup, 1) := dk_89 (dk_at dksX1_init_4 6 rfl rfl)
theorem dX1_init_101 : decode cX1_init 101 = .ok (.iconst 5, 1) := dk_8 (dk_at dksX1_init_4 7 rfl rfl)
theorem dX1_init_102 : decode cX1_init 102 = .ok (.ldc 50, 2) := dk_18 50 (dk_at dksX1_init_4 8 rfl rfl)
theorem dX1_init_104 : decode cX1_init 104 = .ok (.aastore, 1) := dk_83 (dk_at dksX1_init_4 10 rfl rfl)
theorem dX1_init_105 : decode cX1_init 105 = .ok (.dup, 1) := dk_89 (dk_at dksX1_init_4 11 rfl rfl)
theorem dX1_init_106 : decode cX1_init 106 = .ok (.bipush 6, 2) := dk_16 6 (dk_at dksX1_init_4 12 rfl rfl)
theorem dX1_init_108 : decode cX1_init 108 = .ok (.ldc 52, 2) := dk_18 52 (dk_at dksX1_init_4 14 rfl rfl)
theorem dX1_init_110 : decode cX1_init 110 = .ok (.aastore, 1) := dk_83 (dk_at dksX1_init_4 16 rfl rfl)
theorem dX1_init_111 : decode cX1_init 111 = .ok (.dup, 1) := dk_89 (dk_at dksX1_init_4 17 rfl rfl)
theorem dX1_init_112 : decode cX1_init 112 = .ok (.bipush 7, 2) := dk_16 7 (dk_at dksX1_init_4 18 rfl rfl)
theorem dX1_init_114 : decode cX1_init 114 = .ok (.ldc 54, 2) := dk_18 54 (dk_at dksX1_init_4 20 rfl rfl)
theorem dX1_init_116 : decode cX1_init 116 = .ok (.aastore, 1) := dk_83 (dk_at dksX1_init_4 22 rfl rfl)
theorem dX1_init_117 : decode cX1_init 117 = .ok (.dup, 1) := dk_89 (dk_at dksX1_init_4 23 rfl rfl)
theorem dX1_init_118 : decode cX1_init 118 = .ok (.bipush 8, 2) := dk_16 8 (dk_at dksX1_init_5 0 rfl rfl)
theorem dX1_init_120 : decode cX1_init 120 = .ok (.ldc 56, 2) := dk_18 56 (dk_at dksX1_init_5 2 rfl rfl)
theorem dX1_init_122 : decode cX1_init 122 = .ok (.aastore, 1) := dk_83 (dk_at dksX1_init_5 4 rfl rfl)
theorem dX1_init_123 : decode cX1_init 123 = .ok (.dup, 1) := dk_89 (dk_at dksX1_init_5 5 rfl rfl)
theorem dX1_init_124 : decode cX1_init 124 = .ok (.bipush 9, 2) := dk_16 9 (dk_at dksX1_init_5 6 rfl rfl)
theorem dX1_init_126 : decode cX1_init 126 = .ok (.ldc 58, 2) := dk_18 58 (dk_at dksX1_init_5 8 rfl rfl)
theorem dX1_init_128 : decode cX1_init 128 = .ok (.aastore, 1) := dk_83 (dk_at dksX1_init_5 10 rfl rfl)
theorem dX1_init_129 : decode cX1_init 129 = .ok (.dup, 1) := dk_89 (dk_at dksX1_init_5 11 rfl rfl)
theorem dX1_init_130 : decode cX1_init 130 = .ok (.bipush 10, 2) := dk_16 10 (dk_at dksX1_init_5 12 rfl rfl)
theorem dX1_init_132 : decode cX1_init 132 = .ok (.ldc 60, 2) := dk_18 60 (dk_at dksX1_init_5 14 rfl rfl)
theorem dX1_init_134 : decode cX1_init 134 = .ok (.aastore, 1) := dk_83 (dk_at dksX1_init_5 16 rfl rfl)
theorem dX1_init_135 : decode cX1_init 135 = .ok (.dup, 1) := dk_89 (dk_at dksX1_init_5 17 rfl rfl)
theorem dX1_init_136 : decode cX1_init 136 = .ok (.bipush 11, 2) := dk_16 11 (dk_at dksX1_init_5 18 rfl rfl)
theorem dX1_init_138 : decode cX1_init 138 = .ok (.ldc 62, 2) := dk_18 62 (dk_at dksX1_init_5 20 rfl rfl)
theorem dX1_init_140 : decode cX1_init 140 = .ok (.aastore, 1) := dk_83 (dk_at dksX1_init_5 22 rfl rfl)
theorem dX1_init_141 : decode cX1_init 141 = .ok (.putfield 64, 3) := dk_181 0 64 (dk_at dksX1_init_6 0 rfl rfl)
theorem dX1_init_144 : decode cX1_init 144 = .ok (.aload_n 0, 1) := dk_42 (dk_at dksX1_init_6 3 rfl rfl)
theorem dX1_init_145 : decode cX1_init 145 = .ok (.new 67, 3) := dk_187 0 67 (dk_at dksX1_init_6 4 rfl rfl)
theorem dX1_init_148 : decode cX1_init 148 = .ok (.dup, 1) := dk_89 (dk_at dksX1_init_6 7 rfl rfl)
theorem dX1_init_149 : decode cX1_init 149 = .ok (.invokespecial 69, 3) := dk_183 0 69 (dk_at dksX1_init_6 8 rfl rfl)
theorem dX1_init_152 : decode cX1_init 152 = .ok (.putfield 70, 3) := dk_181 0 70 (dk_at dksX1_init_6 11 rfl rfl)
theorem dX1_init_155 : decode cX1_init 155 = .ok (.aload_n 0, 1) := dk_42 (dk_at dksX1_init_6 14 rfl rfl)
theorem dX1_init_156 : decode cX1_init 156 = .ok (.bipush 6, 2) := dk_16 6 (dk_at dksX1_init_6 15 rfl rfl)
theorem dX1_init_158 : decode cX1_init 158 = .ok (.anewarray 67, 3) := dk_189 0 67 (dk_at dksX1_init_6 17 rfl rfl)
theorem dX1_init_161 : decode cX1_init 161 = .ok (.putfield 74, 3) := dk_181 0 74 (dk_at dksX1_init_6 20 rfl rfl)
theorem dX1_init_164 : decode cX1_init 164 = .ok (.aload_n 0, 1) := dk_42 (dk_at dksX1_init_6 23 rfl rfl)
theorem dX1_init_165 : decode cX1_init 165 = .ok (.new 78, 3) := dk_187 0 78 (dk_at dksX1_init_7 0 rfl rfl)
theorem dX1_init_168 : decode cX1_init 168 = .ok (.dup, 1) := dk_89 (dk_at dksX1_init_7 3 rfl rfl)
theorem dX1_init_169 : decode cX1_init 169 = .ok (.aload_n 0, 1) := dk_42 (dk_at dksX1_init_7 4 rfl rfl)
theorem dX1_init_170 : decode cX1_init 170 = .ok (.invokespecial 80, 3) := dk_183 0 80 (dk_at dksX1_init_7 5 rfl rfl)
theorem dX1_init_173 : decode cX1_init 173 = .ok (.putfield 83, 3) := dk_181 0 83 (dk_at dksX1_init_7 8 rfl rfl)
theorem dX1_init_176 : decode cX1_init 176 = .ok (.aload_n 0, 1) := dk_42 (dk_at dksX1_init_7 11 rfl rfl)
theorem dX1_init_177 : decode cX1_init 177 = .ok (.bipush 12, 2) := dk_16 12 (dk_at dksX1_init_7 12 rfl rfl)
theorem dX1_init_179 : decode cX1_init 179 = .ok (.newarray .int, 2) := dk_188_10 (dk_at dksX1_init_7 14 rfl rfl)
theorem dX1_init_181 : decode cX1_init 181 = .ok (.putfield 87, 3) := dk_181 0 87 (dk_at dksX1_init_7 16 rfl rfl)
theorem dX1_init_184 : decode cX1_init 184 = .ok (.aload_n 0, 1) := dk_42 (dk_at dksX1_init_7 19 rfl rfl)
theorem dX1_init_185 : decode cX1_init 185 = .ok (.bipush 72, 2) := dk_16 72 (dk_at dksX1_init_7 20 rfl rfl)
theorem dX1_init_187 : decode cX1_init 187 = .ok (.newarray .int, 2) := dk_188_10 (dk_at dksX1_init_7 22 rfl rfl)
theorem dX1_init_189 : decode cX1_init 189 = .ok (.putfield 91, 3) := dk_181 0 91 (dk_at dksX1_init_8 0 rfl rfl)
theorem dX1_init_192 : decode cX1_init 192 = .ok (.aload_n 0, 1) := dk_42 (dk_at dksX1_init_8 3 rfl rfl)
theorem dX1_init_193 : decode cX1_init 193 = .ok (.sipush 26013, 3) := dk_17 101 157 (dk_at dksX1_init_8 4 rfl rfl)
theorem dX1_init_196 : decode cX1_init 196 = .ok (.newarray .int, 2) := dk_188_10 (dk_at dksX1_init_8 7 rfl rfl)
theorem dX1_init_198 : decode cX1_init 198 = .ok (.putfield 94, 3) := dk_181 0 94 (dk_at dksX1_init_8 9 rfl rfl)
theorem dX1_init_201 : decode cX1_init 201 = .ok (.aload_n 0, 1) := dk_42 (dk_at dksX1_init_8 12 rfl rfl)
theorem dX1_init_202 : decode cX1_init 202 = .ok (.bipush 40, 2) := dk_16 40 (dk_at dksX1_init_8 13 rfl rfl)
theorem dX1_init_204 : decode cX1_init 204 = .ok (.newarray .int, 2) := dk_188_10 (dk_at dksX1_init_8 15 rfl rfl)
theorem dX1_init_206 : decode cX1_init 206 = .ok (.putfield 97, 3) := dk_181 0 97 (dk_at dksX1_init_8 17 rfl rfl)
theorem dX1_init_209 : decode cX1_init 209 = .ok (.aload_n 0, 1) := dk_42 (dk_at dksX1_init_8 20 rfl rfl)
theorem dX1_init_210 : decode cX1_init 210 = .ok (.bipush 40, 2) := dk_16 40 (dk_at dksX1_init_8 21 rfl rfl)
theorem dX1_init_212 : decode cX1_init 212 = .ok (.newarray .int, 2) := dk_188_10 (dk_at dksX1_init_9 0 rfl rfl)
theorem dX1_init_214 : decode cX1_init 214 = .ok (.putfield 100, 3) := dk_181 0 100 (dk_at dksX1_init_9 2 rfl rfl)
theorem dX1_init_217 : decode cX1_init 217 = .ok (.aload_n 0, 1) := dk_42 (dk_at dksX1_init_9 5 rfl rfl)
theorem dX1_init_218 : decode cX1_init 218 = .ok (.bipush 9, 2) := dk_16 9 (dk_at dksX1_init_9 6 rfl rfl)
theorem dX1_init_220 : decode cX1_init 220 = .ok (.newarray .int, 2) := dk_188_10 (dk_at dksX1_init_9 8 rfl rfl)
theorem dX1_init_222 : decode cX1_init 222 = .ok (.putfield 103, 3) := dk_181 0 103 (dk_at dksX1_init_9 10 rfl rfl)
theorem dX1_init_225 : decode cX1_init 225 = .ok (.aload_n 0, 1) := dk_42 (dk_at dksX1_init_9 13 rfl rfl)
theorem dX1_init_226 : decode cX1_init 226 = .ok (.bipush 9, 2) := dk_16 9 (dk_at dksX1_init_9 14 rfl rfl)
theorem dX1_init_228 : decode cX1_init 228 = .ok (.newarray .int, 2) := dk_188_10 (dk_at dksX1_init_9 16 rfl rfl)
theorem dX1_init_230 : decode cX1_init 230 = .ok (.putfield 106, 3) := dk_181 0 106 (dk_at dksX1_init_9 18 rfl rfl)
theorem dX1_init_233 : decode cX1_init 233 = .ok (.aload_n 0, 1) := dk_42 (dk_at dksX1_init_9 21 rfl rfl)
theorem dX1_init_234 : decode cX1_init 234 = .ok (.bipush 9, 2) := dk_16 9 (dk_at dksX1_init_9 22 rfl rfl)
theorem dX1_init_236 : decode cX1_init 236 = .ok (.newarray .int, 2) := dk_188_10 (dk_at dksX1_init_10 0 rfl rfl)
theorem dX1_init_238 : decode cX1_init 238 = .ok (.putfield 109, 3) := dk_181 0 109 (dk_at dksX1_init_10 2 rfl rfl)
theorem dX1_init_241 : decode cX1_init 241 = .ok (.aload_n 0, 1) := dk_42 (dk_at dksX1_init_10 5 rfl rfl)
theorem dX1_init_242 : decode cX1_init 242 = .ok (.bipush 9, 2) := dk_16 9 (dk_at dksX1_init_10 6 rfl rfl)
theorem dX1_init_244 : decode cX1_init 244 = .ok (.newarray .int, 2) := dk_188_10 (dk_at dksX1_init_10 8 rfl rfl)
theorem dX1_init_246 : decode cX1_init 246 = .ok (.putfield 112, 3) := dk_181 0 112 (dk_at dksX1_init_10 10 rfl rfl)
theorem dX1_init_249 : decode cX1_init 249 = .ok (.aload_n 0, 1) := dk_42 (dk_at dksX1_init_10 13 rfl rfl)
theorem dX1_init_250 : decode cX1_init 250 = .ok (.iconst (-1), 1) := dk_2 (dk_at dksX1_init_10 14 rfl rfl)
theorem dX1_init_251 : decode cX1_init 251 = .ok (.putfield 115, 3) := dk_181 0 115 (dk_at dksX1_init_10 15 rfl rfl)
theorem dX1_init_254 : decode cX1_init 254 = .ok (.aload_n 0, 1) := dk_42 (dk_at dksX1_init_10 18 rfl rfl)
theorem dX1_init_255 : decode cX1_init 255 = .ok (.new 119, 3) := dk_187 0 119 (dk_at dksX1_init_10 19 rfl rfl)
theorem dX1_init_258 : decode cX1_init 258 = .ok (.dup, 1) := dk_89 (dk_at dksX1_init_10 22 rfl rfl)
theorem dX1_init_259 : decode cX1_init 259 = .ok (.aload_n 0, 1) := dk_42 (dk_at dksX1_init_10 23 rfl rfl)
theorem dX1_init_260 : decode cX1_init 260 = .ok (.invokespecial 121, 3) := dk_183 0 121 (dk_at dksX1_init_11 0 rfl rfl)
theorem dX1_init_263 : decode cX1_init 263 = .ok (.putfield 122, 3) := dk_181 0 122 (dk_at dksX1_init_11 3 rfl rfl)
theorem dX1_init_266 : decode cX1_init 266 = .ok (.aload_n 0, 1) := dk_42 (dk_at dksX1_init_11 6 rfl rfl)
theorem dX1_init_267 : decode cX1_init 267 = .ok (.iconst 2, 1) := dk_5 (dk_at dksX1_init_11 7 rfl rfl)
theorem dX1_init_268 : decode cX1_init 268 = .ok (.anewarray 67, 3) := dk_189 0 67 (dk_at dksX1_init_11 8 rfl rfl)
theorem dX1_init_271 : decode cX1_init 271 = .ok (.putfield 126, 3) := dk_181 0 126 (dk_at dksX1_init_11 11 rfl rfl)
theorem dX1_init_274 : decode cX1_init 274 = .ok (.aload_n 0, 1) := dk_42 (dk_at dksX1_init_11 14 rfl rfl)
theorem dX1_init_275 : decode cX1_init 275 = .ok (.iconst 2, 1) := dk_5 (dk_at dksX1_init_11 15 rfl rfl)
theorem dX1_init_276 : decode cX1_init 276 = .ok (.anewarray 129, 3) := dk_189 0 129 (dk_at dksX1_init_11 16 rfl rfl)
theorem dX1_init_279 : decode cX1_init 279 = .ok (.putfield 131, 3) := dk_181 0 131 (dk_at dksX1_init_11 19 rfl rfl)
theorem dX1_init_282 : decode cX1_init 282 = .ok (.return_, 1) := dk_177 (dk_at dksX1_init_11 22 rfl rfl)
abbrev cX1_feed : ByteArray := prog_1_method_2_code
def yX1_feed : MethodName := ⟨RX1, "feed", "(IIIII)I"⟩
def dkwX1_feed_2 : List UInt8 := [172]
abbrev dktX1_feed_2 : List UInt8 := dkwX1_feed_2 ++ []
def dkwX1_feed_1 : List UInt8 := [182, 0, 138, 42, 29, 182, 0, 138, 42, 21, 4, 182, 0, 138, 42, 21, 5, 182, 0, 138, 42, 180, 0, 135]
abbrev dktX1_feed_1 : List UInt8 := dkwX1_feed_1 ++ dktX1_feed_2
def dkwX1_feed_0 : List UInt8 := [42, 180, 0, 135, 16, 20, 96, 17, 2, 228, 164, 0, 5, 2, 172, 42, 27, 182, 0, 138, 42, 28]
abbrev dktX1_feed_0 : List UInt8 := dkwX1_feed_0 ++ dktX1_feed_1
theorem dksX1_feed_0 : cX1_feed.data.toList.drop 0 = dktX1_feed_0 := by decide +kernel
theorem dksX1_feed_1 : cX1_feed.data.toList.drop 22 = dktX1_feed_1 := dk_seg dksX1_feed_0 22 rfl rfl
theorem dksX1_feed_2 : cX1_feed.data.toList.drop 46 = dktX1_feed_2 := dk_seg dksX1_feed_1 24 rfl rfl
theorem dX1_feed_0 : decode cX1_feed 0 = .ok (.aload_n 0, 1) := dk_42 (dk_at dksX1_feed_0 0 rfl rfl)
theorem dX1_feed_1 : decode cX1_feed 1 = .ok (.getfield 135, 3) := dk_180 0 135 (dk_at dksX1_feed_0 1 rfl rfl)
theorem dX1_feed_4 : decode cX1_feed 4 = .ok (.bipush 20, 2) := dk_16 20 (dk_at dksX1_feed_0 4 rfl rfl)
theorem dX1_feed_6 : decode cX1_feed 6 = .ok (.iadd, 1) := dk_96 (dk_at dksX1_feed_0 6 rfl rfl)
theorem dX1_feed_7 : decode cX1_feed 7 = .ok (.sipush 740, 3) := dk_17 2 228 (dk_at dksX1_feed_0 7 rfl rfl)
theorem dX1_feed_10 : decode cX1_feed 10 = .ok (.if_icmp .le 5, 3) := dk_164 0 5 (dk_at dksX1_feed_0 10 rfl rfl)
theorem dX1_feed_13 : decode cX1_feed 13 = .ok (.iconst (-1), 1) := dk_2 (dk_at dksX1_feed_0 13 rfl rfl)
theorem dX1_feed_14 : decode cX1_feed 14 = .ok (.ireturn, 1) := dk_172 (dk_at dksX1_feed_0 14 rfl rfl)
theorem dX1_feed_15 : decode cX1_feed 15 = .ok (.aload_n 0, 1) := dk_42 (dk_at dksX1_feed_0 15 rfl rfl)
theorem dX1_feed_16 : decode cX1_feed 16 = .ok (.iload_n 1, 1) := dk_27 (dk_at dksX1_feed_0 16 rfl rfl)
theorem dX1_feed_17 : decode cX1_feed 17 = .ok (.invokevirtual 138, 3) := dk_182 0 138 (dk_at dksX1_feed_0 17 rfl rfl)
theorem dX1_feed_20 : decode cX1_feed 20 = .ok (.aload_n 0, 1) := dk_42 (dk_at dksX1_feed_0 20 rfl rfl)
theorem dX1_feed_21 : decode cX1_feed 21 = .ok (.iload_n 2, 1) := dk_28 (dk_at dksX1_feed_0 21 rfl rfl)
theorem dX1_feed_22 : decode cX1_feed 22 = .ok (.invokevirtual 138, 3) := dk_182 0 138 (dk_at dksX1_feed_1 0 rfl rfl)
theorem dX1_feed_25 : decode cX1_feed 25 = .ok (.aload_n 0, 1) := dk_42 (dk_at dksX1_feed_1 3 rfl rfl)
theorem dX1_feed_26 : decode cX1_feed 26 = .ok (.iload_n 3, 1) := dk_29 (dk_at dksX1_feed_1 4 rfl rfl)
theorem dX1_feed_27 : decode cX1_feed 27 = .ok (.invokevirtual 138, 3) := dk_182 0 138 (dk_at dksX1_feed_1 5 rfl rfl)
theorem dX1_feed_30 : decode cX1_feed 30 = .ok (.aload_n 0, 1) := dk_42 (dk_at dksX1_feed_1 8 rfl rfl)
theorem dX1_feed_31 : decode cX1_feed 31 = .ok (.iload 4, 2) := dk_21 4 (dk_at dksX1_feed_1 9 rfl rfl)
theorem dX1_feed_33 : decode cX1_feed 33 = .ok (.invokevirtual 138, 3) := dk_182 0 138 (dk_at dksX1_feed_1 11 rfl rfl)
theorem dX1_feed_36 : decode cX1_feed 36 = .ok (.aload_n 0, 1) := dk_42 (dk_at dksX1_feed_1 14 rfl rfl)
theorem dX1_feed_37 : decode cX1_feed 37 = .ok (.iload 5, 2) := dk_21 5 (dk_at dksX1_feed_1 15 rfl rfl)
theorem dX1_feed_39 : decode cX1_feed 39 = .ok (.invokevirtual 138, 3) := dk_182 0 138 (dk_at dksX1_feed_1 17 rfl rfl)
theorem dX1_feed_42 : decode cX1_feed 42 = .ok (.aload_n 0, 1) := dk_42 (dk_at dksX1_feed_1 20 rfl rfl)
theorem dX1_feed_43 : decode cX1_feed 43 = .ok (.getfield 135, 3) := dk_180 0 135 (dk_at dksX1_feed_1 21 rfl rfl)
theorem dX1_feed_46 : decode cX1_feed 46 = .ok (.ireturn, 1) := dk_172 (dk_at dksX1_feed_2 0 rfl rfl)
abbrev cX1_four : ByteArray := prog_1_method_3_code
def yX1_four : MethodName := ⟨RX1, "four", "(I)V"⟩
def dkwX1_four_1 : List UInt8 := [180, 0, 135, 4, 96, 181, 0, 135, 132, 2, 248, 167, 255, 226, 177]
abbrev dktX1_four_1 : List UInt8 := dkwX1_four_1 ++ []
def dkwX1_four_0 : List UInt8 := [16, 24, 61, 28, 155, 0, 32, 42, 180, 0, 9, 42, 180, 0, 135, 27, 28, 122, 145, 84, 42, 89]
abbrev dktX1_four_0 : List UInt8 := dkwX1_four_0 ++ dktX1_four_1
theorem dksX1_four_0 : cX1_four.data.toList.drop 0 = dktX1_four_0 := by decide +kernel
theorem dksX1_four_1 : cX1_four.data.toList.drop 22 = dktX1_four_1 := dk_seg dksX1_four_0 22 rfl rfl
theorem dX1_four_0 : decode cX1_four 0 = .ok (.bipush 24, 2) := dk_16 24 (dk_at dksX1_four_0 0 rfl rfl)
theorem dX1_four_2 : decode cX1_four 2 = .ok (.istore_n 2, 1) := dk_61 (dk_at dksX1_four_0 2 rfl rfl)
theorem dX1_four_3 : decode cX1_four 3 = .ok (.iload_n 2, 1) := dk_28 (dk_at dksX1_four_0 3 rfl rfl)
theorem dX1_four_4 : decode cX1_four 4 = .ok (.ifCond .lt 32, 3) := dk_155 0 32 (dk_at dksX1_four_0 4 rfl rfl)
theorem dX1_four_7 : decode cX1_four 7 = .ok (.aload_n 0, 1) := dk_42 (dk_at dksX1_four_0 7 rfl rfl)
theorem dX1_four_8 : decode cX1_four 8 = .ok (.getfield 9, 3) := dk_180 0 9 (dk_at dksX1_four_0 8 rfl rfl)
theorem dX1_four_11 : decode cX1_four 11 = .ok (.aload_n 0, 1) := dk_42 (dk_at dksX1_four_0 11 rfl rfl)
theorem dX1_four_12 : decode cX1_four 12 = .ok (.getfield 135, 3) := dk_180 0 135 (dk_at dksX1_four_0 12 rfl rfl)
theorem dX1_four_15 : decode cX1_four 15 = .ok (.iload_n 1, 1) := dk_27 (dk_at dksX1_four_0 15 rfl rfl)
theorem dX1_four_16 : decode cX1_four 16 = .ok (.iload_n 2, 1) := dk_28 (dk_at dksX1_four_0 16 rfl rfl)
theorem dX1_four_17 : decode cX1_four 17 = .ok (.ishr, 1) := dk_122 (dk_at dksX1_four_0 17 rfl rfl)
theorem dX1_four_18 : decode cX1_four 18 = .ok (.i2b, 1) := dk_145 (dk_at dksX1_four_0 18 rfl rfl)
theorem dX1_four_19 : decode cX1_four 19 = .ok (.bastore, 1) := dk_84 (dk_at dksX1_four_0 19 rfl rfl)
theorem dX1_four_20 : decode cX1_four 20 = .ok (.aload_n 0, 1) := dk_42 (dk_at dksX1_four_0 20 rfl rfl)
theorem dX1_four_21 : decode cX1_four 21 = .ok (.dup, 1) := dk_89 (dk_at dksX1_four_0 21 rfl rfl)
theorem dX1_four_22 : decode cX1_four 22 = .ok (.getfield 135, 3) := dk_180 0 135 (dk_at dksX1_four_1 0 rfl rfl)
theorem dX1_four_25 : decode cX1_four 25 = .ok (.iconst 1, 1) := dk_4 (dk_at dksX1_four_1 3 rfl rfl)
theorem dX1_four_26 : decode cX1_four 26 = .ok (.iadd, 1) := dk_96 (dk_at dksX1_four_1 4 rfl rfl)
theorem dX1_four_27 : decode cX1_four 27 = .ok (.putfield 135, 3) := dk_181 0 135 (dk_at dksX1_four_1 5 rfl rfl)
theorem dX1_four_30 : decode cX1_four 30 = .ok (.iinc 2 (-8), 3) := dk_132 2 248 (dk_at dksX1_four_1 8 rfl rfl)
theorem dX1_four_33 : decode cX1_four 33 = .ok (.goto (-30), 3) := dk_167 255 226 (dk_at dksX1_four_1 11 rfl rfl)
theorem dX1_four_36 : decode cX1_four 36 = .ok (.return_, 1) := dk_177 (dk_at dksX1_four_1 14 rfl rfl)
abbrev cX1_end : ByteArray := prog_1_method_4_code
def yX1_end : MethodName := ⟨RX1, "end", "(I)Z"⟩
def dkwX1_end_0 : List UInt8 := [27, 155, 0, 11, 27, 42, 180, 0, 135, 164, 0, 5, 3, 172, 42, 27, 181, 0, 135, 4, 172]
abbrev dktX1_end_0 : List UInt8 := dkwX1_end_0 ++ []
theorem dksX1_end_0 : cX1_end.data.toList.drop 0 = dktX1_end_0 := by decide +kernel
theorem dX1_end_0 : decode cX1_end 0 = .ok (.iload_n 1, 1) := dk_27 (dk_at dksX1_end_0 0 rfl rfl)
theorem dX1_end_1 : decode cX1_end 1 = .ok (.ifCond .lt 11, 3) := dk_155 0 11 (dk_at dksX1_end_0 1 rfl rfl)
theorem dX1_end_4 : decode cX1_end 4 = .ok (.iload_n 1, 1) := dk_27 (dk_at dksX1_end_0 4 rfl rfl)
theorem dX1_end_5 : decode cX1_end 5 = .ok (.aload_n 0, 1) := dk_42 (dk_at dksX1_end_0 5 rfl rfl)
theorem dX1_end_6 : decode cX1_end 6 = .ok (.getfield 135, 3) := dk_180 0 135 (dk_at dksX1_end_0 6 rfl rfl)
theorem dX1_end_9 : decode cX1_end 9 = .ok (.if_icmp .le 5, 3) := dk_164 0 5 (dk_at dksX1_end_0 9 rfl rfl)
theorem dX1_end_12 : decode cX1_end 12 = .ok (.iconst 0, 1) := dk_3 (dk_at dksX1_end_0 12 rfl rfl)
theorem dX1_end_13 : decode cX1_end 13 = .ok (.ireturn, 1) := dk_172 (dk_at dksX1_end_0 13 rfl rfl)
theorem dX1_end_14 : decode cX1_end 14 = .ok (.aload_n 0, 1) := dk_42 (dk_at dksX1_end_0 14 rfl rfl)
theorem dX1_end_15 : decode cX1_end 15 = .ok (.iload_n 1, 1) := dk_27 (dk_at dksX1_end_0 15 rfl rfl)
theorem dX1_end_16 : decode cX1_end 16 = .ok (.putfield 135, 3) := dk_181 0 135 (dk_at dksX1_end_0 16 rfl rfl)
theorem dX1_end_19 : decode cX1_end 19 = .ok (.iconst 1, 1) := dk_4 (dk_at dksX1_end_0 19 rfl rfl)
theorem dX1_end_20 : decode cX1_end 20 = .ok (.ireturn, 1) := dk_172 (dk_at dksX1_end_0 20 rfl rfl)
abbrev cX1_law : ByteArray := prog_1_method_10_code
def yX1_law : MethodName := ⟨RX1, "law", "()I"⟩
def dkwX1_law_2 : List UInt8 := [77, 42, 44, 180, 0, 172, 181, 0, 151, 2, 44, 180, 0, 175, 100, 172]
abbrev dktX1_law_2 : List UInt8 := dkwX1_law_2 ++ []
def dkwX1_law_1 : List UInt8 := [182, 0, 157, 61, 42, 180, 0, 70, 43, 182, 0, 161, 42, 3, 181, 0, 165, 42, 1, 181, 0, 168, 28, 172]
abbrev dktX1_law_1 : List UInt8 := dkwX1_law_1 ++ dktX1_law_2
def dkwX1_law_0 : List UInt8 := [42, 182, 0, 148, 42, 3, 181, 0, 151, 187, 0, 154, 89, 183, 0, 156, 76, 42, 180, 0, 83, 43]
abbrev dktX1_law_0 : List UInt8 := dkwX1_law_0 ++ dktX1_law_1
theorem dksX1_law_0 : cX1_law.data.toList.drop 0 = dktX1_law_0 := by decide +kernel
theorem dksX1_law_1 : cX1_law.data.toList.drop 22 = dktX1_law_1 := dk_seg dksX1_law_0 22 rfl rfl
theorem dksX1_law_2 : cX1_law.data.toList.drop 46 = dktX1_law_2 := dk_seg dksX1_law_1 24 rfl rfl
theorem dX1_law_0 : decode cX1_law 0 = .ok (.aload_n 0, 1) := dk_42 (dk_at dksX1_law_0 0 rfl rfl)
theorem dX1_law_1 : decode cX1_law 1 = .ok (.invokevirtual 148, 3) := dk_182 0 148 (dk_at dksX1_law_0 1 rfl rfl)
theorem dX1_law_4 : decode cX1_law 4 = .ok (.aload_n 0, 1) := dk_42 (dk_at dksX1_law_0 4 rfl rfl)
theorem dX1_law_5 : decode cX1_law 5 = .ok (.iconst 0, 1) := dk_3 (dk_at dksX1_law_0 5 rfl rfl)
theorem dX1_law_6 : decode cX1_law 6 = .ok (.putfield 151, 3) := dk_181 0 151 (dk_at dksX1_law_0 6 rfl rfl)
theorem dX1_law_9 : decode cX1_law 9 = .ok (.new 154, 3) := dk_187 0 154 (dk_at dksX1_law_0 9 rfl rfl)
theorem dX1_law_12 : decode cX1_law 12 = .ok (.dup, 1) := dk_89 (dk_at dksX1_law_0 12 rfl rfl)
theorem dX1_law_13 : decode cX1_law 13 = .ok (.invokespecial 156, 3) := dk_183 0 156 (dk_at dksX1_law_0 13 rfl rfl)
theorem dX1_law_16 : decode cX1_law 16 = .ok (.astore_n 1, 1) := dk_76 (dk_at dksX1_law_0 16 rfl rfl)
theorem dX1_law_17 : decode cX1_law 17 = .ok (.aload_n 0, 1) := dk_42 (dk_at dksX1_law_0 17 rfl rfl)
theorem dX1_law_18 : decode cX1_law 18 = .ok (.getfield 83, 3) := dk_180 0 83 (dk_at dksX1_law_0 18 rfl rfl)
theorem dX1_law_21 : decode cX1_law 21 = .ok (.aload_n 1, 1) := dk_43 (dk_at dksX1_law_0 21 rfl rfl)
theorem dX1_law_22 : decode cX1_law 22 = .ok (.invokevirtual 157, 3) := dk_182 0 157 (dk_at dksX1_law_1 0 rfl rfl)
theorem dX1_law_25 : decode cX1_law 25 = .ok (.istore_n 2, 1) := dk_61 (dk_at dksX1_law_1 3 rfl rfl)
theorem dX1_law_26 : decode cX1_law 26 = .ok (.aload_n 0, 1) := dk_42 (dk_at dksX1_law_1 4 rfl rfl)
theorem dX1_law_27 : decode cX1_law 27 = .ok (.getfield 70, 3) := dk_180 0 70 (dk_at dksX1_law_1 5 rfl rfl)
theorem dX1_law_30 : decode cX1_law 30 = .ok (.aload_n 1, 1) := dk_43 (dk_at dksX1_law_1 8 rfl rfl)
theorem dX1_law_31 : decode cX1_law 31 = .ok (.invokevirtual 161, 3) := dk_182 0 161 (dk_at dksX1_law_1 9 rfl rfl)
theorem dX1_law_34 : decode cX1_law 34 = .ok (.aload_n 0, 1) := dk_42 (dk_at dksX1_law_1 12 rfl rfl)
theorem dX1_law_35 : decode cX1_law 35 = .ok (.iconst 0, 1) := dk_3 (dk_at dksX1_law_1 13 rfl rfl)
theorem dX1_law_36 : decode cX1_law 36 = .ok (.putfield 165, 3) := dk_181 0 165 (dk_at dksX1_law_1 14 rfl rfl)
theorem dX1_law_39 : decode cX1_law 39 = .ok (.aload_n 0, 1) := dk_42 (dk_at dksX1_law_1 17 rfl rfl)
theorem dX1_law_40 : decode cX1_law 40 = .ok (.aconst_null, 1) := dk_1 (dk_at dksX1_law_1 18 rfl rfl)
theorem dX1_law_41 : decode cX1_law 41 = .ok (.putfield 168, 3) := dk_181 0 168 (dk_at dksX1_law_1 19 rfl rfl)
theorem dX1_law_44 : decode cX1_law 44 = .ok (.iload_n 2, 1) := dk_28 (dk_at dksX1_law_1 22 rfl rfl)
theorem dX1_law_45 : decode cX1_law 45 = .ok (.ireturn, 1) := dk_172 (dk_at dksX1_law_1 23 rfl rfl)
theorem dX1_law_46 : decode cX1_law 46 = .ok (.astore_n 2, 1) := dk_77 (dk_at dksX1_law_2 0 rfl rfl)
theorem dX1_law_47 : decode cX1_law 47 = .ok (.aload_n 0, 1) := dk_42 (dk_at dksX1_law_2 1 rfl rfl)
theorem dX1_law_48 : decode cX1_law 48 = .ok (.aload_n 2, 1) := dk_44 (dk_at dksX1_law_2 2 rfl rfl)
theorem dX1_law_49 : decode cX1_law 49 = .ok (.getfield 172, 3) := dk_180 0 172 (dk_at dksX1_law_2 3 rfl rfl)
theorem dX1_law_52 : decode cX1_law 52 = .ok (.putfield 151, 3) := dk_181 0 151 (dk_at dksX1_law_2 6 rfl rfl)
theorem dX1_law_55 : decode cX1_law 55 = .ok (.iconst (-1), 1) := dk_2 (dk_at dksX1_law_2 9 rfl rfl)
theorem dX1_law_56 : decode cX1_law 56 = .ok (.aload_n 2, 1) := dk_44 (dk_at dksX1_law_2 10 rfl rfl)
theorem dX1_law_57 : decode cX1_law 57 = .ok (.getfield 175, 3) := dk_180 0 175 (dk_at dksX1_law_2 11 rfl rfl)
theorem dX1_law_60 : decode cX1_law 60 = .ok (.isub, 1) := dk_100 (dk_at dksX1_law_2 14 rfl rfl)
theorem dX1_law_61 : decode cX1_law 61 = .ok (.ireturn, 1) := dk_172 (dk_at dksX1_law_2 15 rfl rfl)
abbrev cX1_taken : ByteArray := prog_1_method_5_code
def yX1_taken : MethodName := ⟨RX1, "taken", "()V"⟩
def dkwX1_taken_0 : List UInt8 := [42, 42, 180, 0, 135, 181, 0, 142, 42, 3, 181, 0, 135, 177]
abbrev dktX1_taken_0 : List UInt8 := dkwX1_taken_0 ++ []
theorem dksX1_taken_0 : cX1_taken.data.toList.drop 0 = dktX1_taken_0 := by decide +kernel
theorem dX1_taken_0 : decode cX1_taken 0 = .ok (.aload_n 0, 1) := dk_42 (dk_at dksX1_taken_0 0 rfl rfl)
theorem dX1_taken_1 : decode cX1_taken 1 = .ok (.aload_n 0, 1) := dk_42 (dk_at dksX1_taken_0 1 rfl rfl)
theorem dX1_taken_2 : decode cX1_taken 2 = .ok (.getfield 135, 3) := dk_180 0 135 (dk_at dksX1_taken_0 2 rfl rfl)
theorem dX1_taken_5 : decode cX1_taken 5 = .ok (.putfield 142, 3) := dk_181 0 142 (dk_at dksX1_taken_0 5 rfl rfl)
theorem dX1_taken_8 : decode cX1_taken 8 = .ok (.aload_n 0, 1) := dk_42 (dk_at dksX1_taken_0 8 rfl rfl)
theorem dX1_taken_9 : decode cX1_taken 9 = .ok (.iconst 0, 1) := dk_3 (dk_at dksX1_taken_0 9 rfl rfl)
theorem dX1_taken_10 : decode cX1_taken 10 = .ok (.putfield 135, 3) := dk_181 0 135 (dk_at dksX1_taken_0 10 rfl rfl)
theorem dX1_taken_13 : decode cX1_taken 13 = .ok (.return_, 1) := dk_177 (dk_at dksX1_taken_0 13 rfl rfl)
abbrev cX1_isIn : ByteArray := prog_1_method_7_code
def yX1_isIn : MethodName := ⟨RX1, "isIn", "(III)Z"⟩
def dkwX1_isIn_0 : List UInt8 := [26, 27, 161, 0, 12, 26, 28, 163, 0, 7, 4, 167, 0, 4, 3, 172]
abbrev dktX1_isIn_0 : List UInt8 := dkwX1_isIn_0 ++ []
theorem dksX1_isIn_0 : cX1_isIn.data.toList.drop 0 = dktX1_isIn_0 := by decide +kernel
theorem dX1_isIn_0 : decode cX1_isIn 0 = .ok (.iload_n 0, 1) := dk_26 (dk_at dksX1_isIn_0 0 rfl rfl)
theorem dX1_isIn_1 : decode cX1_isIn 1 = .ok (.iload_n 1, 1) := dk_27 (dk_at dksX1_isIn_0 1 rfl rfl)
theorem dX1_isIn_2 : decode cX1_isIn 2 = .ok (.if_icmp .lt 12, 3) := dk_161 0 12 (dk_at dksX1_isIn_0 2 rfl rfl)
theorem dX1_isIn_5 : decode cX1_isIn 5 = .ok (.iload_n 0, 1) := dk_26 (dk_at dksX1_isIn_0 5 rfl rfl)
theorem dX1_isIn_6 : decode cX1_isIn 6 = .ok (.iload_n 2, 1) := dk_28 (dk_at dksX1_isIn_0 6 rfl rfl)
theorem dX1_isIn_7 : decode cX1_isIn 7 = .ok (.if_icmp .gt 7, 3) := dk_163 0 7 (dk_at dksX1_isIn_0 7 rfl rfl)
theorem dX1_isIn_10 : decode cX1_isIn 10 = .ok (.iconst 1, 1) := dk_4 (dk_at dksX1_isIn_0 10 rfl rfl)
theorem dX1_isIn_11 : decode cX1_isIn 11 = .ok (.goto 4, 3) := dk_167 0 4 (dk_at dksX1_isIn_0 11 rfl rfl)
theorem dX1_isIn_14 : decode cX1_isIn 14 = .ok (.iconst 0, 1) := dk_3 (dk_at dksX1_isIn_0 14 rfl rfl)
theorem dX1_isIn_15 : decode cX1_isIn 15 = .ok (.ireturn, 1) := dk_172 (dk_at dksX1_isIn_0 15 rfl rfl)
abbrev cX1_has : ByteArray := prog_1_method_9_code
def yX1_has : MethodName := ⟨RX1, "has", "(II)Z"⟩
def dkwX1_has_0 : List UInt8 := [26, 27, 122, 4, 126, 4, 160, 0, 7, 4, 167, 0, 4, 3, 172]
abbrev dktX1_has_0 : List UInt8 := dkwX1_has_0 ++ []
theorem dksX1_has_0 : cX1_has.data.toList.drop 0 = dktX1_has_0 := by decide +kernel
theorem dX1_has_0 : decode cX1_has 0 = .ok (.iload_n 0, 1) := dk_26 (dk_at dksX1_has_0 0 rfl rfl)
theorem dX1_has_1 : decode cX1_has 1 = .ok (.iload_n 1, 1) := dk_27 (dk_at dksX1_has_0 1 rfl rfl)
theorem dX1_has_2 : decode cX1_has 2 = .ok (.ishr, 1) := dk_122 (dk_at dksX1_has_0 2 rfl rfl)
theorem dX1_has_3 : decode cX1_has 3 = .ok (.iconst 1, 1) := dk_4 (dk_at dksX1_has_0 3 rfl rfl)
theorem dX1_has_4 : decode cX1_has 4 = .ok (.iand, 1) := dk_126 (dk_at dksX1_has_0 4 rfl rfl)
theorem dX1_has_5 : decode cX1_has 5 = .ok (.iconst 1, 1) := dk_4 (dk_at dksX1_has_0 5 rfl rfl)
theorem dX1_has_6 : decode cX1_has 6 = .ok (.if_icmp .ne 7, 3) := dk_160 0 7 (dk_at dksX1_has_0 6 rfl rfl)
theorem dX1_has_9 : decode cX1_has 9 = .ok (.iconst 1, 1) := dk_4 (dk_at dksX1_has_0 9 rfl rfl)
theorem dX1_has_10 : decode cX1_has 10 = .ok (.goto 4, 3) := dk_167 0 4 (dk_at dksX1_has_0 10 rfl rfl)
theorem dX1_has_13 : decode cX1_has 13 = .ok (.iconst 0, 1) := dk_3 (dk_at dksX1_has_0 13 rfl rfl)
theorem dX1_has_14 : decode cX1_has 14 = .ok (.ireturn, 1) := dk_172 (dk_at dksX1_has_0 14 rfl rfl)
abbrev cX1_fault : ByteArray := prog_1_method_11_code
def yX1_fault : MethodName := ⟨RX1, "fault", "()I"⟩
theorem dX1_fault_0 : decode cX1_fault 0 = .ok (.aload_n 0, 1) := by decide +kernel
theorem dX1_fault_1 : decode cX1_fault 1 = .ok (.getfield 151, 3) := by decide +kernel
theorem dX1_fault_4 : decode cX1_fault 4 = .ok (.ireturn, 1) := by decide +kernel
abbrev cX1_undo : ByteArray := prog_1_method_13_code
def yX1_undo : MethodName := ⟨RX1, "undo", "()I"⟩
def dkwX1_undo_1 : List UInt8 := [180, 0, 74, 42, 180, 0, 165, 50, 182, 0, 178, 42, 180, 0, 165, 172]
abbrev dktX1_undo_1 : List UInt8 := dkwX1_undo_1 ++ []
def dkwX1_undo_0 : List UInt8 := [42, 180, 0, 165, 154, 0, 5, 2, 172, 42, 89, 180, 0, 165, 4, 100, 181, 0, 165, 42, 180, 0, 70, 42]
abbrev dktX1_undo_0 : List UInt8 := dkwX1_undo_0 ++ dktX1_undo_1
theorem dksX1_undo_0 : cX1_undo.data.toList.drop 0 = dktX1_undo_0 := by decide +kernel
theorem dksX1_undo_1 : cX1_undo.data.toList.drop 24 = dktX1_undo_1 := dk_seg dksX1_undo_0 24 rfl rfl
theorem dX1_undo_0 : decode cX1_undo 0 = .ok (.aload_n 0, 1) := dk_42 (dk_at dksX1_undo_0 0 rfl rfl)
theorem dX1_undo_1 : decode cX1_undo 1 = .ok (.getfield 165, 3) := dk_180 0 165 (dk_at dksX1_undo_0 1 rfl rfl)
theorem dX1_undo_4 : decode cX1_undo 4 = .ok (.ifCond .ne 5, 3) := dk_154 0 5 (dk_at dksX1_undo_0 4 rfl rfl)
theorem dX1_undo_7 : decode cX1_undo 7 = .ok (.iconst (-1), 1) := dk_2 (dk_at dksX1_undo_0 7 rfl rfl)
theorem dX1_undo_8 : decode cX1_undo 8 = .ok (.ireturn, 1) := dk_172 (dk_at dksX1_undo_0 8 rfl rfl)
theorem dX1_undo_9 : decode cX1_undo 9 = .ok (.aload_n 0, 1) := dk_42 (dk_at dksX1_undo_0 9 rfl rfl)
theorem dX1_undo_10 : decode cX1_undo 10 = .ok (.dup, 1) := dk_89 (dk_at dksX1_undo_0 10 rfl rfl)
theorem dX1_undo_11 : decode cX1_undo 11 = .ok (.getfield 165, 3) := dk_180 0 165 (dk_at dksX1_undo_0 11 rfl rfl)
theorem dX1_undo_14 : decode cX1_undo 14 = .ok (.iconst 1, 1) := dk_4 (dk_at dksX1_undo_0 14 rfl rfl)
theorem dX1_undo_15 : decode cX1_undo 15 = .ok (.isub, 1) := dk_100 (dk_at dksX1_undo_0 15 rfl rfl)
theorem dX1_undo_16 : decode cX1_undo 16 = .ok (.putfield 165, 3) := dk_181 0 165 (dk_at dksX1_undo_0 16 rfl rfl)
theorem dX1_undo_19 : decode cX1_undo 19 = .ok (.aload_n 0, 1) := dk_42 (dk_at dksX1_undo_0 19 rfl rfl)
theorem dX1_undo_20 : decode cX1_undo 20 = .ok (.getfield 70, 3) := dk_180 0 70 (dk_at dksX1_undo_0 20 rfl rfl)
theorem dX1_undo_23 : decode cX1_undo 23 = .ok (.aload_n 0, 1) := dk_42 (dk_at dksX1_undo_0 23 rfl rfl)
theorem dX1_undo_24 : decode cX1_undo 24 = .ok (.getfield 74, 3) := dk_180 0 74 (dk_at dksX1_undo_1 0 rfl rfl)
theorem dX1_undo_27 : decode cX1_undo 27 = .ok (.aload_n 0, 1) := dk_42 (dk_at dksX1_undo_1 3 rfl rfl)
theorem dX1_undo_28 : decode cX1_undo 28 = .ok (.getfield 165, 3) := dk_180 0 165 (dk_at dksX1_undo_1 4 rfl rfl)
theorem dX1_undo_31 : decode cX1_undo 31 = .ok (.aaload, 1) := dk_50 (dk_at dksX1_undo_1 7 rfl rfl)
theorem dX1_undo_32 : decode cX1_undo 32 = .ok (.invokevirtual 178, 3) := dk_182 0 178 (dk_at dksX1_undo_1 8 rfl rfl)
theorem dX1_undo_35 : decode cX1_undo 35 = .ok (.aload_n 0, 1) := dk_42 (dk_at dksX1_undo_1 11 rfl rfl)
theorem dX1_undo_36 : decode cX1_undo 36 = .ok (.getfield 165, 3) := dk_180 0 165 (dk_at dksX1_undo_1 12 rfl rfl)
theorem dX1_undo_39 : decode cX1_undo 39 = .ok (.ireturn, 1) := dk_172 (dk_at dksX1_undo_1 15 rfl rfl)
abbrev cX1_coin : ByteArray := prog_1_method_20_code
def yX1_coin : MethodName := ⟨RX1, "coin", "(III)I"⟩
def dkwX1_coin_7 : List UInt8 := [182, 1, 18, 21, 4, 172]
abbrev dktX1_coin_7 : List UInt8 := dkwX1_coin_7 ++ []
def dkwX1_coin_6 : List UInt8 := [180, 0, 70, 89, 180, 1, 15, 28, 96, 181, 1, 15, 42, 180, 0, 70, 21, 4, 27, 29, 2, 3]
abbrev dktX1_coin_6 : List UInt8 := dkwX1_coin_6 ++ dktX1_coin_7
def dkwX1_coin_5 : List UInt8 := [79, 42, 180, 0, 70, 180, 1, 11, 21, 4, 3, 79, 42, 180, 0, 70, 180, 1, 13, 21, 4, 3, 79, 42]
abbrev dktX1_coin_5 : List UInt8 := dkwX1_coin_5 ++ dktX1_coin_6
def dkwX1_coin_4 : List UInt8 := [181, 0, 206, 42, 180, 0, 70, 180, 0, 231, 21, 4, 28, 79, 42, 180, 0, 70, 180, 0, 228, 21, 4, 27]
abbrev dktX1_coin_4 : List UInt8 := dkwX1_coin_4 ++ dktX1_coin_5
def dkwX1_coin_3 : List UInt8 := [182, 1, 8, 42, 180, 0, 70, 180, 0, 206, 54, 4, 42, 180, 0, 70, 89, 180, 0, 206, 4, 96]
abbrev dktX1_coin_3 : List UInt8 := dkwX1_coin_3 ++ dktX1_coin_4
def dkwX1_coin_2 : List UInt8 := [17, 1, 244, 159, 0, 16, 42, 180, 0, 70, 28, 3, 29, 182, 1, 4, 158, 0, 5, 2, 172, 42]
abbrev dktX1_coin_2 : List UInt8 := dkwX1_coin_2 ++ dktX1_coin_3
def dkwX1_coin_1 : List UInt8 := [153, 0, 41, 42, 180, 0, 70, 180, 0, 206, 16, 40, 159, 0, 29, 42, 180, 0, 70, 180, 0, 251]
abbrev dktX1_coin_1 : List UInt8 := dkwX1_coin_1 ++ dktX1_coin_2
def dkwX1_coin_0 : List UInt8 := [42, 27, 182, 1, 1, 153, 0, 60, 28, 4, 17, 39, 15, 184, 0, 189, 153, 0, 49, 42, 29, 182, 0, 233]
abbrev dktX1_coin_0 : List UInt8 := dkwX1_coin_0 ++ dktX1_coin_1
theorem dksX1_coin_0 : cX1_coin.data.toList.drop 0 = dktX1_coin_0 := by decide +kernel
theorem dksX1_coin_1 : cX1_coin.data.toList.drop 24 = dktX1_coin_1 := dk_seg dksX1_coin_0 24 rfl rfl
theorem dksX1_coin_2 : cX1_coin.data.toList.drop 46 = dktX1_coin_2 := dk_seg dksX1_coin_1 22 rfl rfl
theorem dksX1_coin_3 : cX1_coin.data.toList.drop 68 = dktX1_coin_3 := dk_seg dksX1_coin_2 22 rfl rfl
theorem dksX1_coin_4 : cX1_coin.data.toList.drop 90 = dktX1_coin_4 := dk_seg dksX1_coin_3 22 rfl rfl
theorem dksX1_coin_5 : cX1_coin.data.toList.drop 114 = dktX1_coin_5 := dk_seg dksX1_coin_4 24 rfl rfl
theorem dksX1_coin_6 : cX1_coin.data.toList.drop 138 = dktX1_coin_6 := dk_seg dksX1_coin_5 24 rfl rfl
theorem dksX1_coin_7 : cX1_coin.data.toList.drop 160 = dktX1_coin_7 := dk_seg dksX1_coin_6 22 rfl rfl
theorem dX1_coin_0 : decode cX1_coin 0 = .ok (.aload_n 0, 1) := dk_42 (dk_at dksX1_coin_0 0 rfl rfl)
theorem dX1_coin_1 : decode cX1_coin 1 = .ok (.iload_n 1, 1) := dk_27 (dk_at dksX1_coin_0 1 rfl rfl)
theorem dX1_coin_2 : decode cX1_coin 2 = .ok (.invokevirtual 257, 3) := dk_182 1 1 (dk_at dksX1_coin_0 2 rfl rfl)
theorem dX1_coin_5 : decode cX1_coin 5 = .ok (.ifCond .eq 60, 3) := dk_153 0 60 (dk_at dksX1_coin_0 5 rfl rfl)
theorem dX1_coin_8 : decode cX1_coin 8 = .ok (.iload_n 2, 1) := dk_28 (dk_at dksX1_coin_0 8 rfl rfl)
theorem dX1_coin_9 : decode cX1_coin 9 = .ok (.iconst 1, 1) := dk_4 (dk_at dksX1_coin_0 9 rfl rfl)
theorem dX1_coin_10 : decode cX1_coin 10 = .ok (.sipush 9999, 3) := dk_17 39 15 (dk_at dksX1_coin_0 10 rfl rfl)
theorem dX1_coin_13 : decode cX1_coin 13 = .ok (.invokestatic 189, 3) := dk_184 0 189 (dk_at dksX1_coin_0 13 rfl rfl)
theorem dX1_coin_16 : decode cX1_coin 16 = .ok (.ifCond .eq 49, 3) := dk_153 0 49 (dk_at dksX1_coin_0 16 rfl rfl)
theorem dX1_coin_19 : decode cX1_coin 19 = .ok (.aload_n 0, 1) := dk_42 (dk_at dksX1_coin_0 19 rfl rfl)
theorem dX1_coin_20 : decode cX1_coin 20 = .ok (.iload_n 3, 1) := dk_29 (dk_at dksX1_coin_0 20 rfl rfl)
theorem dX1_coin_21 : decode cX1_coin 21 = .ok (.invokevirtual 233, 3) := dk_182 0 233 (dk_at dksX1_coin_0 21 rfl rfl)
theorem dX1_coin_24 : decode cX1_coin 24 = .ok (.ifCond .eq 41, 3) := dk_153 0 41 (dk_at dksX1_coin_1 0 rfl rfl)
theorem dX1_coin_27 : decode cX1_coin 27 = .ok (.aload_n 0, 1) := dk_42 (dk_at dksX1_coin_1 3 rfl rfl)
theorem dX1_coin_28 : decode cX1_coin 28 = .ok (.getfield 70, 3) := dk_180 0 70 (dk_at dksX1_coin_1 4 rfl rfl)
theorem dX1_coin_31 : decode cX1_coin 31 = .ok (.getfield 206, 3) := dk_180 0 206 (dk_at dksX1_coin_1 7 rfl rfl)
theorem dX1_coin_34 : decode cX1_coin 34 = .ok (.bipush 40, 2) := dk_16 40 (dk_at dksX1_coin_1 10 rfl rfl)
theorem dX1_coin_36 : decode cX1_coin 36 = .ok (.if_icmp .eq 29, 3) := dk_159 0 29 (dk_at dksX1_coin_1 12 rfl rfl)
theorem dX1_coin_39 : decode cX1_coin 39 = .ok (.aload_n 0, 1) := dk_42 (dk_at dksX1_coin_1 15 rfl rfl)
theorem dX1_coin_40 : decode cX1_coin 40 = .ok (.getfield 70, 3) := dk_180 0 70 (dk_at dksX1_coin_1 16 rfl rfl)
theorem dX1_coin_43 : decode cX1_coin 43 = .ok (.getfield 251, 3) := dk_180 0 251 (dk_at dksX1_coin_1 19 rfl rfl)
theorem dX1_coin_46 : decode cX1_coin 46 = .ok (.sipush 500, 3) := dk_17 1 244 (dk_at dksX1_coin_2 0 rfl rfl)
theorem dX1_coin_49 : decode cX1_coin 49 = .ok (.if_icmp .eq 16, 3) := dk_159 0 16 (dk_at dksX1_coin_2 3 rfl rfl)
theorem dX1_coin_52 : decode cX1_coin 52 = .ok (.aload_n 0, 1) := dk_42 (dk_at dksX1_coin_2 6 rfl rfl)
theorem dX1_coin_53 : decode cX1_coin 53 = .ok (.getfield 70, 3) := dk_180 0 70 (dk_at dksX1_coin_2 7 rfl rfl)
theorem dX1_coin_56 : decode cX1_coin 56 = .ok (.iload_n 2, 1) := dk_28 (dk_at dksX1_coin_2 10 rfl rfl)
theorem dX1_coin_57 : decode cX1_coin 57 = .ok (.iconst 0, 1) := dk_3 (dk_at dksX1_coin_2 11 rfl rfl)
theorem dX1_coin_58 : decode cX1_coin 58 = .ok (.iload_n 3, 1) := dk_29 (dk_at dksX1_coin_2 12 rfl rfl)
theorem dX1_coin_59 : decode cX1_coin 59 = .ok (.invokevirtual 260, 3) := dk_182 1 4 (dk_at dksX1_coin_2 13 rfl rfl)
theorem dX1_coin_62 : decode cX1_coin 62 = .ok (.ifCond .le 5, 3) := dk_158 0 5 (dk_at dksX1_coin_2 16 rfl rfl)
theorem dX1_coin_65 : decode cX1_coin 65 = .ok (.iconst (-1), 1) := dk_2 (dk_at dksX1_coin_2 19 rfl rfl)
theorem dX1_coin_66 : decode cX1_coin 66 = .ok (.ireturn, 1) := dk_172 (dk_at dksX1_coin_2 20 rfl rfl)
theorem dX1_coin_67 : decode cX1_coin 67 = .ok (.aload_n 0, 1) := dk_42 (dk_at dksX1_coin_2 21 rfl rfl)
theorem dX1_coin_68 : decode cX1_coin 68 = .ok (.invokevirtual 264, 3) := dk_182 1 8 (dk_at dksX1_coin_3 0 rfl rfl)
theorem dX1_coin_71 : decode cX1_coin 71 = .ok (.aload_n 0, 1) := dk_42 (dk_at dksX1_coin_3 3 rfl rfl)
theorem dX1_coin_72 : decode cX1_coin 72 = .ok (.getfield 70, 3) := dk_180 0 70 (dk_at dksX1_coin_3 4 rfl rfl)
theorem dX1_coin_75 : decode cX1_coin 75 = .ok (.getfield 206, 3) := dk_180 0 206 (dk_at dksX1_coin_3 7 rfl rfl)
theorem dX1_coin_78 : decode cX1_coin 78 = .ok (.istore 4, 2) := dk_54 4 (dk_at dksX1_coin_3 10 rfl rfl)
theorem dX1_coin_80 : decode cX1_coin 80 = .ok (.aload_n 0, 1) := dk_42 (dk_at dksX1_coin_3 12 rfl rfl)
theorem dX1_coin_81 : decode cX1_coin 81 = .ok (.getfield 70, 3) := dk_180 0 70 (dk_at dksX1_coin_3 13 rfl rfl)
theorem dX1_coin_84 : decode cX1_coin 84 = .ok (.dup, 1) := dk_89 (dk_at dksX1_coin_3 16 rfl rfl)
theorem dX1_coin_85 : decode cX1_coin 85 = .ok (.getfield 206, 3) := dk_180 0 206 (dk_at dksX1_coin_3 17 rfl rfl)
theorem dX1_coin_88 : decode cX1_coin 88 = .ok (.iconst 1, 1) := dk_4 (dk_at dksX1_coin_3 20 rfl rfl)
theorem dX1_coin_89 : decode cX1_coin 89 = .ok (.iadd, 1) := dk_96 (dk_at dksX1_coin_3 21 rfl rfl)
theorem dX1_coin_90 : decode cX1_coin 90 = .ok (.putfield 206, 3) := dk_181 0 206 (dk_at dksX1_coin_4 0 rfl rfl)
theorem dX1_coin_93 : decode cX1_coin 93 = .ok (.aload_n 0, 1) := dk_42 (dk_at dksX1_coin_4 3 rfl rfl)
theorem dX1_coin_94 : decode cX1_coin 94 = .ok (.getfield 70, 3) := dk_180 0 70 (dk_at dksX1_coin_4 4 rfl rfl)
theorem dX1_coin_97 : decode cX1_coin 97 = .ok (.getfield 231, 3) := dk_180 0 231 (dk_at dksX1_coin_4 7 rfl rfl)
theorem dX1_coin_100 : decode cX1_coin 100 = .ok (.iload 4, 2) := dk_21 4 (dk_at dksX1_coin_4 10 rfl rfl)
theorem dX1_coin_102 : decode cX1_coin 102 = .ok (.iload_n 2, 1) := dk_28 (dk_at dksX1_coin_4 12 rfl rfl)
theorem dX1_coin_103 : decode cX1_coin 103 = .ok (.iastore, 1) := dk_79 (dk_at dksX1_coin_4 13 rfl rfl)
theorem dX1_coin_104 : decode cX1_coin 104 = .ok (.aload_n 0, 1) := dk_42 (dk_at dksX1_coin_4 14 rfl rfl)
theorem dX1_coin_105 : decode cX1_coin 105 = .ok (.getfield 70, 3) := dk_180 0 70 (dk_at dksX1_coin_4 15 rfl rfl)
theorem dX1_coin_108 : decode cX1_coin 108 = .ok (.getfield 228, 3) := dk_180 0 228 (dk_at dksX1_coin_4 18 rfl rfl)
theorem dX1_coin_111 : decode cX1_coin 111 = .ok (.iload 4, 2) := dk_21 4 (dk_at dksX1_coin_4 21 rfl rfl)
theorem dX1_coin_113 : decode cX1_coin 113 = .ok (.iload_n 1, 1) := dk_27 (dk_at dksX1_coin_4 23 rfl rfl)
theorem dX1_coin_114 : decode cX1_coin 114 = .ok (.iastore, 1) := dk_79 (dk_at dksX1_coin_5 0 rfl rfl)
theorem dX1_coin_115 : decode cX1_coin 115 = .ok (.aload_n 0, 1) := dk_42 (dk_at dksX1_coin_5 1 rfl rfl)
theorem dX1_coin_116 : decode cX1_coin 116 = .ok (.getfield 70, 3) := dk_180 0 70 (dk_at dksX1_coin_5 2 rfl rfl)
theorem dX1_coin_119 : decode cX1_coin 119 = .ok (.getfield 267, 3) := dk_180 1 11 (dk_at dksX1_coin_5 5 rfl rfl)
theorem dX1_coin_122 : decode cX1_coin 122 = .ok (.iload 4, 2) := dk_21 4 (dk_at dksX1_coin_5 8 rfl rfl)
theorem dX1_coin_124 : decode cX1_coin 124 = .ok (.iconst 0, 1) := dk_3 (dk_at dksX1_coin_5 10 rfl rfl)
theorem dX1_coin_125 : decode cX1_coin 125 = .ok (.iastore, 1) := dk_79 (dk_at dksX1_coin_5 11 rfl rfl)
theorem dX1_coin_126 : decode cX1_coin 126 = .ok (.aload_n 0, 1) := dk_42 (dk_at dksX1_coin_5 12 rfl rfl)
theorem dX1_coin_127 : decode cX1_coin 127 = .ok (.getfield 70, 3) := dk_180 0 70 (dk_at dksX1_coin_5 13 rfl rfl)
theorem dX1_coin_130 : decode cX1_coin 130 = .ok (.getfield 269, 3) := dk_180 1 13 (dk_at dksX1_coin_5 16 rfl rfl)
theorem dX1_coin_133 : decode cX1_coin 133 = .ok (.iload 4, 2) := dk_21 4 (dk_at dksX1_coin_5 19 rfl rfl)
theorem dX1_coin_135 : decode cX1_coin 135 = .ok (.iconst 0, 1) := dk_3 (dk_at dksX1_coin_5 21 rfl rfl)
theorem dX1_coin_136 : decode cX1_coin 136 = .ok (.iastore, 1) := dk_79 (dk_at dksX1_coin_5 22 rfl rfl)
theorem dX1_coin_137 : decode cX1_coin 137 = .ok (.aload_n 0, 1) := dk_42 (dk_at dksX1_coin_5 23 rfl rfl)
theorem dX1_coin_138 : decode cX1_coin 138 = .ok (.getfield 70, 3) := dk_180 0 70 (dk_at dksX1_coin_6 0 rfl rfl)
theorem dX1_coin_141 : decode cX1_coin 141 = .ok (.dup, 1) := dk_89 (dk_at dksX1_coin_6 3 rfl rfl)
theorem dX1_coin_142 : decode cX1_coin 142 = .ok (.getfield 271, 3) := dk_180 1 15 (dk_at dksX1_coin_6 4 rfl rfl)
theorem dX1_coin_145 : decode cX1_coin 145 = .ok (.iload_n 2, 1) := dk_28 (dk_at dksX1_coin_6 7 rfl rfl)
theorem dX1_coin_146 : decode cX1_coin 146 = .ok (.iadd, 1) := dk_96 (dk_at dksX1_coin_6 8 rfl rfl)
theorem dX1_coin_147 : decode cX1_coin 147 = .ok (.putfield 271, 3) := dk_181 1 15 (dk_at dksX1_coin_6 9 rfl rfl)
theorem dX1_coin_150 : decode cX1_coin 150 = .ok (.aload_n 0, 1) := dk_42 (dk_at dksX1_coin_6 12 rfl rfl)
theorem dX1_coin_151 : decode cX1_coin 151 = .ok (.getfield 70, 3) := dk_180 0 70 (dk_at dksX1_coin_6 13 rfl rfl)
theorem dX1_coin_154 : decode cX1_coin 154 = .ok (.iload 4, 2) := dk_21 4 (dk_at dksX1_coin_6 16 rfl rfl)
theorem dX1_coin_156 : decode cX1_coin 156 = .ok (.iload_n 1, 1) := dk_27 (dk_at dksX1_coin_6 18 rfl rfl)
theorem dX1_coin_157 : decode cX1_coin 157 = .ok (.iload_n 3, 1) := dk_29 (dk_at dksX1_coin_6 19 rfl rfl)
theorem dX1_coin_158 : decode cX1_coin 158 = .ok (.iconst (-1), 1) := dk_2 (dk_at dksX1_coin_6 20 rfl rfl)
theorem dX1_coin_159 : decode cX1_coin 159 = .ok (.iconst 0, 1) := dk_3 (dk_at dksX1_coin_6 21 rfl rfl)
theorem dX1_coin_160 : decode cX1_coin 160 = .ok (.invokevirtual 274, 3) := dk_182 1 18 (dk_at dksX1_coin_7 0 rfl rfl)
theorem dX1_coin_163 : decode cX1_coin 163 = .ok (.iload 4, 2) := dk_21 4 (dk_at dksX1_coin_7 3 rfl rfl)
theorem dX1_coin_165 : decode cX1_coin 165 = .ok (.ireturn, 1) := dk_172 (dk_at dksX1_coin_7 5 rfl rfl)
abbrev cX1_isLiving : ByteArray := prog_1_method_15_code
def yX1_isLiving : MethodName := ⟨RX1, "isLiving", "(I)Z"⟩
def dkwX1_isLiving_1 : List UInt8 := [167, 0, 4, 3, 172]
abbrev dktX1_isLiving_1 : List UInt8 := dkwX1_isLiving_1 ++ []
def dkwX1_isLiving_0 : List UInt8 := [42, 27, 182, 0, 193, 153, 0, 21, 42, 180, 0, 70, 180, 0, 197, 27, 184, 0, 199, 154, 0, 7, 4]
abbrev dktX1_isLiving_0 : List UInt8 := dkwX1_isLiving_0 ++ dktX1_isLiving_1
theorem dksX1_isLiving_0 : cX1_isLiving.data.toList.drop 0 = dktX1_isLiving_0 := by decide +kernel
theorem dksX1_isLiving_1 : cX1_isLiving.data.toList.drop 23 = dktX1_isLiving_1 := dk_seg dksX1_isLiving_0 23 rfl rfl
theorem dX1_isLiving_0 : decode cX1_isLiving 0 = .ok (.aload_n 0, 1) := dk_42 (dk_at dksX1_isLiving_0 0 rfl rfl)
theorem dX1_isLiving_1 : decode cX1_isLiving 1 = .ok (.iload_n 1, 1) := dk_27 (dk_at dksX1_isLiving_0 1 rfl rfl)
theorem dX1_isLiving_2 : decode cX1_isLiving 2 = .ok (.invokevirtual 193, 3) := dk_182 0 193 (dk_at dksX1_isLiving_0 2 rfl rfl)
theorem dX1_isLiving_5 : decode cX1_isLiving 5 = .ok (.ifCond .eq 21, 3) := dk_153 0 21 (dk_at dksX1_isLiving_0 5 rfl rfl)
theorem dX1_isLiving_8 : decode cX1_isLiving 8 = .ok (.aload_n 0, 1) := dk_42 (dk_at dksX1_isLiving_0 8 rfl rfl)
theorem dX1_isLiving_9 : decode cX1_isLiving 9 = .ok (.getfield 70, 3) := dk_180 0 70 (dk_at dksX1_isLiving_0 9 rfl rfl)
theorem dX1_isLiving_12 : decode cX1_isLiving 12 = .ok (.getfield 197, 3) := dk_180 0 197 (dk_at dksX1_isLiving_0 12 rfl rfl)
theorem dX1_isLiving_15 : decode cX1_isLiving 15 = .ok (.iload_n 1, 1) := dk_27 (dk_at dksX1_isLiving_0 15 rfl rfl)
theorem dX1_isLiving_16 : decode cX1_isLiving 16 = .ok (.invokestatic 199, 3) := dk_184 0 199 (dk_at dksX1_isLiving_0 16 rfl rfl)
theorem dX1_isLiving_19 : decode cX1_isLiving 19 = .ok (.ifCond .ne 7, 3) := dk_154 0 7 (dk_at dksX1_isLiving_0 19 rfl rfl)
theorem dX1_isLiving_22 : decode cX1_isLiving 22 = .ok (.iconst 1, 1) := dk_4 (dk_at dksX1_isLiving_0 22 rfl rfl)
theorem dX1_isLiving_23 : decode cX1_isLiving 23 = .ok (.goto 4, 3) := dk_167 0 4 (dk_at dksX1_isLiving_1 0 rfl rfl)
theorem dX1_isLiving_26 : decode cX1_isLiving 26 = .ok (.iconst 0, 1) := dk_3 (dk_at dksX1_isLiving_1 3 rfl rfl)
theorem dX1_isLiving_27 : decode cX1_isLiving 27 = .ok (.ireturn, 1) := dk_172 (dk_at dksX1_isLiving_1 4 rfl rfl)
abbrev cX1_isWho : ByteArray := prog_1_method_14_code
def yX1_isWho : MethodName := ⟨RX1, "isWho", "(I)Z"⟩
def dkwX1_isWho_0 : List UInt8 := [27, 3, 42, 180, 0, 70, 180, 0, 182, 180, 0, 186, 4, 100, 184, 0, 189, 172]
abbrev dktX1_isWho_0 : List UInt8 := dkwX1_isWho_0 ++ []
theorem dksX1_isWho_0 : cX1_isWho.data.toList.drop 0 = dktX1_isWho_0 := by decide +kernel
theorem dX1_isWho_0 : decode cX1_isWho 0 = .ok (.iload_n 1, 1) := dk_27 (dk_at dksX1_isWho_0 0 rfl rfl)
theorem dX1_isWho_1 : decode cX1_isWho 1 = .ok (.iconst 0, 1) := dk_3 (dk_at dksX1_isWho_0 1 rfl rfl)
theorem dX1_isWho_2 : decode cX1_isWho 2 = .ok (.aload_n 0, 1) := dk_42 (dk_at dksX1_isWho_0 2 rfl rfl)
theorem dX1_isWho_3 : decode cX1_isWho 3 = .ok (.getfield 70, 3) := dk_180 0 70 (dk_at dksX1_isWho_0 3 rfl rfl)
theorem dX1_isWho_6 : decode cX1_isWho 6 = .ok (.getfield 182, 3) := dk_180 0 182 (dk_at dksX1_isWho_0 6 rfl rfl)
theorem dX1_isWho_9 : decode cX1_isWho 9 = .ok (.getfield 186, 3) := dk_180 0 186 (dk_at dksX1_isWho_0 9 rfl rfl)
theorem dX1_isWho_12 : decode cX1_isWho 12 = .ok (.iconst 1, 1) := dk_4 (dk_at dksX1_isWho_0 12 rfl rfl)
theorem dX1_isWho_13 : decode cX1_isWho 13 = .ok (.isub, 1) := dk_100 (dk_at dksX1_isWho_0 13 rfl rfl)
theorem dX1_isWho_14 : decode cX1_isWho 14 = .ok (.invokestatic 189, 3) := dk_184 0 189 (dk_at dksX1_isWho_0 14 rfl rfl)
theorem dX1_isWho_17 : decode cX1_isWho 17 = .ok (.ireturn, 1) := dk_172 (dk_at dksX1_isWho_0 17 rfl rfl)
abbrev cX1_isMint : ByteArray := prog_1_method_16_code
def yX1_isMint : MethodName := ⟨RX1, "isMint", "(I)Z"⟩
def dkwX1_isMint_0 : List UInt8 := [27, 3, 42, 180, 0, 70, 180, 0, 182, 180, 0, 203, 4, 100, 184, 0, 189, 172]
abbrev dktX1_isMint_0 : List UInt8 := dkwX1_isMint_0 ++ []
theorem dksX1_isMint_0 : cX1_isMint.data.toList.drop 0 = dktX1_isMint_0 := by decide +kernel
theorem dX1_isMint_0 : decode cX1_isMint 0 = .ok (.iload_n 1, 1) := dk_27 (dk_at dksX1_isMint_0 0 rfl rfl)
theorem dX1_isMint_1 : decode cX1_isMint 1 = .ok (.iconst 0, 1) := dk_3 (dk_at dksX1_isMint_0 1 rfl rfl)
theorem dX1_isMint_2 : decode cX1_isMint 2 = .ok (.aload_n 0, 1) := dk_42 (dk_at dksX1_isMint_0 2 rfl rfl)
theorem dX1_isMint_3 : decode cX1_isMint 3 = .ok (.getfield 70, 3) := dk_180 0 70 (dk_at dksX1_isMint_0 3 rfl rfl)
theorem dX1_isMint_6 : decode cX1_isMint 6 = .ok (.getfield 182, 3) := dk_180 0 182 (dk_at dksX1_isMint_0 6 rfl rfl)
theorem dX1_isMint_9 : decode cX1_isMint 9 = .ok (.getfield 203, 3) := dk_180 0 203 (dk_at dksX1_isMint_0 9 rfl rfl)
theorem dX1_isMint_12 : decode cX1_isMint 12 = .ok (.iconst 1, 1) := dk_4 (dk_at dksX1_isMint_0 12 rfl rfl)
theorem dX1_isMint_13 : decode cX1_isMint 13 = .ok (.isub, 1) := dk_100 (dk_at dksX1_isMint_0 13 rfl rfl)
theorem dX1_isMint_14 : decode cX1_isMint 14 = .ok (.invokestatic 189, 3) := dk_184 0 189 (dk_at dksX1_isMint_0 14 rfl rfl)
theorem dX1_isMint_17 : decode cX1_isMint 17 = .ok (.ireturn, 1) := dk_172 (dk_at dksX1_isMint_0 17 rfl rfl)
abbrev cX1_keep : ByteArray := prog_1_method_12_code
def yX1_keep : MethodName := ⟨RX1, "keep", "()V"⟩
def dkwX1_keep_4 : List UInt8 := [180, 0, 165, 50, 42, 180, 0, 70, 182, 0, 178, 42, 89, 180, 0, 165, 4, 96, 181, 0, 165, 177]
abbrev dktX1_keep_4 : List UInt8 := dkwX1_keep_4 ++ []
def dkwX1_keep_3 : List UInt8 := [199, 0, 19, 42, 180, 0, 74, 42, 180, 0, 165, 187, 0, 67, 89, 183, 0, 69, 83, 42, 180, 0, 74, 42]
abbrev dktX1_keep_3 : List UInt8 := dkwX1_keep_3 ++ dktX1_keep_4
def dkwX1_keep_2 : List UInt8 := [8, 43, 83, 42, 89, 180, 0, 165, 4, 100, 181, 0, 165, 42, 180, 0, 74, 42, 180, 0, 165, 50]
abbrev dktX1_keep_2 : List UInt8 := dkwX1_keep_2 ++ dktX1_keep_3
def dkwX1_keep_1 : List UInt8 := [42, 180, 0, 74, 28, 4, 100, 42, 180, 0, 74, 28, 50, 83, 132, 2, 1, 167, 255, 233, 42, 180, 0, 74]
abbrev dktX1_keep_1 : List UInt8 := dkwX1_keep_1 ++ dktX1_keep_2
def dkwX1_keep_0 : List UInt8 := [42, 180, 0, 165, 16, 6, 160, 0, 55, 42, 180, 0, 74, 3, 50, 76, 4, 61, 28, 16, 6, 162, 0, 23]
abbrev dktX1_keep_0 : List UInt8 := dkwX1_keep_0 ++ dktX1_keep_1
theorem dksX1_keep_0 : cX1_keep.data.toList.drop 0 = dktX1_keep_0 := by decide +kernel
theorem dksX1_keep_1 : cX1_keep.data.toList.drop 24 = dktX1_keep_1 := dk_seg dksX1_keep_0 24 rfl rfl
theorem dksX1_keep_2 : cX1_keep.data.toList.drop 48 = dktX1_keep_2 := dk_seg dksX1_keep_1 24 rfl rfl
theorem dksX1_keep_3 : cX1_keep.data.toList.drop 70 = dktX1_keep_3 := dk_seg dksX1_keep_2 22 rfl rfl
theorem dksX1_keep_4 : cX1_keep.data.toList.drop 94 = dktX1_keep_4 := dk_seg dksX1_keep_3 24 rfl rfl
theorem dX1_keep_0 : decode cX1_keep 0 = .ok (.aload_n 0, 1) := dk_42 (dk_at dksX1_keep_0 0 rfl rfl)
theorem dX1_keep_1 : decode cX1_keep 1 = .ok (.getfield 165, 3) := dk_180 0 165 (dk_at dksX1_keep_0 1 rfl rfl)
theorem dX1_keep_4 : decode cX1_keep 4 = .ok (.bipush 6, 2) := dk_16 6 (dk_at dksX1_keep_0 4 rfl rfl)
theorem dX1_keep_6 : decode cX1_keep 6 = .ok (.if_icmp .ne 55, 3) := dk_160 0 55 (dk_at dksX1_keep_0 6 rfl rfl)
theorem dX1_keep_9 : decode cX1_keep 9 = .ok (.aload_n 0, 1) := dk_42 (dk_at dksX1_keep_0 9 rfl rfl)
theorem dX1_keep_10 : decode cX1_keep 10 = .ok (.getfield 74, 3) := dk_180 0 74 (dk_at dksX1_keep_0 10 rfl rfl)
theorem dX1_keep_13 : decode cX1_keep 13 = .ok (.iconst 0, 1) := dk_3 (dk_at dksX1_keep_0 13 rfl rfl)
theorem dX1_keep_14 : decode cX1_keep 14 = .ok (.aaload, 1) := dk_50 (dk_at dksX1_keep_0 14 rfl rfl)
theorem dX1_keep_15 : decode cX1_keep 15 = .ok (.astore_n 1, 1) := dk_76 (dk_at dksX1_keep_0 15 rfl rfl)
theorem dX1_keep_16 : decode cX1_keep 16 = .ok (.iconst 1, 1) := dk_4 (dk_at dksX1_keep_0 16 rfl rfl)
theorem dX1_keep_17 : decode cX1_keep 17 = .ok (.istore_n 2, 1) := dk_61 (dk_at dksX1_keep_0 17 rfl rfl)
theorem dX1_keep_18 : decode cX1_keep 18 = .ok (.iload_n 2, 1) := dk_28 (dk_at dksX1_keep_0 18 rfl rfl)
theorem dX1_keep_19 : decode cX1_keep 19 = .ok (.bipush 6, 2) := dk_16 6 (dk_at dksX1_keep_0 19 rfl rfl)
theorem dX1_keep_21 : decode cX1_keep 21 = .ok (.if_icmp .ge 23, 3) := dk_162 0 23 (dk_at dksX1_keep_0 21 rfl rfl)
theorem dX1_keep_24 : decode cX1_keep 24 = .ok (.aload_n 0, 1) := dk_42 (dk_at dksX1_keep_1 0 rfl rfl)
theorem dX1_keep_25 : decode cX1_keep 25 = .ok (.getfield 74, 3) := dk_180 0 74 (dk_at dksX1_keep_1 1 rfl rfl)
theorem dX1_keep_28 : decode cX1_keep 28 = .ok (.iload_n 2, 1) := dk_28 (dk_at dksX1_keep_1 4 rfl rfl)
theorem dX1_keep_29 : decode cX1_keep 29 = .ok (.iconst 1, 1) := dk_4 (dk_at dksX1_keep_1 5 rfl rfl)
theorem dX1_keep_30 : decode cX1_keep 30 = .ok (.isub, 1) := dk_100 (dk_at dksX1_keep_1 6 rfl rfl)
theorem dX1_keep_31 : decode cX1_keep 31 = .ok (.aload_n 0, 1) := dk_42 (dk_at dksX1_keep_1 7 rfl rfl)
theorem dX1_keep_32 : decode cX1_keep 32 = .ok (.getfield 74, 3) := dk_180 0 74 (dk_at dksX1_keep_1 8 rfl rfl)
theorem dX1_keep_35 : decode cX1_keep 35 = .ok (.iload_n 2, 1) := dk_28 (dk_at dksX1_keep_1 11 rfl rfl)
theorem dX1_keep_36 : decode cX1_keep 36 = .ok (.aaload, 1) := dk_50 (dk_at dksX1_keep_1 12 rfl rfl)
theorem dX1_keep_37 : decode cX1_keep 37 = .ok (.aastore, 1) := dk_83 (dk_at dksX1_keep_1 13 rfl rfl)
theorem dX1_keep_38 : decode cX1_keep 38 = .ok (.iinc 2 1, 3) := dk_132 2 1 (dk_at dksX1_keep_1 14 rfl rfl)
theorem dX1_keep_41 : decode cX1_keep 41 = .ok (.goto (-23), 3) := dk_167 255 233 (dk_at dksX1_keep_1 17 rfl rfl)
theorem dX1_keep_44 : decode cX1_keep 44 = .ok (.aload_n 0, 1) := dk_42 (dk_at dksX1_keep_1 20 rfl rfl)
theorem dX1_keep_45 : decode cX1_keep 45 = .ok (.getfield 74, 3) := dk_180 0 74 (dk_at dksX1_keep_1 21 rfl rfl)
theorem dX1_keep_48 : decode cX1_keep 48 = .ok (.iconst 5, 1) := dk_8 (dk_at dksX1_keep_2 0 rfl rfl)
theorem dX1_keep_49 : decode cX1_keep 49 = .ok (.aload_n 1, 1) := dk_43 (dk_at dksX1_keep_2 1 rfl rfl)
theorem dX1_keep_50 : decode cX1_keep 50 = .ok (.aastore, 1) := dk_83 (dk_at dksX1_keep_2 2 rfl rfl)
theorem dX1_keep_51 : decode cX1_keep 51 = .ok (.aload_n 0, 1) := dk_42 (dk_at dksX1_keep_2 3 rfl rfl)
theorem dX1_keep_52 : decode cX1_keep 52 = .ok (.dup, 1) := dk_89 (dk_at dksX1_keep_2 4 rfl rfl)
theorem dX1_keep_53 : decode cX1_keep 53 = .ok (.getfield 165, 3) := dk_180 0 165 (dk_at dksX1_keep_2 5 rfl rfl)
theorem dX1_keep_56 : decode cX1_keep 56 = .ok (.iconst 1, 1) := dk_4 (dk_at dksX1_keep_2 8 rfl rfl)
theorem dX1_keep_57 : decode cX1_keep 57 = .ok (.isub, 1) := dk_100 (dk_at dksX1_keep_2 9 rfl rfl)
theorem dX1_keep_58 : decode cX1_keep 58 = .ok (.putfield 165, 3) := dk_181 0 165 (dk_at dksX1_keep_2 10 rfl rfl)
theorem dX1_keep_61 : decode cX1_keep 61 = .ok (.aload_n 0, 1) := dk_42 (dk_at dksX1_keep_2 13 rfl rfl)
theorem dX1_keep_62 : decode cX1_keep 62 = .ok (.getfield 74, 3) := dk_180 0 74 (dk_at dksX1_keep_2 14 rfl rfl)
theorem dX1_keep_65 : decode cX1_keep 65 = .ok (.aload_n 0, 1) := dk_42 (dk_at dksX1_keep_2 17 rfl rfl)
theorem dX1_keep_66 : decode cX1_keep 66 = .ok (.getfield 165, 3) := dk_180 0 165 (dk_at dksX1_keep_2 18 rfl rfl)
theorem dX1_keep_69 : decode cX1_keep 69 = .ok (.aaload, 1) := dk_50 (dk_at dksX1_keep_2 21 rfl rfl)
theorem dX1_keep_70 : decode cX1_keep 70 = .ok (.ifnonnull 19, 3) := dk_199 0 19 (dk_at dksX1_keep_3 0 rfl rfl)
theorem dX1_keep_73 : decode cX1_keep 73 = .ok (.aload_n 0, 1) := dk_42 (dk_at dksX1_keep_3 3 rfl rfl)
theorem dX1_keep_74 : decode cX1_keep 74 = .ok (.getfield 74, 3) := dk_180 0 74 (dk_at dksX1_keep_3 4 rfl rfl)
theorem dX1_keep_77 : decode cX1_keep 77 = .ok (.aload_n 0, 1) := dk_42 (dk_at dksX1_keep_3 7 rfl rfl)
theorem dX1_keep_78 : decode cX1_keep 78 = .ok (.getfield 165, 3) := dk_180 0 165 (dk_at dksX1_keep_3 8 rfl rfl)
theorem dX1_keep_81 : decode cX1_keep 81 = .ok (.new 67, 3) := dk_187 0 67 (dk_at dksX1_keep_3 11 rfl rfl)
theorem dX1_keep_84 : decode cX1_keep 84 = .ok (.dup, 1) := dk_89 (dk_at dksX1_keep_3 14 rfl rfl)
theorem dX1_keep_85 : decode cX1_keep 85 = .ok (.invokespecial 69, 3) := dk_183 0 69 (dk_at dksX1_keep_3 15 rfl rfl)
theorem dX1_keep_88 : decode cX1_keep 88 = .ok (.aastore, 1) := dk_83 (dk_at dksX1_keep_3 18 rfl rfl)
theorem dX1_keep_89 : decode cX1_keep 89 = .ok (.aload_n 0, 1) := dk_42 (dk_at dksX1_keep_3 19 rfl rfl)
theorem dX1_keep_90 : decode cX1_keep 90 = .ok (.getfield 74, 3) := dk_180 0 74 (dk_at dksX1_keep_3 20 rfl rfl)
theorem dX1_keep_93 : decode cX1_keep 93 = .ok (.aload_n 0, 1) := dk_42 (dk_at dksX1_keep_3 23 rfl rfl)
theorem dX1_keep_94 : decode cX1_keep 94 = .ok (.getfield 165, 3) := dk_180 0 165 (dk_at dksX1_keep_4 0 rfl rfl)
theorem dX1_keep_97 : decode cX1_keep 97 = .ok (.aaload, 1) := dk_50 (dk_at dksX1_keep_4 3 rfl rfl)
theorem dX1_keep_98 : decode cX1_keep 98 = .ok (.aload_n 0, 1) := dk_42 (dk_at dksX1_keep_4 4 rfl rfl)
theorem dX1_keep_99 : decode cX1_keep 99 = .ok (.getfield 70, 3) := dk_180 0 70 (dk_at dksX1_keep_4 5 rfl rfl)
theorem dX1_keep_102 : decode cX1_keep 102 = .ok (.invokevirtual 178, 3) := dk_182 0 178 (dk_at dksX1_keep_4 8 rfl rfl)
theorem dX1_keep_105 : decode cX1_keep 105 = .ok (.aload_n 0, 1) := dk_42 (dk_at dksX1_keep_4 11 rfl rfl)
theorem dX1_keep_106 : decode cX1_keep 106 = .ok (.dup, 1) := dk_89 (dk_at dksX1_keep_4 12 rfl rfl)
theorem dX1_keep_107 : decode cX1_keep 107 = .ok (.getfield 165, 3) := dk_180 0 165 (dk_at dksX1_keep_4 13 rfl rfl)
theorem dX1_keep_110 : decode cX1_keep 110 = .ok (.iconst 1, 1) := dk_4 (dk_at dksX1_keep_4 16 rfl rfl)
theorem dX1_keep_111 : decode cX1_keep 111 = .ok (.iadd, 1) := dk_96 (dk_at dksX1_keep_4 17 rfl rfl)
theorem dX1_keep_112 : decode cX1_keep 112 = .ok (.putfield 165, 3) := dk_181 0 165 (dk_at dksX1_keep_4 18 rfl rfl)
theorem dX1_keep_115 : decode cX1_keep 115 = .ok (.return_, 1) := dk_177 (dk_at dksX1_keep_4 21 rfl rfl)
abbrev cX1_face : ByteArray := prog_1_method_22_code
def yX1_face : MethodName := ⟨RX1, "face", "(III)I"⟩
def dkwX1_face_3 : List UInt8 := [180, 0, 70, 180, 1, 30, 21, 4, 46, 167, 0, 13, 42, 180, 0, 70, 180, 1, 33, 21, 4, 46, 172]
abbrev dktX1_face_3 : List UInt8 := dkwX1_face_3 ++ []
def dkwX1_face_2 : List UInt8 := [154, 0, 16, 42, 180, 0, 70, 180, 1, 28, 21, 4, 46, 167, 0, 31, 29, 4, 160, 0, 16, 42]
abbrev dktX1_face_2 : List UInt8 := dkwX1_face_2 ++ dktX1_face_3
def dkwX1_face_1 : List UInt8 := [153, 0, 12, 29, 3, 5, 184, 0, 189, 154, 0, 5, 2, 172, 16, 9, 27, 104, 28, 96, 54, 4, 29]
abbrev dktX1_face_1 : List UInt8 := dkwX1_face_1 ++ dktX1_face_2
def dkwX1_face_0 : List UInt8 := [42, 27, 182, 1, 22, 153, 0, 31, 28, 3, 42, 180, 0, 70, 180, 1, 13, 27, 46, 4, 100, 184, 0, 189]
abbrev dktX1_face_0 : List UInt8 := dkwX1_face_0 ++ dktX1_face_1
theorem dksX1_face_0 : cX1_face.data.toList.drop 0 = dktX1_face_0 := by decide +kernel
theorem dksX1_face_1 : cX1_face.data.toList.drop 24 = dktX1_face_1 := dk_seg dksX1_face_0 24 rfl rfl
theorem dksX1_face_2 : cX1_face.data.toList.drop 47 = dktX1_face_2 := dk_seg dksX1_face_1 23 rfl rfl
theorem dksX1_face_3 : cX1_face.data.toList.drop 69 = dktX1_face_3 := dk_seg dksX1_face_2 22 rfl rfl
theorem dX1_face_0 : decode cX1_face 0 = .ok (.aload_n 0, 1) := dk_42 (dk_at dksX1_face_0 0 rfl rfl)
theorem dX1_face_1 : decode cX1_face 1 = .ok (.iload_n 1, 1) := dk_27 (dk_at dksX1_face_0 1 rfl rfl)
theorem dX1_face_2 : decode cX1_face 2 = .ok (.invokevirtual 278, 3) := dk_182 1 22 (dk_at dksX1_face_0 2 rfl rfl)
theorem dX1_face_5 : decode cX1_face 5 = .ok (.ifCond .eq 31, 3) := dk_153 0 31 (dk_at dksX1_face_0 5 rfl rfl)
theorem dX1_face_8 : decode cX1_face 8 = .ok (.iload_n 2, 1) := dk_28 (dk_at dksX1_face_0 8 rfl rfl)
theorem dX1_face_9 : decode cX1_face 9 = .ok (.iconst 0, 1) := dk_3 (dk_at dksX1_face_0 9 rfl rfl)
theorem dX1_face_10 : decode cX1_face 10 = .ok (.aload_n 0, 1) := dk_42 (dk_at dksX1_face_0 10 rfl rfl)
theorem dX1_face_11 : decode cX1_face 11 = .ok (.getfield 70, 3) := dk_180 0 70 (dk_at dksX1_face_0 11 rfl rfl)
theorem dX1_face_14 : decode cX1_face 14 = .ok (.getfield 269, 3) := dk_180 1 13 (dk_at dksX1_face_0 14 rfl rfl)
theorem dX1_face_17 : decode cX1_face 17 = .ok (.iload_n 1, 1) := dk_27 (dk_at dksX1_face_0 17 rfl rfl)
theorem dX1_face_18 : decode cX1_face 18 = .ok (.iaload, 1) := dk_46 (dk_at dksX1_face_0 18 rfl rfl)
theorem dX1_face_19 : decode cX1_face 19 = .ok (.iconst 1, 1) := dk_4 (dk_at dksX1_face_0 19 rfl rfl)
theorem dX1_face_20 : decode cX1_face 20 = .ok (.isub, 1) := dk_100 (dk_at dksX1_face_0 20 rfl rfl)
theorem dX1_face_21 : decode cX1_face 21 = .ok (.invokestatic 189, 3) := dk_184 0 189 (dk_at dksX1_face_0 21 rfl rfl)
theorem dX1_face_24 : decode cX1_face 24 = .ok (.ifCond .eq 12, 3) := dk_153 0 12 (dk_at dksX1_face_1 0 rfl rfl)
theorem dX1_face_27 : decode cX1_face 27 = .ok (.iload_n 3, 1) := dk_29 (dk_at dksX1_face_1 3 rfl rfl)
theorem dX1_face_28 : decode cX1_face 28 = .ok (.iconst 0, 1) := dk_3 (dk_at dksX1_face_1 4 rfl rfl)
theorem dX1_face_29 : decode cX1_face 29 = .ok (.iconst 2, 1) := dk_5 (dk_at dksX1_face_1 5 rfl rfl)
theorem dX1_face_30 : decode cX1_face 30 = .ok (.invokestatic 189, 3) := dk_184 0 189 (dk_at dksX1_face_1 6 rfl rfl)
theorem dX1_face_33 : decode cX1_face 33 = .ok (.ifCond .ne 5, 3) := dk_154 0 5 (dk_at dksX1_face_1 9 rfl rfl)
theorem dX1_face_36 : decode cX1_face 36 = .ok (.iconst (-1), 1) := dk_2 (dk_at dksX1_face_1 12 rfl rfl)
theorem dX1_face_37 : decode cX1_face 37 = .ok (.ireturn, 1) := dk_172 (dk_at dksX1_face_1 13 rfl rfl)
theorem dX1_face_38 : decode cX1_face 38 = .ok (.bipush 9, 2) := dk_16 9 (dk_at dksX1_face_1 14 rfl rfl)
theorem dX1_face_40 : decode cX1_face 40 = .ok (.iload_n 1, 1) := dk_27 (dk_at dksX1_face_1 16 rfl rfl)
theorem dX1_face_41 : decode cX1_face 41 = .ok (.imul, 1) := dk_104 (dk_at dksX1_face_1 17 rfl rfl)
theorem dX1_face_42 : decode cX1_face 42 = .ok (.iload_n 2, 1) := dk_28 (dk_at dksX1_face_1 18 rfl rfl)
theorem dX1_face_43 : decode cX1_face 43 = .ok (.iadd, 1) := dk_96 (dk_at dksX1_face_1 19 rfl rfl)
theorem dX1_face_44 : decode cX1_face 44 = .ok (.istore 4, 2) := dk_54 4 (dk_at dksX1_face_1 20 rfl rfl)
theorem dX1_face_46 : decode cX1_face 46 = .ok (.iload_n 3, 1) := dk_29 (dk_at dksX1_face_1 22 rfl rfl)
theorem dX1_face_47 : decode cX1_face 47 = .ok (.ifCond .ne 16, 3) := dk_154 0 16 (dk_at dksX1_face_2 0 rfl rfl)
theorem dX1_face_50 : decode cX1_face 50 = .ok (.aload_n 0, 1) := dk_42 (dk_at dksX1_face_2 3 rfl rfl)
theorem dX1_face_51 : decode cX1_face 51 = .ok (.getfield 70, 3) := dk_180 0 70 (dk_at dksX1_face_2 4 rfl rfl)
theorem dX1_face_54 : decode cX1_face 54 = .ok (.getfield 284, 3) := dk_180 1 28 (dk_at dksX1_face_2 7 rfl rfl)
theorem dX1_face_57 : decode cX1_face 57 = .ok (.iload 4, 2) := dk_21 4 (dk_at dksX1_face_2 10 rfl rfl)
theorem dX1_face_59 : decode cX1_face 59 = .ok (.iaload, 1) := dk_46 (dk_at dksX1_face_2 12 rfl rfl)
theorem dX1_face_60 : decode cX1_face 60 = .ok (.goto 31, 3) := dk_167 0 31 (dk_at dksX1_face_2 13 rfl rfl)
theorem dX1_face_63 : decode cX1_face 63 = .ok (.iload_n 3, 1) := dk_29 (dk_at dksX1_face_2 16 rfl rfl)
theorem dX1_face_64 : decode cX1_face 64 = .ok (.iconst 1, 1) := dk_4 (dk_at dksX1_face_2 17 rfl rfl)
theorem dX1_face_65 : decode cX1_face 65 = .ok (.if_icmp .ne 16, 3) := dk_160 0 16 (dk_at dksX1_face_2 18 rfl rfl)
theorem dX1_face_68 : decode cX1_face 68 = .ok (.aload_n 0, 1) := dk_42 (dk_at dksX1_face_2 21 rfl rfl)
theorem dX1_face_69 : decode cX1_face 69 = .ok (.getfield 70, 3) := dk_180 0 70 (dk_at dksX1_face_3 0 rfl rfl)
theorem dX1_face_72 : decode cX1_face 72 = .ok (.getfield 286, 3) := dk_180 1 30 (dk_at dksX1_face_3 3 rfl rfl)
theorem dX1_face_75 : decode cX1_face 75 = .ok (.iload 4, 2) := dk_21 4 (dk_at dksX1_face_3 6 rfl rfl)
theorem dX1_face_77 : decode cX1_face 77 = .ok (.iaload, 1) := dk_46 (dk_at dksX1_face_3 8 rfl rfl)
theorem dX1_face_78 : decode cX1_face 78 = .ok (.goto 13, 3) := dk_167 0 13 (dk_at dksX1_face_3 9 rfl rfl)
theorem dX1_face_81 : decode cX1_face 81 = .ok (.aload_n 0, 1) := dk_42 (dk_at dksX1_face_3 12 rfl rfl)
theorem dX1_face_82 : decode cX1_face 82 = .ok (.getfield 70, 3) := dk_180 0 70 (dk_at dksX1_face_3 13 rfl rfl)
theorem dX1_face_85 : decode cX1_face 85 = .ok (.getfield 289, 3) := dk_180 1 33 (dk_at dksX1_face_3 16 rfl rfl)
theorem dX1_face_88 : decode cX1_face 88 = .ok (.iload 4, 2) := dk_21 4 (dk_at dksX1_face_3 19 rfl rfl)
theorem dX1_face_90 : decode cX1_face 90 = .ok (.iaload, 1) := dk_46 (dk_at dksX1_face_3 21 rfl rfl)
theorem dX1_face_91 : decode cX1_face 91 = .ok (.ireturn, 1) := dk_172 (dk_at dksX1_face_3 22 rfl rfl)
abbrev cX1_isCoin : ByteArray := prog_1_method_17_code
def yX1_isCoin : MethodName := ⟨RX1, "isCoin", "(I)Z"⟩
def dkwX1_isCoin_0 : List UInt8 := [27, 3, 42, 180, 0, 70, 180, 0, 206, 4, 100, 184, 0, 189, 172]
abbrev dktX1_isCoin_0 : List UInt8 := dkwX1_isCoin_0 ++ []
theorem dksX1_isCoin_0 : cX1_isCoin.data.toList.drop 0 = dktX1_isCoin_0 := by decide +kernel
theorem dX1_isCoin_0 : decode cX1_isCoin 0 = .ok (.iload_n 1, 1) := dk_27 (dk_at dksX1_isCoin_0 0 rfl rfl)
theorem dX1_isCoin_1 : decode cX1_isCoin 1 = .ok (.iconst 0, 1) := dk_3 (dk_at dksX1_isCoin_0 1 rfl rfl)
theorem dX1_isCoin_2 : decode cX1_isCoin 2 = .ok (.aload_n 0, 1) := dk_42 (dk_at dksX1_isCoin_0 2 rfl rfl)
theorem dX1_isCoin_3 : decode cX1_isCoin 3 = .ok (.getfield 70, 3) := dk_180 0 70 (dk_at dksX1_isCoin_0 3 rfl rfl)
theorem dX1_isCoin_6 : decode cX1_isCoin 6 = .ok (.getfield 206, 3) := dk_180 0 206 (dk_at dksX1_isCoin_0 6 rfl rfl)
theorem dX1_isCoin_9 : decode cX1_isCoin 9 = .ok (.iconst 1, 1) := dk_4 (dk_at dksX1_isCoin_0 9 rfl rfl)
theorem dX1_isCoin_10 : decode cX1_isCoin 10 = .ok (.isub, 1) := dk_100 (dk_at dksX1_isCoin_0 10 rfl rfl)
theorem dX1_isCoin_11 : decode cX1_isCoin 11 = .ok (.invokestatic 189, 3) := dk_184 0 189 (dk_at dksX1_isCoin_0 11 rfl rfl)
theorem dX1_isCoin_14 : decode cX1_isCoin 14 = .ok (.ireturn, 1) := dk_172 (dk_at dksX1_isCoin_0 14 rfl rfl)
abbrev cX1_value : ByteArray := prog_1_method_23_code
def yX1_value : MethodName := ⟨RX1, "value", "(III)I"⟩
def dkwX1_value_3 : List UInt8 := [182, 1, 43, 172]
abbrev dktX1_value_3 : List UInt8 := dkwX1_value_3 ++ []
def dkwX1_value_2 : List UInt8 := [180, 0, 70, 28, 182, 0, 224, 21, 4, 182, 1, 40, 167, 0, 14, 42, 180, 0, 70, 27, 28, 21, 4]
abbrev dktX1_value_2 : List UInt8 := dkwX1_value_2 ++ dktX1_value_3
def dkwX1_value_1 : List UInt8 := [154, 0, 5, 2, 172, 42, 180, 0, 70, 182, 1, 36, 54, 4, 29, 154, 0, 24, 42, 180, 0, 70, 27, 42]
abbrev dktX1_value_1 : List UInt8 := dkwX1_value_1 ++ dktX1_value_2
def dkwX1_value_0 : List UInt8 := [42, 27, 182, 0, 193, 153, 0, 20, 42, 28, 182, 1, 22, 153, 0, 12, 29, 3, 4, 184, 0, 189]
abbrev dktX1_value_0 : List UInt8 := dkwX1_value_0 ++ dktX1_value_1
theorem dksX1_value_0 : cX1_value.data.toList.drop 0 = dktX1_value_0 := by decide +kernel
theorem dksX1_value_1 : cX1_value.data.toList.drop 22 = dktX1_value_1 := dk_seg dksX1_value_0 22 rfl rfl
theorem dksX1_value_2 : cX1_value.data.toList.drop 46 = dktX1_value_2 := dk_seg dksX1_value_1 24 rfl rfl
theorem dksX1_value_3 : cX1_value.data.toList.drop 69 = dktX1_value_3 := dk_seg dksX1_value_2 23 rfl rfl
theorem dX1_value_0 : decode cX1_value 0 = .ok (.aload_n 0, 1) := dk_42 (dk_at dksX1_value_0 0 rfl rfl)
theorem dX1_value_1 : decode cX1_value 1 = .ok (.iload_n 1, 1) := dk_27 (dk_at dksX1_value_0 1 rfl rfl)
theorem dX1_value_2 : decode cX1_value 2 = .ok (.invokevirtual 193, 3) := dk_182 0 193 (dk_at dksX1_value_0 2 rfl rfl)
theorem dX1_value_5 : decode cX1_value 5 = .ok (.ifCond .eq 20, 3) := dk_153 0 20 (dk_at dksX1_value_0 5 rfl rfl)
theorem dX1_value_8 : decode cX1_value 8 = .ok (.aload_n 0, 1) := dk_42 (dk_at dksX1_value_0 8 rfl rfl)
theorem dX1_value_9 : decode cX1_value 9 = .ok (.iload_n 2, 1) := dk_28 (dk_at dksX1_value_0 9 rfl rfl)
theorem dX1_value_10 : decode cX1_value 10 = .ok (.invokevirtual 278, 3) := dk_182 1 22 (dk_at dksX1_value_0 10 rfl rfl)
theorem dX1_value_13 : decode cX1_value 13 = .ok (.ifCond .eq 12, 3) := dk_153 0 12 (dk_at dksX1_value_0 13 rfl rfl)
theorem dX1_value_16 : decode cX1_value 16 = .ok (.iload_n 3, 1) := dk_29 (dk_at dksX1_value_0 16 rfl rfl)
theorem dX1_value_17 : decode cX1_value 17 = .ok (.iconst 0, 1) := dk_3 (dk_at dksX1_value_0 17 rfl rfl)
theorem dX1_value_18 : decode cX1_value 18 = .ok (.iconst 1, 1) := dk_4 (dk_at dksX1_value_0 18 rfl rfl)
theorem dX1_value_19 : decode cX1_value 19 = .ok (.invokestatic 189, 3) := dk_184 0 189 (dk_at dksX1_value_0 19 rfl rfl)
theorem dX1_value_22 : decode cX1_value 22 = .ok (.ifCond .ne 5, 3) := dk_154 0 5 (dk_at dksX1_value_1 0 rfl rfl)
theorem dX1_value_25 : decode cX1_value 25 = .ok (.iconst (-1), 1) := dk_2 (dk_at dksX1_value_1 3 rfl rfl)
theorem dX1_value_26 : decode cX1_value 26 = .ok (.ireturn, 1) := dk_172 (dk_at dksX1_value_1 4 rfl rfl)
theorem dX1_value_27 : decode cX1_value 27 = .ok (.aload_n 0, 1) := dk_42 (dk_at dksX1_value_1 5 rfl rfl)
theorem dX1_value_28 : decode cX1_value 28 = .ok (.getfield 70, 3) := dk_180 0 70 (dk_at dksX1_value_1 6 rfl rfl)
theorem dX1_value_31 : decode cX1_value 31 = .ok (.invokevirtual 292, 3) := dk_182 1 36 (dk_at dksX1_value_1 9 rfl rfl)
theorem dX1_value_34 : decode cX1_value 34 = .ok (.istore 4, 2) := dk_54 4 (dk_at dksX1_value_1 12 rfl rfl)
theorem dX1_value_36 : decode cX1_value 36 = .ok (.iload_n 3, 1) := dk_29 (dk_at dksX1_value_1 14 rfl rfl)
theorem dX1_value_37 : decode cX1_value 37 = .ok (.ifCond .ne 24, 3) := dk_154 0 24 (dk_at dksX1_value_1 15 rfl rfl)
theorem dX1_value_40 : decode cX1_value 40 = .ok (.aload_n 0, 1) := dk_42 (dk_at dksX1_value_1 18 rfl rfl)
theorem dX1_value_41 : decode cX1_value 41 = .ok (.getfield 70, 3) := dk_180 0 70 (dk_at dksX1_value_1 19 rfl rfl)
theorem dX1_value_44 : decode cX1_value 44 = .ok (.iload_n 1, 1) := dk_27 (dk_at dksX1_value_1 22 rfl rfl)
theorem dX1_value_45 : decode cX1_value 45 = .ok (.aload_n 0, 1) := dk_42 (dk_at dksX1_value_1 23 rfl rfl)
theorem dX1_value_46 : decode cX1_value 46 = .ok (.getfield 70, 3) := dk_180 0 70 (dk_at dksX1_value_2 0 rfl rfl)
theorem dX1_value_49 : decode cX1_value 49 = .ok (.iload_n 2, 1) := dk_28 (dk_at dksX1_value_2 3 rfl rfl)
theorem dX1_value_50 : decode cX1_value 50 = .ok (.invokevirtual 224, 3) := dk_182 0 224 (dk_at dksX1_value_2 4 rfl rfl)
theorem dX1_value_53 : decode cX1_value 53 = .ok (.iload 4, 2) := dk_21 4 (dk_at dksX1_value_2 7 rfl rfl)
theorem dX1_value_55 : decode cX1_value 55 = .ok (.invokevirtual 296, 3) := dk_182 1 40 (dk_at dksX1_value_2 9 rfl rfl)
theorem dX1_value_58 : decode cX1_value 58 = .ok (.goto 14, 3) := dk_167 0 14 (dk_at dksX1_value_2 12 rfl rfl)
theorem dX1_value_61 : decode cX1_value 61 = .ok (.aload_n 0, 1) := dk_42 (dk_at dksX1_value_2 15 rfl rfl)
theorem dX1_value_62 : decode cX1_value 62 = .ok (.getfield 70, 3) := dk_180 0 70 (dk_at dksX1_value_2 16 rfl rfl)
theorem dX1_value_65 : decode cX1_value 65 = .ok (.iload_n 1, 1) := dk_27 (dk_at dksX1_value_2 19 rfl rfl)
theorem dX1_value_66 : decode cX1_value 66 = .ok (.iload_n 2, 1) := dk_28 (dk_at dksX1_value_2 20 rfl rfl)
theorem dX1_value_67 : decode cX1_value 67 = .ok (.iload 4, 2) := dk_21 4 (dk_at dksX1_value_2 21 rfl rfl)
theorem dX1_value_69 : decode cX1_value 69 = .ok (.invokevirtual 299, 3) := dk_182 1 43 (dk_at dksX1_value_3 0 rfl rfl)
theorem dX1_value_72 : decode cX1_value 72 = .ok (.ireturn, 1) := dk_172 (dk_at dksX1_value_3 3 rfl rfl)
abbrev cX1_luck : ByteArray := prog_1_method_24_code
def yX1_luck : MethodName := ⟨RX1, "luck", "()I"⟩
def dkwX1_luck_0 : List UInt8 := [42, 180, 0, 70, 182, 1, 36, 172]
abbrev dktX1_luck_0 : List UInt8 := dkwX1_luck_0 ++ []
theorem dksX1_luck_0 : cX1_luck.data.toList.drop 0 = dktX1_luck_0 := by decide +kernel
theorem dX1_luck_0 : decode cX1_luck 0 = .ok (.aload_n 0, 1) := dk_42 (dk_at dksX1_luck_0 0 rfl rfl)
theorem dX1_luck_1 : decode cX1_luck 1 = .ok (.getfield 70, 3) := dk_180 0 70 (dk_at dksX1_luck_0 1 rfl rfl)
theorem dX1_luck_4 : decode cX1_luck 4 = .ok (.invokevirtual 292, 3) := dk_182 1 36 (dk_at dksX1_luck_0 4 rfl rfl)
theorem dX1_luck_7 : decode cX1_luck 7 = .ok (.ireturn, 1) := dk_172 (dk_at dksX1_luck_0 7 rfl rfl)
abbrev cX1_bears : ByteArray := prog_1_method_25_code
def yX1_bears : MethodName := ⟨RX1, "bears", "(II)I"⟩
def dkwX1_bears_3 : List UInt8 := [132, 3, 1, 167, 255, 204, 29, 172]
abbrev dktX1_bears_3 : List UInt8 := dkwX1_bears_3 ++ []
def dkwX1_bears_2 : List UInt8 := [180, 0, 240, 104, 100, 42, 180, 0, 70, 180, 1, 11, 27, 46, 29, 96, 28, 182, 1, 4, 154, 0, 9]
abbrev dktX1_bears_2 : List UInt8 := dkwX1_bears_2 ++ dktX1_bears_3
def dkwX1_bears_1 : List UInt8 := [42, 180, 0, 70, 180, 0, 231, 27, 46, 29, 42, 180, 0, 70, 180, 0, 182, 180, 0, 236, 28, 50]
abbrev dktX1_bears_1 : List UInt8 := dkwX1_bears_1 ++ dktX1_bears_2
def dkwX1_bears_0 : List UInt8 := [42, 27, 182, 1, 22, 153, 0, 11, 42, 28, 182, 0, 233, 154, 0, 5, 2, 172, 3, 62, 42, 180, 0, 70]
abbrev dktX1_bears_0 : List UInt8 := dkwX1_bears_0 ++ dktX1_bears_1
theorem dksX1_bears_0 : cX1_bears.data.toList.drop 0 = dktX1_bears_0 := by decide +kernel
theorem dksX1_bears_1 : cX1_bears.data.toList.drop 24 = dktX1_bears_1 := dk_seg dksX1_bears_0 24 rfl rfl
theorem dksX1_bears_2 : cX1_bears.data.toList.drop 46 = dktX1_bears_2 := dk_seg dksX1_bears_1 22 rfl rfl
theorem dksX1_bears_3 : cX1_bears.data.toList.drop 69 = dktX1_bears_3 := dk_seg dksX1_bears_2 23 rfl rfl
theorem dX1_bears_0 : decode cX1_bears 0 = .ok (.aload_n 0, 1) := dk_42 (dk_at dksX1_bears_0 0 rfl rfl)
theorem dX1_bears_1 : decode cX1_bears 1 = .ok (.iload_n 1, 1) := dk_27 (dk_at dksX1_bears_0 1 rfl rfl)
theorem dX1_bears_2 : decode cX1_bears 2 = .ok (.invokevirtual 278, 3) := dk_182 1 22 (dk_at dksX1_bears_0 2 rfl rfl)
theorem dX1_bears_5 : decode cX1_bears 5 = .ok (.ifCond .eq 11, 3) := dk_153 0 11 (dk_at dksX1_bears_0 5 rfl rfl)
theorem dX1_bears_8 : decode cX1_bears 8 = .ok (.aload_n 0, 1) := dk_42 (dk_at dksX1_bears_0 8 rfl rfl)
theorem dX1_bears_9 : decode cX1_bears 9 = .ok (.iload_n 2, 1) := dk_28 (dk_at dksX1_bears_0 9 rfl rfl)
theorem dX1_bears_10 : decode cX1_bears 10 = .ok (.invokevirtual 233, 3) := dk_182 0 233 (dk_at dksX1_bears_0 10 rfl rfl)
theorem dX1_bears_13 : decode cX1_bears 13 = .ok (.ifCond .ne 5, 3) := dk_154 0 5 (dk_at dksX1_bears_0 13 rfl rfl)
theorem dX1_bears_16 : decode cX1_bears 16 = .ok (.iconst (-1), 1) := dk_2 (dk_at dksX1_bears_0 16 rfl rfl)
theorem dX1_bears_17 : decode cX1_bears 17 = .ok (.ireturn, 1) := dk_172 (dk_at dksX1_bears_0 17 rfl rfl)
theorem dX1_bears_18 : decode cX1_bears 18 = .ok (.iconst 0, 1) := dk_3 (dk_at dksX1_bears_0 18 rfl rfl)
theorem dX1_bears_19 : decode cX1_bears 19 = .ok (.istore_n 3, 1) := dk_62 (dk_at dksX1_bears_0 19 rfl rfl)
theorem dX1_bears_20 : decode cX1_bears 20 = .ok (.aload_n 0, 1) := dk_42 (dk_at dksX1_bears_0 20 rfl rfl)
theorem dX1_bears_21 : decode cX1_bears 21 = .ok (.getfield 70, 3) := dk_180 0 70 (dk_at dksX1_bears_0 21 rfl rfl)
theorem dX1_bears_24 : decode cX1_bears 24 = .ok (.aload_n 0, 1) := dk_42 (dk_at dksX1_bears_1 0 rfl rfl)
theorem dX1_bears_25 : decode cX1_bears 25 = .ok (.getfield 70, 3) := dk_180 0 70 (dk_at dksX1_bears_1 1 rfl rfl)
theorem dX1_bears_28 : decode cX1_bears 28 = .ok (.getfield 231, 3) := dk_180 0 231 (dk_at dksX1_bears_1 4 rfl rfl)
theorem dX1_bears_31 : decode cX1_bears 31 = .ok (.iload_n 1, 1) := dk_27 (dk_at dksX1_bears_1 7 rfl rfl)
theorem dX1_bears_32 : decode cX1_bears 32 = .ok (.iaload, 1) := dk_46 (dk_at dksX1_bears_1 8 rfl rfl)
theorem dX1_bears_33 : decode cX1_bears 33 = .ok (.iload_n 3, 1) := dk_29 (dk_at dksX1_bears_1 9 rfl rfl)
theorem dX1_bears_34 : decode cX1_bears 34 = .ok (.aload_n 0, 1) := dk_42 (dk_at dksX1_bears_1 10 rfl rfl)
theorem dX1_bears_35 : decode cX1_bears 35 = .ok (.getfield 70, 3) := dk_180 0 70 (dk_at dksX1_bears_1 11 rfl rfl)
theorem dX1_bears_38 : decode cX1_bears 38 = .ok (.getfield 182, 3) := dk_180 0 182 (dk_at dksX1_bears_1 14 rfl rfl)
theorem dX1_bears_41 : decode cX1_bears 41 = .ok (.getfield 236, 3) := dk_180 0 236 (dk_at dksX1_bears_1 17 rfl rfl)
theorem dX1_bears_44 : decode cX1_bears 44 = .ok (.iload_n 2, 1) := dk_28 (dk_at dksX1_bears_1 20 rfl rfl)
theorem dX1_bears_45 : decode cX1_bears 45 = .ok (.aaload, 1) := dk_50 (dk_at dksX1_bears_1 21 rfl rfl)
theorem dX1_bears_46 : decode cX1_bears 46 = .ok (.getfield 240, 3) := dk_180 0 240 (dk_at dksX1_bears_2 0 rfl rfl)
theorem dX1_bears_49 : decode cX1_bears 49 = .ok (.imul, 1) := dk_104 (dk_at dksX1_bears_2 3 rfl rfl)
theorem dX1_bears_50 : decode cX1_bears 50 = .ok (.isub, 1) := dk_100 (dk_at dksX1_bears_2 4 rfl rfl)
theorem dX1_bears_51 : decode cX1_bears 51 = .ok (.aload_n 0, 1) := dk_42 (dk_at dksX1_bears_2 5 rfl rfl)
theorem dX1_bears_52 : decode cX1_bears 52 = .ok (.getfield 70, 3) := dk_180 0 70 (dk_at dksX1_bears_2 6 rfl rfl)
theorem dX1_bears_55 : decode cX1_bears 55 = .ok (.getfield 267, 3) := dk_180 1 11 (dk_at dksX1_bears_2 9 rfl rfl)
theorem dX1_bears_58 : decode cX1_bears 58 = .ok (.iload_n 1, 1) := dk_27 (dk_at dksX1_bears_2 12 rfl rfl)
theorem dX1_bears_59 : decode cX1_bears 59 = .ok (.iaload, 1) := dk_46 (dk_at dksX1_bears_2 13 rfl rfl)
theorem dX1_bears_60 : decode cX1_bears 60 = .ok (.iload_n 3, 1) := dk_29 (dk_at dksX1_bears_2 14 rfl rfl)
theorem dX1_bears_61 : decode cX1_bears 61 = .ok (.iadd, 1) := dk_96 (dk_at dksX1_bears_2 15 rfl rfl)
theorem dX1_bears_62 : decode cX1_bears 62 = .ok (.iload_n 2, 1) := dk_28 (dk_at dksX1_bears_2 16 rfl rfl)
theorem dX1_bears_63 : decode cX1_bears 63 = .ok (.invokevirtual 260, 3) := dk_182 1 4 (dk_at dksX1_bears_2 17 rfl rfl)
theorem dX1_bears_66 : decode cX1_bears 66 = .ok (.ifCond .ne 9, 3) := dk_154 0 9 (dk_at dksX1_bears_2 20 rfl rfl)
theorem dX1_bears_69 : decode cX1_bears 69 = .ok (.iinc 3 1, 3) := dk_132 3 1 (dk_at dksX1_bears_3 0 rfl rfl)
theorem dX1_bears_72 : decode cX1_bears 72 = .ok (.goto (-52), 3) := dk_167 255 204 (dk_at dksX1_bears_3 3 rfl rfl)
theorem dX1_bears_75 : decode cX1_bears 75 = .ok (.iload_n 3, 1) := dk_29 (dk_at dksX1_bears_3 6 rfl rfl)
theorem dX1_bears_76 : decode cX1_bears 76 = .ok (.ireturn, 1) := dk_172 (dk_at dksX1_bears_3 7 rfl rfl)
abbrev cX1_sale : ByteArray := prog_1_method_29_code
def yX1_sale : MethodName := ⟨RX1, "sale", "(IIII)I"⟩
def dkwX1_sale_13 : List UInt8 := [167, 255, 230, 3, 172]
abbrev dktX1_sale_13 : List UInt8 := dkwX1_sale_13 ++ []
def dkwX1_sale_12 : List UInt8 := [180, 0, 142, 162, 0, 23, 42, 42, 21, 9, 182, 1, 73, 28, 29, 21, 8, 182, 1, 90, 132, 9, 1]
abbrev dktX1_sale_12 : List UInt8 := dkwX1_sale_12 ++ dktX1_sale_13
def dkwX1_sale_11 : List UInt8 := [42, 27, 28, 29, 21, 4, 42, 180, 0, 142, 21, 7, 182, 1, 86, 54, 8, 3, 54, 9, 21, 9, 42]
abbrev dktX1_sale_11 : List UInt8 := dkwX1_sale_11 ++ dktX1_sale_12
def dkwX1_sale_10 : List UInt8 := [21, 6, 16, 8, 162, 0, 6, 21, 6, 172, 21, 7, 21, 4, 162, 0, 6, 16, 7, 172, 42, 182, 1, 8]
abbrev dktX1_sale_10 : List UInt8 := dkwX1_sale_10 ++ dktX1_sale_11
def dkwX1_sale_9 : List UInt8 := [54, 12, 21, 6, 21, 12, 184, 1, 80, 54, 6, 21, 7, 21, 10, 96, 54, 7, 132, 8, 1, 167, 255, 135]
abbrev dktX1_sale_9 : List UInt8 := dkwX1_sale_9 ++ dktX1_sale_10
def dkwX1_sale_8 : List UInt8 := [167, 0, 24, 21, 10, 154, 0, 7, 6, 167, 0, 15, 21, 11, 158, 0, 8, 21, 11, 167, 0, 5, 16, 8]
abbrev dktX1_sale_8 : List UInt8 := dkwX1_sale_8 ++ dktX1_sale_9
def dkwX1_sale_7 : List UInt8 := [21, 9, 46, 29, 182, 1, 4, 54, 11, 42, 180, 0, 70, 180, 0, 228, 21, 9, 46, 27, 159, 0, 7, 5]
abbrev dktX1_sale_7 : List UInt8 := dkwX1_sale_7 ++ dktX1_sale_8
def dkwX1_sale_6 : List UInt8 := [54, 10, 42, 180, 0, 70, 42, 180, 0, 70, 180, 0, 231, 21, 9, 46, 42, 180, 0, 70, 180, 1, 11]
abbrev dktX1_sale_6 : List UInt8 := dkwX1_sale_6 ++ dktX1_sale_7
def dkwX1_sale_5 : List UInt8 := [162, 0, 118, 42, 21, 8, 182, 1, 73, 54, 9, 42, 180, 0, 70, 28, 21, 9, 21, 5, 182, 1, 43]
abbrev dktX1_sale_5 : List UInt8 := dkwX1_sale_5 ++ dktX1_sale_6
def dkwX1_sale_4 : List UInt8 := [180, 0, 70, 182, 1, 36, 54, 5, 16, 8, 54, 6, 3, 54, 7, 3, 54, 8, 21, 8, 42, 180, 0, 142]
abbrev dktX1_sale_4 : List UInt8 := dkwX1_sale_4 ++ dktX1_sale_5
def dkwX1_sale_3 : List UInt8 := [27, 182, 1, 1, 153, 0, 16, 42, 28, 182, 1, 1, 153, 0, 8, 27, 28, 160, 0, 5, 4, 172, 42]
abbrev dktX1_sale_3 : List UInt8 := dkwX1_sale_3 ++ dktX1_sale_4
def dkwX1_sale_2 : List UInt8 := [153, 0, 21, 42, 180, 0, 70, 180, 0, 251, 42, 180, 0, 142, 96, 17, 1, 244, 164, 0, 5, 2, 172, 42]
abbrev dktX1_sale_2 : List UInt8 := dkwX1_sale_2 ++ dktX1_sale_3
def dkwX1_sale_1 : List UInt8 := [182, 0, 233, 153, 0, 40, 21, 4, 4, 17, 39, 15, 184, 0, 189, 153, 0, 28, 42, 182, 1, 76]
abbrev dktX1_sale_1 : List UInt8 := dkwX1_sale_1 ++ dktX1_sale_2
def dkwX1_sale_0 : List UInt8 := [42, 182, 0, 148, 42, 27, 182, 0, 193, 153, 0, 56, 42, 28, 182, 0, 193, 153, 0, 48, 42, 29]
abbrev dktX1_sale_0 : List UInt8 := dkwX1_sale_0 ++ dktX1_sale_1
theorem dksX1_sale_0 : cX1_sale.data.toList.drop 0 = dktX1_sale_0 := by decide +kernel
theorem dksX1_sale_1 : cX1_sale.data.toList.drop 22 = dktX1_sale_1 := dk_seg dksX1_sale_0 22 rfl rfl
theorem dksX1_sale_2 : cX1_sale.data.toList.drop 44 = dktX1_sale_2 := dk_seg dksX1_sale_1 22 rfl rfl
theorem dksX1_sale_3 : cX1_sale.data.toList.drop 68 = dktX1_sale_3 := dk_seg dksX1_sale_2 24 rfl rfl
theorem dksX1_sale_4 : cX1_sale.data.toList.drop 91 = dktX1_sale_4 := dk_seg dksX1_sale_3 23 rfl rfl
theorem dksX1_sale_5 : cX1_sale.data.toList.drop 115 = dktX1_sale_5 := dk_seg dksX1_sale_4 24 rfl rfl
theorem dksX1_sale_6 : cX1_sale.data.toList.drop 138 = dktX1_sale_6 := dk_seg dksX1_sale_5 23 rfl rfl
theorem dksX1_sale_7 : cX1_sale.data.toList.drop 161 = dktX1_sale_7 := dk_seg dksX1_sale_6 23 rfl rfl
theorem dksX1_sale_8 : cX1_sale.data.toList.drop 185 = dktX1_sale_8 := dk_seg dksX1_sale_7 24 rfl rfl
theorem dksX1_sale_9 : cX1_sale.data.toList.drop 209 = dktX1_sale_9 := dk_seg dksX1_sale_8 24 rfl rfl
theorem dksX1_sale_10 : cX1_sale.data.toList.drop 233 = dktX1_sale_10 := dk_seg dksX1_sale_9 24 rfl rfl
theorem dksX1_sale_11 : cX1_sale.data.toList.drop 257 = dktX1_sale_11 := dk_seg dksX1_sale_10 24 rfl rfl
theorem dksX1_sale_12 : cX1_sale.data.toList.drop 280 = dktX1_sale_12 := dk_seg dksX1_sale_11 23 rfl rfl
theorem dksX1_sale_13 : cX1_sale.data.toList.drop 303 = dktX1_sale_13 := dk_seg dksX1_sale_12 23 rfl rfl
theorem dX1_sale_0 : decode cX1_sale 0 = .ok (.aload_n 0, 1) := dk_42 (dk_at dksX1_sale_0 0 rfl rfl)
theorem dX1_sale_1 : decode cX1_sale 1 = .ok (.invokevirtual 148, 3) := dk_182 0 148 (dk_at dksX1_sale_0 1 rfl rfl)
theorem dX1_sale_4 : decode cX1_sale 4 = .ok (.aload_n 0, 1) := dk_42 (dk_at dksX1_sale_0 4 rfl rfl)
theorem dX1_sale_5 : decode cX1_sale 5 = .ok (.iload_n 1, 1) := dk_27 (dk_at dksX1_sale_0 5 rfl rfl)
theorem dX1_sale_6 : decode cX1_sale 6 = .ok (.invokevirtual 193, 3) := dk_182 0 193 (dk_at dksX1_sale_0 6 rfl rfl)
theorem dX1_sale_9 : decode cX1_sale 9 = .ok (.ifCond .eq 56, 3) := dk_153 0 56 (dk_at dksX1_sale_0 9 rfl rfl)
theorem dX1_sale_12 : decode cX1_sale 12 = .ok (.aload_n 0, 1) := dk_42 (dk_at dksX1_sale_0 12 rfl rfl)
theorem dX1_sale_13 : decode cX1_sale 13 = .ok (.iload_n 2, 1) := dk_28 (dk_at dksX1_sale_0 13 rfl rfl)
theorem dX1_sale_14 : decode cX1_sale 14 = .ok (.invokevirtual 193, 3) := dk_182 0 193 (dk_at dksX1_sale_0 14 rfl rfl)
theorem dX1_sale_17 : decode cX1_sale 17 = .ok (.ifCond .eq 48, 3) := dk_153 0 48 (dk_at dksX1_sale_0 17 rfl rfl)
theorem dX1_sale_20 : decode cX1_sale 20 = .ok (.aload_n 0, 1) := dk_42 (dk_at dksX1_sale_0 20 rfl rfl)
theorem dX1_sale_21 : decode cX1_sale 21 = .ok (.iload_n 3, 1) := dk_29 (dk_at dksX1_sale_0 21 rfl rfl)
theorem dX1_sale_22 : decode cX1_sale 22 = .ok (.invokevirtual 233, 3) := dk_182 0 233 (dk_at dksX1_sale_1 0 rfl rfl)
theorem dX1_sale_25 : decode cX1_sale 25 = .ok (.ifCond .eq 40, 3) := dk_153 0 40 (dk_at dksX1_sale_1 3 rfl rfl)
theorem dX1_sale_28 : decode cX1_sale 28 = .ok (.iload 4, 2) := dk_21 4 (dk_at dksX1_sale_1 6 rfl rfl)
theorem dX1_sale_30 : decode cX1_sale 30 = .ok (.iconst 1, 1) := dk_4 (dk_at dksX1_sale_1 8 rfl rfl)
theorem dX1_sale_31 : decode cX1_sale 31 = .ok (.sipush 9999, 3) := dk_17 39 15 (dk_at dksX1_sale_1 9 rfl rfl)
theorem dX1_sale_34 : decode cX1_sale 34 = .ok (.invokestatic 189, 3) := dk_184 0 189 (dk_at dksX1_sale_1 12 rfl rfl)
theorem dX1_sale_37 : decode cX1_sale 37 = .ok (.ifCond .eq 28, 3) := dk_153 0 28 (dk_at dksX1_sale_1 15 rfl rfl)
theorem dX1_sale_40 : decode cX1_sale 40 = .ok (.aload_n 0, 1) := dk_42 (dk_at dksX1_sale_1 18 rfl rfl)
theorem dX1_sale_41 : decode cX1_sale 41 = .ok (.invokevirtual 332, 3) := dk_182 1 76 (dk_at dksX1_sale_1 19 rfl rfl)
theorem dX1_sale_44 : decode cX1_sale 44 = .ok (.ifCond .eq 21, 3) := dk_153 0 21 (dk_at dksX1_sale_2 0 rfl rfl)
theorem dX1_sale_47 : decode cX1_sale 47 = .ok (.aload_n 0, 1) := dk_42 (dk_at dksX1_sale_2 3 rfl rfl)
theorem dX1_sale_48 : decode cX1_sale 48 = .ok (.getfield 70, 3) := dk_180 0 70 (dk_at dksX1_sale_2 4 rfl rfl)
theorem dX1_sale_51 : decode cX1_sale 51 = .ok (.getfield 251, 3) := dk_180 0 251 (dk_at dksX1_sale_2 7 rfl rfl)
theorem dX1_sale_54 : decode cX1_sale 54 = .ok (.aload_n 0, 1) := dk_42 (dk_at dksX1_sale_2 10 rfl rfl)
theorem dX1_sale_55 : decode cX1_sale 55 = .ok (.getfield 142, 3) := dk_180 0 142 (dk_at dksX1_sale_2 11 rfl rfl)
theorem dX1_sale_58 : decode cX1_sale 58 = .ok (.iadd, 1) := dk_96 (dk_at dksX1_sale_2 14 rfl rfl)
theorem dX1_sale_59 : decode cX1_sale 59 = .ok (.sipush 500, 3) := dk_17 1 244 (dk_at dksX1_sale_2 15 rfl rfl)
theorem dX1_sale_62 : decode cX1_sale 62 = .ok (.if_icmp .le 5, 3) := dk_164 0 5 (dk_at dksX1_sale_2 18 rfl rfl)
theorem dX1_sale_65 : decode cX1_sale 65 = .ok (.iconst (-1), 1) := dk_2 (dk_at dksX1_sale_2 21 rfl rfl)
theorem dX1_sale_66 : decode cX1_sale 66 = .ok (.ireturn, 1) := dk_172 (dk_at dksX1_sale_2 22 rfl rfl)
theorem dX1_sale_67 : decode cX1_sale 67 = .ok (.aload_n 0, 1) := dk_42 (dk_at dksX1_sale_2 23 rfl rfl)
theorem dX1_sale_68 : decode cX1_sale 68 = .ok (.iload_n 1, 1) := dk_27 (dk_at dksX1_sale_3 0 rfl rfl)
theorem dX1_sale_69 : decode cX1_sale 69 = .ok (.invokevirtual 257, 3) := dk_182 1 1 (dk_at dksX1_sale_3 1 rfl rfl)
theorem dX1_sale_72 : decode cX1_sale 72 = .ok (.ifCond .eq 16, 3) := dk_153 0 16 (dk_at dksX1_sale_3 4 rfl rfl)
theorem dX1_sale_75 : decode cX1_sale 75 = .ok (.aload_n 0, 1) := dk_42 (dk_at dksX1_sale_3 7 rfl rfl)
theorem dX1_sale_76 : decode cX1_sale 76 = .ok (.iload_n 2, 1) := dk_28 (dk_at dksX1_sale_3 8 rfl rfl)
theorem dX1_sale_77 : decode cX1_sale 77 = .ok (.invokevirtual 257, 3) := dk_182 1 1 (dk_at dksX1_sale_3 9 rfl rfl)
theorem dX1_sale_80 : decode cX1_sale 80 = .ok (.ifCond .eq 8, 3) := dk_153 0 8 (dk_at dksX1_sale_3 12 rfl rfl)
theorem dX1_sale_83 : decode cX1_sale 83 = .ok (.iload_n 1, 1) := dk_27 (dk_at dksX1_sale_3 15 rfl rfl)
theorem dX1_sale_84 : decode cX1_sale 84 = .ok (.iload_n 2, 1) := dk_28 (dk_at dksX1_sale_3 16 rfl rfl)
theorem dX1_sale_85 : decode cX1_sale 85 = .ok (.if_icmp .ne 5, 3) := dk_160 0 5 (dk_at dksX1_sale_3 17 rfl rfl)
theorem dX1_sale_88 : decode cX1_sale 88 = .ok (.iconst 1, 1) := dk_4 (dk_at dksX1_sale_3 20 rfl rfl)
theorem dX1_sale_89 : decode cX1_sale 89 = .ok (.ireturn, 1) := dk_172 (dk_at dksX1_sale_3 21 rfl rfl)
theorem dX1_sale_90 : decode cX1_sale 90 = .ok (.aload_n 0, 1) := dk_42 (dk_at dksX1_sale_3 22 rfl rfl)
theorem dX1_sale_91 : decode cX1_sale 91 = .ok (.getfield 70, 3) := dk_180 0 70 (dk_at dksX1_sale_4 0 rfl rfl)
theorem dX1_sale_94 : decode cX1_sale 94 = .ok (.invokevirtual 292, 3) := dk_182 1 36 (dk_at dksX1_sale_4 3 rfl rfl)
theorem dX1_sale_97 : decode cX1_sale 97 = .ok (.istore 5, 2) := dk_54 5 (dk_at dksX1_sale_4 6 rfl rfl)
theorem dX1_sale_99 : decode cX1_sale 99 = .ok (.bipush 8, 2) := dk_16 8 (dk_at dksX1_sale_4 8 rfl rfl)
theorem dX1_sale_101 : decode cX1_sale 101 = .ok (.istore 6, 2) := dk_54 6 (dk_at dksX1_sale_4 10 rfl rfl)
theorem dX1_sale_103 : decode cX1_sale 103 = .ok (.iconst 0, 1) := dk_3 (dk_at dksX1_sale_4 12 rfl rfl)
theorem dX1_sale_104 : decode cX1_sale 104 = .ok (.istore 7, 2) := dk_54 7 (dk_at dksX1_sale_4 13 rfl rfl)
theorem dX1_sale_106 : decode cX1_sale 106 = .ok (.iconst 0, 1) := dk_3 (dk_at dksX1_sale_4 15 rfl rfl)
theorem dX1_sale_107 : decode cX1_sale 107 = .ok (.istore 8, 2) := dk_54 8 (dk_at dksX1_sale_4 16 rfl rfl)
theorem dX1_sale_109 : decode cX1_sale 109 = .ok (.iload 8, 2) := dk_21 8 (dk_at dksX1_sale_4 18 rfl rfl)
theorem dX1_sale_111 : decode cX1_sale 111 = .ok (.aload_n 0, 1) := dk_42 (dk_at dksX1_sale_4 20 rfl rfl)
theorem dX1_sale_112 : decode cX1_sale 112 = .ok (.getfield 142, 3) := dk_180 0 142 (dk_at dksX1_sale_4 21 rfl rfl)
theorem dX1_sale_115 : decode cX1_sale 115 = .ok (.if_icmp .ge 118, 3) := dk_162 0 118 (dk_at dksX1_sale_5 0 rfl rfl)
theorem dX1_sale_118 : decode cX1_sale 118 = .ok (.aload_n 0, 1) := dk_42 (dk_at dksX1_sale_5 3 rfl rfl)
theorem dX1_sale_119 : decode cX1_sale 119 = .ok (.iload 8, 2) := dk_21 8 (dk_at dksX1_sale_5 4 rfl rfl)
theorem dX1_sale_121 : decode cX1_sale 121 = .ok (.invokevirtual 329, 3) := dk_182 1 73 (dk_at dksX1_sale_5 6 rfl rfl)
theorem dX1_sale_124 : decode cX1_sale 124 = .ok (.istore 9, 2) := dk_54 9 (dk_at dksX1_sale_5 9 rfl rfl)
theorem dX1_sale_126 : decode cX1_sale 126 = .ok (.aload_n 0, 1) := dk_42 (dk_at dksX1_sale_5 11 rfl rfl)
theorem dX1_sale_127 : decode cX1_sale 127 = .ok (.getfield 70, 3) := dk_180 0 70 (dk_at dksX1_sale_5 12 rfl rfl)
theorem dX1_sale_130 : decode cX1_sale 130 = .ok (.iload_n 2, 1) := dk_28 (dk_at dksX1_sale_5 15 rfl rfl)
theorem dX1_sale_131 : decode cX1_sale 131 = .ok (.iload 9, 2) := dk_21 9 (dk_at dksX1_sale_5 16 rfl rfl)
theorem dX1_sale_133 : decode cX1_sale 133 = .ok (.iload 5, 2) := dk_21 5 (dk_at dksX1_sale_5 18 rfl rfl)
theorem dX1_sale_135 : decode cX1_sale 135 = .ok (.invokevirtual 299, 3) := dk_182 1 43 (dk_at dksX1_sale_5 20 rfl rfl)
theorem dX1_sale_138 : decode cX1_sale 138 = .ok (.istore 10, 2) := dk_54 10 (dk_at dksX1_sale_6 0 rfl rfl)
theorem dX1_sale_140 : decode cX1_sale 140 = .ok (.aload_n 0, 1) := dk_42 (dk_at dksX1_sale_6 2 rfl rfl)
theorem dX1_sale_141 : decode cX1_sale 141 = .ok (.getfield 70, 3) := dk_180 0 70 (dk_at dksX1_sale_6 3 rfl rfl)
theorem dX1_sale_144 : decode cX1_sale 144 = .ok (.aload_n 0, 1) := dk_42 (dk_at dksX1_sale_6 6 rfl rfl)
theorem dX1_sale_145 : decode cX1_sale 145 = .ok (.getfield 70, 3) := dk_180 0 70 (dk_at dksX1_sale_6 7 rfl rfl)
theorem dX1_sale_148 : decode cX1_sale 148 = .ok (.getfield 231, 3) := dk_180 0 231 (dk_at dksX1_sale_6 10 rfl rfl)
theorem dX1_sale_151 : decode cX1_sale 151 = .ok (.iload 9, 2) := dk_21 9 (dk_at dksX1_sale_6 13 rfl rfl)
theorem dX1_sale_153 : decode cX1_sale 153 = .ok (.iaload, 1) := dk_46 (dk_at dksX1_sale_6 15 rfl rfl)
theorem dX1_sale_154 : decode cX1_sale 154 = .ok (.aload_n 0, 1) := dk_42 (dk_at dksX1_sale_6 16 rfl rfl)
theorem dX1_sale_155 : decode cX1_sale 155 = .ok (.getfield 70, 3) := dk_180 0 70 (dk_at dksX1_sale_6 17 rfl rfl)
theorem dX1_sale_158 : decode cX1_sale 158 = .ok (.getfield 267, 3) := dk_180 1 11 (dk_at dksX1_sale_6 20 rfl rfl)
theorem dX1_sale_161 : decode cX1_sale 161 = .ok (.iload 9, 2) := dk_21 9 (dk_at dksX1_sale_7 0 rfl rfl)
theorem dX1_sale_163 : decode cX1_sale 163 = .ok (.iaload, 1) := dk_46 (dk_at dksX1_sale_7 2 rfl rfl)
theorem dX1_sale_164 : decode cX1_sale 164 = .ok (.iload_n 3, 1) := dk_29 (dk_at dksX1_sale_7 3 rfl rfl)
theorem dX1_sale_165 : decode cX1_sale 165 = .ok (.invokevirtual 260, 3) := dk_182 1 4 (dk_at dksX1_sale_7 4 rfl rfl)
theorem dX1_sale_168 : decode cX1_sale 168 = .ok (.istore 11, 2) := dk_54 11 (dk_at dksX1_sale_7 7 rfl rfl)
theorem dX1_sale_170 : decode cX1_sale 170 = .ok (.aload_n 0, 1) := dk_42 (dk_at dksX1_sale_7 9 rfl rfl)
theorem dX1_sale_171 : decode cX1_sale 171 = .ok (.getfield 70, 3) := dk_180 0 70 (dk_at dksX1_sale_7 10 rfl rfl)
theorem dX1_sale_174 : decode cX1_sale 174 = .ok (.getfield 228, 3) := dk_180 0 228 (dk_at dksX1_sale_7 13 rfl rfl)
theorem dX1_sale_177 : decode cX1_sale 177 = .ok (.iload 9, 2) := dk_21 9 (dk_at dksX1_sale_7 16 rfl rfl)
theorem dX1_sale_179 : decode cX1_sale 179 = .ok (.iaload, 1) := dk_46 (dk_at dksX1_sale_7 18 rfl rfl)
theorem dX1_sale_180 : decode cX1_sale 180 = .ok (.iload_n 1, 1) := dk_27 (dk_at dksX1_sale_7 19 rfl rfl)
theorem dX1_sale_181 : decode cX1_sale 181 = .ok (.if_icmp .eq 7, 3) := dk_159 0 7 (dk_at dksX1_sale_7 20 rfl rfl)
theorem dX1_sale_184 : decode cX1_sale 184 = .ok (.iconst 2, 1) := dk_5 (dk_at dksX1_sale_7 23 rfl rfl)
theorem dX1_sale_185 : decode cX1_sale 185 = .ok (.goto 24, 3) := dk_167 0 24 (dk_at dksX1_sale_8 0 rfl rfl)
theorem dX1_sale_188 : decode cX1_sale 188 = .ok (.iload 10, 2) := dk_21 10 (dk_at dksX1_sale_8 3 rfl rfl)
theorem dX1_sale_190 : decode cX1_sale 190 = .ok (.ifCond .ne 7, 3) := dk_154 0 7 (dk_at dksX1_sale_8 5 rfl rfl)
theorem dX1_sale_193 : decode cX1_sale 193 = .ok (.iconst 3, 1) := dk_6 (dk_at dksX1_sale_8 8 rfl rfl)
theorem dX1_sale_194 : decode cX1_sale 194 = .ok (.goto 15, 3) := dk_167 0 15 (dk_at dksX1_sale_8 9 rfl rfl)
theorem dX1_sale_197 : decode cX1_sale 197 = .ok (.iload 11, 2) := dk_21 11 (dk_at dksX1_sale_8 12 rfl rfl)
theorem dX1_sale_199 : decode cX1_sale 199 = .ok (.ifCond .le 8, 3) := dk_158 0 8 (dk_at dksX1_sale_8 14 rfl rfl)
theorem dX1_sale_202 : decode cX1_sale 202 = .ok (.iload 11, 2) := dk_21 11 (dk_at dksX1_sale_8 17 rfl rfl)
theorem dX1_sale_204 : decode cX1_sale 204 = .ok (.goto 5, 3) := dk_167 0 5 (dk_at dksX1_sale_8 19 rfl rfl)
theorem dX1_sale_207 : decode cX1_sale 207 = .ok (.bipush 8, 2) := dk_16 8 (dk_at dksX1_sale_8 22 rfl rfl)
theorem dX1_sale_209 : decode cX1_sale 209 = .ok (.istore 12, 2) := dk_54 12 (dk_at dksX1_sale_9 0 rfl rfl)
theorem dX1_sale_211 : decode cX1_sale 211 = .ok (.iload 6, 2) := dk_21 6 (dk_at dksX1_sale_9 2 rfl rfl)
theorem dX1_sale_213 : decode cX1_sale 213 = .ok (.iload 12, 2) := dk_21 12 (dk_at dksX1_sale_9 4 rfl rfl)
theorem dX1_sale_215 : decode cX1_sale 215 = .ok (.invokestatic 336, 3) := dk_184 1 80 (dk_at dksX1_sale_9 6 rfl rfl)
theorem dX1_sale_218 : decode cX1_sale 218 = .ok (.istore 6, 2) := dk_54 6 (dk_at dksX1_sale_9 9 rfl rfl)
theorem dX1_sale_220 : decode cX1_sale 220 = .ok (.iload 7, 2) := dk_21 7 (dk_at dksX1_sale_9 11 rfl rfl)
theorem dX1_sale_222 : decode cX1_sale 222 = .ok (.iload 10, 2) := dk_21 10 (dk_at dksX1_sale_9 13 rfl rfl)
theorem dX1_sale_224 : decode cX1_sale 224 = .ok (.iadd, 1) := dk_96 (dk_at dksX1_sale_9 15 rfl rfl)
theorem dX1_sale_225 : decode cX1_sale 225 = .ok (.istore 7, 2) := dk_54 7 (dk_at dksX1_sale_9 16 rfl rfl)
theorem dX1_sale_227 : decode cX1_sale 227 = .ok (.iinc 8 1, 3) := dk_132 8 1 (dk_at dksX1_sale_9 18 rfl rfl)
theorem dX1_sale_230 : decode cX1_sale 230 = .ok (.goto (-121), 3) := dk_167 255 135 (dk_at dksX1_sale_9 21 rfl rfl)
theorem dX1_sale_233 : decode cX1_sale 233 = .ok (.iload 6, 2) := dk_21 6 (dk_at dksX1_sale_10 0 rfl rfl)
theorem dX1_sale_235 : decode cX1_sale 235 = .ok (.bipush 8, 2) := dk_16 8 (dk_at dksX1_sale_10 2 rfl rfl)
theorem dX1_sale_237 : decode cX1_sale 237 = .ok (.if_icmp .ge 6, 3) := dk_162 0 6 (dk_at dksX1_sale_10 4 rfl rfl)
theorem dX1_sale_240 : decode cX1_sale 240 = .ok (.iload 6, 2) := dk_21 6 (dk_at dksX1_sale_10 7 rfl rfl)
theorem dX1_sale_242 : decode cX1_sale 242 = .ok (.ireturn, 1) := dk_172 (dk_at dksX1_sale_10 9 rfl rfl)
theorem dX1_sale_243 : decode cX1_sale 243 = .ok (.iload 7, 2) := dk_21 7 (dk_at dksX1_sale_10 10 rfl rfl)
theorem dX1_sale_245 : decode cX1_sale 245 = .ok (.iload 4, 2) := dk_21 4 (dk_at dksX1_sale_10 12 rfl rfl)
theorem dX1_sale_247 : decode cX1_sale 247 = .ok (.if_icmp .ge 6, 3) := dk_162 0 6 (dk_at dksX1_sale_10 14 rfl rfl)
theorem dX1_sale_250 : decode cX1_sale 250 = .ok (.bipush 7, 2) := dk_16 7 (dk_at dksX1_sale_10 17 rfl rfl)
theorem dX1_sale_252 : decode cX1_sale 252 = .ok (.ireturn, 1) := dk_172 (dk_at dksX1_sale_10 19 rfl rfl)
theorem dX1_sale_253 : decode cX1_sale 253 = .ok (.aload_n 0, 1) := dk_42 (dk_at dksX1_sale_10 20 rfl rfl)
theorem dX1_sale_254 : decode cX1_sale 254 = .ok (.invokevirtual 264, 3) := dk_182 1 8 (dk_at dksX1_sale_10 21 rfl rfl)
theorem dX1_sale_257 : decode cX1_sale 257 = .ok (.aload_n 0, 1) := dk_42 (dk_at dksX1_sale_11 0 rfl rfl)
theorem dX1_sale_258 : decode cX1_sale 258 = .ok (.iload_n 1, 1) := dk_27 (dk_at dksX1_sale_11 1 rfl rfl)
theorem dX1_sale_259 : decode cX1_sale 259 = .ok (.iload_n 2, 1) := dk_28 (dk_at dksX1_sale_11 2 rfl rfl)
theorem dX1_sale_260 : decode cX1_sale 260 = .ok (.iload_n 3, 1) := dk_29 (dk_at dksX1_sale_11 3 rfl rfl)
theorem dX1_sale_261 : decode cX1_sale 261 = .ok (.iload 4, 2) := dk_21 4 (dk_at dksX1_sale_11 4 rfl rfl)
theorem dX1_sale_263 : decode cX1_sale 263 = .ok (.aload_n 0, 1) := dk_42 (dk_at dksX1_sale_11 6 rfl rfl)
theorem dX1_sale_264 : decode cX1_sale 264 = .ok (.getfield 142, 3) := dk_180 0 142 (dk_at dksX1_sale_11 7 rfl rfl)
theorem dX1_sale_267 : decode cX1_sale 267 = .ok (.iload 7, 2) := dk_21 7 (dk_at dksX1_sale_11 10 rfl rfl)
theorem dX1_sale_269 : decode cX1_sale 269 = .ok (.invokevirtual 342, 3) := dk_182 1 86 (dk_at dksX1_sale_11 12 rfl rfl)
theorem dX1_sale_272 : decode cX1_sale 272 = .ok (.istore 8, 2) := dk_54 8 (dk_at dksX1_sale_11 15 rfl rfl)
theorem dX1_sale_274 : decode cX1_sale 274 = .ok (.iconst 0, 1) := dk_3 (dk_at dksX1_sale_11 17 rfl rfl)
theorem dX1_sale_275 : decode cX1_sale 275 = .ok (.istore 9, 2) := dk_54 9 (dk_at dksX1_sale_11 18 rfl rfl)
theorem dX1_sale_277 : decode cX1_sale 277 = .ok (.iload 9, 2) := dk_21 9 (dk_at dksX1_sale_11 20 rfl rfl)
theorem dX1_sale_279 : decode cX1_sale 279 = .ok (.aload_n 0, 1) := dk_42 (dk_at dksX1_sale_11 22 rfl rfl)
theorem dX1_sale_280 : decode cX1_sale 280 = .ok (.getfield 142, 3) := dk_180 0 142 (dk_at dksX1_sale_12 0 rfl rfl)
theorem dX1_sale_283 : decode cX1_sale 283 = .ok (.if_icmp .ge 23, 3) := dk_162 0 23 (dk_at dksX1_sale_12 3 rfl rfl)
theorem dX1_sale_286 : decode cX1_sale 286 = .ok (.aload_n 0, 1) := dk_42 (dk_at dksX1_sale_12 6 rfl rfl)
theorem dX1_sale_287 : decode cX1_sale 287 = .ok (.aload_n 0, 1) := dk_42 (dk_at dksX1_sale_12 7 rfl rfl)
theorem dX1_sale_288 : decode cX1_sale 288 = .ok (.iload 9, 2) := dk_21 9 (dk_at dksX1_sale_12 8 rfl rfl)
theorem dX1_sale_290 : decode cX1_sale 290 = .ok (.invokevirtual 329, 3) := dk_182 1 73 (dk_at dksX1_sale_12 10 rfl rfl)
theorem dX1_sale_293 : decode cX1_sale 293 = .ok (.iload_n 2, 1) := dk_28 (dk_at dksX1_sale_12 13 rfl rfl)
theorem dX1_sale_294 : decode cX1_sale 294 = .ok (.iload_n 3, 1) := dk_29 (dk_at dksX1_sale_12 14 rfl rfl)
theorem dX1_sale_295 : decode cX1_sale 295 = .ok (.iload 8, 2) := dk_21 8 (dk_at dksX1_sale_12 15 rfl rfl)
theorem dX1_sale_297 : decode cX1_sale 297 = .ok (.invokevirtual 346, 3) := dk_182 1 90 (dk_at dksX1_sale_12 17 rfl rfl)
theorem dX1_sale_300 : decode cX1_sale 300 = .ok (.iinc 9 1, 3) := dk_132 9 1 (dk_at dksX1_sale_12 20 rfl rfl)
theorem dX1_sale_303 : decode cX1_sale 303 = .ok (.goto (-26), 3) := dk_167 255 230 (dk_at dksX1_sale_13 0 rfl rfl)
theorem dX1_sale_306 : decode cX1_sale 306 = .ok (.iconst 0, 1) := dk_3 (dk_at dksX1_sale_13 3 rfl rfl)
theorem dX1_sale_307 : decode cX1_sale 307 = .ok (.ireturn, 1) := dk_172 (dk_at dksX1_sale_13 4 rfl rfl)
abbrev cX1_areCoins : ByteArray := prog_1_method_28_code
def yX1_areCoins : MethodName := ⟨RX1, "areCoins", "()Z"⟩
def dkwX1_areCoins_3 : List UInt8 := [132, 1, 1, 167, 255, 203, 4, 172]
abbrev dktX1_areCoins_3 : List UInt8 := dkwX1_areCoins_3 ++ []
def dkwX1_areCoins_2 : List UInt8 := [162, 0, 24, 42, 28, 182, 1, 73, 42, 27, 182, 1, 73, 160, 0, 5, 3, 172, 132, 2, 1, 167, 255, 233]
abbrev dktX1_areCoins_2 : List UInt8 := dkwX1_areCoins_2 ++ dktX1_areCoins_3
def dkwX1_areCoins_1 : List UInt8 := [180, 0, 142, 162, 0, 51, 42, 42, 27, 182, 1, 73, 182, 1, 22, 154, 0, 5, 3, 172, 3, 61, 28, 27]
abbrev dktX1_areCoins_1 : List UInt8 := dkwX1_areCoins_1 ++ dktX1_areCoins_2
def dkwX1_areCoins_0 : List UInt8 := [42, 180, 0, 142, 153, 0, 12, 42, 180, 0, 142, 16, 40, 164, 0, 5, 3, 172, 3, 60, 27, 42]
abbrev dktX1_areCoins_0 : List UInt8 := dkwX1_areCoins_0 ++ dktX1_areCoins_1
theorem dksX1_areCoins_0 : cX1_areCoins.data.toList.drop 0 = dktX1_areCoins_0 := by decide +kernel
theorem dksX1_areCoins_1 : cX1_areCoins.data.toList.drop 22 = dktX1_areCoins_1 := dk_seg dksX1_areCoins_0 22 rfl rfl
theorem dksX1_areCoins_2 : cX1_areCoins.data.toList.drop 46 = dktX1_areCoins_2 := dk_seg dksX1_areCoins_1 24 rfl rfl
theorem dksX1_areCoins_3 : cX1_areCoins.data.toList.drop 70 = dktX1_areCoins_3 := dk_seg dksX1_areCoins_2 24 rfl rfl
theorem dX1_areCoins_0 : decode cX1_areCoins 0 = .ok (.aload_n 0, 1) := dk_42 (dk_at dksX1_areCoins_0 0 rfl rfl)
theorem dX1_areCoins_1 : decode cX1_areCoins 1 = .ok (.getfield 142, 3) := dk_180 0 142 (dk_at dksX1_areCoins_0 1 rfl rfl)
theorem dX1_areCoins_4 : decode cX1_areCoins 4 = .ok (.ifCond .eq 12, 3) := dk_153 0 12 (dk_at dksX1_areCoins_0 4 rfl rfl)
theorem dX1_areCoins_7 : decode cX1_areCoins 7 = .ok (.aload_n 0, 1) := dk_42 (dk_at dksX1_areCoins_0 7 rfl rfl)
theorem dX1_areCoins_8 : decode cX1_areCoins 8 = .ok (.getfield 142, 3) := dk_180 0 142 (dk_at dksX1_areCoins_0 8 rfl rfl)
theorem dX1_areCoins_11 : decode cX1_areCoins 11 = .ok (.bipush 40, 2) := dk_16 40 (dk_at dksX1_areCoins_0 11 rfl rfl)
theorem dX1_areCoins_13 : decode cX1_areCoins 13 = .ok (.if_icmp .le 5, 3) := dk_164 0 5 (dk_at dksX1_areCoins_0 13 rfl rfl)
theorem dX1_areCoins_16 : decode cX1_areCoins 16 = .ok (.iconst 0, 1) := dk_3 (dk_at dksX1_areCoins_0 16 rfl rfl)
theorem dX1_areCoins_17 : decode cX1_areCoins 17 = .ok (.ireturn, 1) := dk_172 (dk_at dksX1_areCoins_0 17 rfl rfl)
theorem dX1_areCoins_18 : decode cX1_areCoins 18 = .ok (.iconst 0, 1) := dk_3 (dk_at dksX1_areCoins_0 18 rfl rfl)
theorem dX1_areCoins_19 : decode cX1_areCoins 19 = .ok (.istore_n 1, 1) := dk_60 (dk_at dksX1_areCoins_0 19 rfl rfl)
theorem dX1_areCoins_20 : decode cX1_areCoins 20 = .ok (.iload_n 1, 1) := dk_27 (dk_at dksX1_areCoins_0 20 rfl rfl)
theorem dX1_areCoins_21 : decode cX1_areCoins 21 = .ok (.aload_n 0, 1) := dk_42 (dk_at dksX1_areCoins_0 21 rfl rfl)
theorem dX1_areCoins_22 : decode cX1_areCoins 22 = .ok (.getfield 142, 3) := dk_180 0 142 (dk_at dksX1_areCoins_1 0 rfl rfl)
theorem dX1_areCoins_25 : decode cX1_areCoins 25 = .ok (.if_icmp .ge 51, 3) := dk_162 0 51 (dk_at dksX1_areCoins_1 3 rfl rfl)
theorem dX1_areCoins_28 : decode cX1_areCoins 28 = .ok (.aload_n 0, 1) := dk_42 (dk_at dksX1_areCoins_1 6 rfl rfl)
theorem dX1_areCoins_29 : decode cX1_areCoins 29 = .ok (.aload_n 0, 1) := dk_42 (dk_at dksX1_areCoins_1 7 rfl rfl)
theorem dX1_areCoins_30 : decode cX1_areCoins 30 = .ok (.iload_n 1, 1) := dk_27 (dk_at dksX1_areCoins_1 8 rfl rfl)
theorem dX1_areCoins_31 : decode cX1_areCoins 31 = .ok (.invokevirtual 329, 3) := dk_182 1 73 (dk_at dksX1_areCoins_1 9 rfl rfl)
theorem dX1_areCoins_34 : decode cX1_areCoins 34 = .ok (.invokevirtual 278, 3) := dk_182 1 22 (dk_at dksX1_areCoins_1 12 rfl rfl)
theorem dX1_areCoins_37 : decode cX1_areCoins 37 = .ok (.ifCond .ne 5, 3) := dk_154 0 5 (dk_at dksX1_areCoins_1 15 rfl rfl)
theorem dX1_areCoins_40 : decode cX1_areCoins 40 = .ok (.iconst 0, 1) := dk_3 (dk_at dksX1_areCoins_1 18 rfl rfl)
theorem dX1_areCoins_41 : decode cX1_areCoins 41 = .ok (.ireturn, 1) := dk_172 (dk_at dksX1_areCoins_1 19 rfl rfl)
theorem dX1_areCoins_42 : decode cX1_areCoins 42 = .ok (.iconst 0, 1) := dk_3 (dk_at dksX1_areCoins_1 20 rfl rfl)
theorem dX1_areCoins_43 : decode cX1_areCoins 43 = .ok (.istore_n 2, 1) := dk_61 (dk_at dksX1_areCoins_1 21 rfl rfl)
theorem dX1_areCoins_44 : decode cX1_areCoins 44 = .ok (.iload_n 2, 1) := dk_28 (dk_at dksX1_areCoins_1 22 rfl rfl)
theorem dX1_areCoins_45 : decode cX1_areCoins 45 = .ok (.iload_n 1, 1) := dk_27 (dk_at dksX1_areCoins_1 23 rfl rfl)
theorem dX1_areCoins_46 : decode cX1_areCoins 46 = .ok (.if_icmp .ge 24, 3) := dk_162 0 24 (dk_at dksX1_areCoins_2 0 rfl rfl)
theorem dX1_areCoins_49 : decode cX1_areCoins 49 = .ok (.aload_n 0, 1) := dk_42 (dk_at dksX1_areCoins_2 3 rfl rfl)
theorem dX1_areCoins_50 : decode cX1_areCoins 50 = .ok (.iload_n 2, 1) := dk_28 (dk_at dksX1_areCoins_2 4 rfl rfl)
theorem dX1_areCoins_51 : decode cX1_areCoins 51 = .ok (.invokevirtual 329, 3) := dk_182 1 73 (dk_at dksX1_areCoins_2 5 rfl rfl)
theorem dX1_areCoins_54 : decode cX1_areCoins 54 = .ok (.aload_n 0, 1) := dk_42 (dk_at dksX1_areCoins_2 8 rfl rfl)
theorem dX1_areCoins_55 : decode cX1_areCoins 55 = .ok (.iload_n 1, 1) := dk_27 (dk_at dksX1_areCoins_2 9 rfl rfl)
theorem dX1_areCoins_56 : decode cX1_areCoins 56 = .ok (.invokevirtual 329, 3) := dk_182 1 73 (dk_at dksX1_areCoins_2 10 rfl rfl)
theorem dX1_areCoins_59 : decode cX1_areCoins 59 = .ok (.if_icmp .ne 5, 3) := dk_160 0 5 (dk_at dksX1_areCoins_2 13 rfl rfl)
theorem dX1_areCoins_62 : decode cX1_areCoins 62 = .ok (.iconst 0, 1) := dk_3 (dk_at dksX1_areCoins_2 16 rfl rfl)
theorem dX1_areCoins_63 : decode cX1_areCoins 63 = .ok (.ireturn, 1) := dk_172 (dk_at dksX1_areCoins_2 17 rfl rfl)
theorem dX1_areCoins_64 : decode cX1_areCoins 64 = .ok (.iinc 2 1, 3) := dk_132 2 1 (dk_at dksX1_areCoins_2 18 rfl rfl)
theorem dX1_areCoins_67 : decode cX1_areCoins 67 = .ok (.goto (-23), 3) := dk_167 255 233 (dk_at dksX1_areCoins_2 21 rfl rfl)
theorem dX1_areCoins_70 : decode cX1_areCoins 70 = .ok (.iinc 1 1, 3) := dk_132 1 1 (dk_at dksX1_areCoins_3 0 rfl rfl)
theorem dX1_areCoins_73 : decode cX1_areCoins 73 = .ok (.goto (-53), 3) := dk_167 255 203 (dk_at dksX1_areCoins_3 3 rfl rfl)
theorem dX1_areCoins_76 : decode cX1_areCoins 76 = .ok (.iconst 1, 1) := dk_4 (dk_at dksX1_areCoins_3 6 rfl rfl)
theorem dX1_areCoins_77 : decode cX1_areCoins 77 = .ok (.ireturn, 1) := dk_172 (dk_at dksX1_areCoins_3 7 rfl rfl)
abbrev cX1_one : ByteArray := prog_1_method_6_code
def yX1_one : MethodName := ⟨RX1, "one", "(I)I"⟩
def dkwX1_one_0 : List UInt8 := [42, 180, 0, 9, 27, 51, 17, 0, 255, 126, 172]
abbrev dktX1_one_0 : List UInt8 := dkwX1_one_0 ++ []
theorem dksX1_one_0 : cX1_one.data.toList.drop 0 = dktX1_one_0 := by decide +kernel
theorem dX1_one_0 : decode cX1_one 0 = .ok (.aload_n 0, 1) := dk_42 (dk_at dksX1_one_0 0 rfl rfl)
theorem dX1_one_1 : decode cX1_one 1 = .ok (.getfield 9, 3) := dk_180 0 9 (dk_at dksX1_one_0 1 rfl rfl)
theorem dX1_one_4 : decode cX1_one 4 = .ok (.iload_n 1, 1) := dk_27 (dk_at dksX1_one_0 4 rfl rfl)
theorem dX1_one_5 : decode cX1_one 5 = .ok (.baload, 1) := dk_51 (dk_at dksX1_one_0 5 rfl rfl)
theorem dX1_one_6 : decode cX1_one 6 = .ok (.sipush 255, 3) := dk_17 0 255 (dk_at dksX1_one_0 6 rfl rfl)
theorem dX1_one_9 : decode cX1_one 9 = .ok (.iand, 1) := dk_126 (dk_at dksX1_one_0 9 rfl rfl)
theorem dX1_one_10 : decode cX1_one 10 = .ok (.ireturn, 1) := dk_172 (dk_at dksX1_one_0 10 rfl rfl)
abbrev cX1_sell : ByteArray := prog_1_method_26_code
def yX1_sell : MethodName := ⟨RX1, "sell", "(IIIIII)I"⟩
def dkwX1_sell_4 : List UInt8 := [79, 42, 180, 0, 70, 89, 180, 1, 46, 4, 96, 181, 1, 46, 21, 7, 172]
abbrev dktX1_sell_4 : List UInt8 := dkwX1_sell_4 ++ []
def dkwX1_sell_3 : List UInt8 := [79, 42, 180, 0, 70, 180, 1, 67, 21, 7, 21, 5, 79, 42, 180, 0, 70, 180, 1, 70, 21, 7, 21, 6]
abbrev dktX1_sell_3 : List UInt8 := dkwX1_sell_3 ++ dktX1_sell_4
def dkwX1_sell_2 : List UInt8 := [180, 1, 58, 21, 7, 21, 4, 79, 42, 180, 0, 70, 180, 1, 61, 21, 7, 42, 180, 0, 70, 180, 1, 64]
abbrev dktX1_sell_2 : List UInt8 := dkwX1_sell_2 ++ dktX1_sell_3
def dkwX1_sell_1 : List UInt8 := [180, 1, 52, 21, 7, 28, 79, 42, 180, 0, 70, 180, 1, 55, 21, 7, 29, 79, 42, 180, 0, 70]
abbrev dktX1_sell_1 : List UInt8 := dkwX1_sell_1 ++ dktX1_sell_2
def dkwX1_sell_0 : List UInt8 := [42, 180, 0, 70, 180, 1, 46, 54, 7, 42, 180, 0, 70, 180, 1, 49, 21, 7, 27, 79, 42, 180, 0, 70]
abbrev dktX1_sell_0 : List UInt8 := dkwX1_sell_0 ++ dktX1_sell_1
theorem dksX1_sell_0 : cX1_sell.data.toList.drop 0 = dktX1_sell_0 := by decide +kernel
theorem dksX1_sell_1 : cX1_sell.data.toList.drop 24 = dktX1_sell_1 := dk_seg dksX1_sell_0 24 rfl rfl
theorem dksX1_sell_2 : cX1_sell.data.toList.drop 46 = dktX1_sell_2 := dk_seg dksX1_sell_1 22 rfl rfl
theorem dksX1_sell_3 : cX1_sell.data.toList.drop 70 = dktX1_sell_3 := dk_seg dksX1_sell_2 24 rfl rfl
theorem dksX1_sell_4 : cX1_sell.data.toList.drop 94 = dktX1_sell_4 := dk_seg dksX1_sell_3 24 rfl rfl
theorem dX1_sell_0 : decode cX1_sell 0 = .ok (.aload_n 0, 1) := dk_42 (dk_at dksX1_sell_0 0 rfl rfl)
theorem dX1_sell_1 : decode cX1_sell 1 = .ok (.getfield 70, 3) := dk_180 0 70 (dk_at dksX1_sell_0 1 rfl rfl)
theorem dX1_sell_4 : decode cX1_sell 4 = .ok (.getfield 302, 3) := dk_180 1 46 (dk_at dksX1_sell_0 4 rfl rfl)
theorem dX1_sell_7 : decode cX1_sell 7 = .ok (.istore 7, 2) := dk_54 7 (dk_at dksX1_sell_0 7 rfl rfl)
theorem dX1_sell_9 : decode cX1_sell 9 = .ok (.aload_n 0, 1) := dk_42 (dk_at dksX1_sell_0 9 rfl rfl)
theorem dX1_sell_10 : decode cX1_sell 10 = .ok (.getfield 70, 3) := dk_180 0 70 (dk_at dksX1_sell_0 10 rfl rfl)
theorem dX1_sell_13 : decode cX1_sell 13 = .ok (.getfield 305, 3) := dk_180 1 49 (dk_at dksX1_sell_0 13 rfl rfl)
theorem dX1_sell_16 : decode cX1_sell 16 = .ok (.iload 7, 2) := dk_21 7 (dk_at dksX1_sell_0 16 rfl rfl)
theorem dX1_sell_18 : decode cX1_sell 18 = .ok (.iload_n 1, 1) := dk_27 (dk_at dksX1_sell_0 18 rfl rfl)
theorem dX1_sell_19 : decode cX1_sell 19 = .ok (.iastore, 1) := dk_79 (dk_at dksX1_sell_0 19 rfl rfl)
theorem dX1_sell_20 : decode cX1_sell 20 = .ok (.aload_n 0, 1) := dk_42 (dk_at dksX1_sell_0 20 rfl rfl)
theorem dX1_sell_21 : decode cX1_sell 21 = .ok (.getfield 70, 3) := dk_180 0 70 (dk_at dksX1_sell_0 21 rfl rfl)
theorem dX1_sell_24 : decode cX1_sell 24 = .ok (.getfield 308, 3) := dk_180 1 52 (dk_at dksX1_sell_1 0 rfl rfl)
theorem dX1_sell_27 : decode cX1_sell 27 = .ok (.iload 7, 2) := dk_21 7 (dk_at dksX1_sell_1 3 rfl rfl)
theorem dX1_sell_29 : decode cX1_sell 29 = .ok (.iload_n 2, 1) := dk_28 (dk_at dksX1_sell_1 5 rfl rfl)
theorem dX1_sell_30 : decode cX1_sell 30 = .ok (.iastore, 1) := dk_79 (dk_at dksX1_sell_1 6 rfl rfl)
theorem dX1_sell_31 : decode cX1_sell 31 = .ok (.aload_n 0, 1) := dk_42 (dk_at dksX1_sell_1 7 rfl rfl)
theorem dX1_sell_32 : decode cX1_sell 32 = .ok (.getfield 70, 3) := dk_180 0 70 (dk_at dksX1_sell_1 8 rfl rfl)
theorem dX1_sell_35 : decode cX1_sell 35 = .ok (.getfield 311, 3) := dk_180 1 55 (dk_at dksX1_sell_1 11 rfl rfl)
theorem dX1_sell_38 : decode cX1_sell 38 = .ok (.iload 7, 2) := dk_21 7 (dk_at dksX1_sell_1 14 rfl rfl)
theorem dX1_sell_40 : decode cX1_sell 40 = .ok (.iload_n 3, 1) := dk_29 (dk_at dksX1_sell_1 16 rfl rfl)
theorem dX1_sell_41 : decode cX1_sell 41 = .ok (.iastore, 1) := dk_79 (dk_at dksX1_sell_1 17 rfl rfl)
theorem dX1_sell_42 : decode cX1_sell 42 = .ok (.aload_n 0, 1) := dk_42 (dk_at dksX1_sell_1 18 rfl rfl)
theorem dX1_sell_43 : decode cX1_sell 43 = .ok (.getfield 70, 3) := dk_180 0 70 (dk_at dksX1_sell_1 19 rfl rfl)
theorem dX1_sell_46 : decode cX1_sell 46 = .ok (.getfield 314, 3) := dk_180 1 58 (dk_at dksX1_sell_2 0 rfl rfl)
theorem dX1_sell_49 : decode cX1_sell 49 = .ok (.iload 7, 2) := dk_21 7 (dk_at dksX1_sell_2 3 rfl rfl)
theorem dX1_sell_51 : decode cX1_sell 51 = .ok (.iload 4, 2) := dk_21 4 (dk_at dksX1_sell_2 5 rfl rfl)
theorem dX1_sell_53 : decode cX1_sell 53 = .ok (.iastore, 1) := dk_79 (dk_at dksX1_sell_2 7 rfl rfl)
theorem dX1_sell_54 : decode cX1_sell 54 = .ok (.aload_n 0, 1) := dk_42 (dk_at dksX1_sell_2 8 rfl rfl)
theorem dX1_sell_55 : decode cX1_sell 55 = .ok (.getfield 70, 3) := dk_180 0 70 (dk_at dksX1_sell_2 9 rfl rfl)
theorem dX1_sell_58 : decode cX1_sell 58 = .ok (.getfield 317, 3) := dk_180 1 61 (dk_at dksX1_sell_2 12 rfl rfl)
theorem dX1_sell_61 : decode cX1_sell 61 = .ok (.iload 7, 2) := dk_21 7 (dk_at dksX1_sell_2 15 rfl rfl)
theorem dX1_sell_63 : decode cX1_sell 63 = .ok (.aload_n 0, 1) := dk_42 (dk_at dksX1_sell_2 17 rfl rfl)
theorem dX1_sell_64 : decode cX1_sell 64 = .ok (.getfield 70, 3) := dk_180 0 70 (dk_at dksX1_sell_2 18 rfl rfl)
theorem dX1_sell_67 : decode cX1_sell 67 = .ok (.getfield 320, 3) := dk_180 1 64 (dk_at dksX1_sell_2 21 rfl rfl)
theorem dX1_sell_70 : decode cX1_sell 70 = .ok (.iastore, 1) := dk_79 (dk_at dksX1_sell_3 0 rfl rfl)
theorem dX1_sell_71 : decode cX1_sell 71 = .ok (.aload_n 0, 1) := dk_42 (dk_at dksX1_sell_3 1 rfl rfl)
theorem dX1_sell_72 : decode cX1_sell 72 = .ok (.getfield 70, 3) := dk_180 0 70 (dk_at dksX1_sell_3 2 rfl rfl)
theorem dX1_sell_75 : decode cX1_sell 75 = .ok (.getfield 323, 3) := dk_180 1 67 (dk_at dksX1_sell_3 5 rfl rfl)
theorem dX1_sell_78 : decode cX1_sell 78 = .ok (.iload 7, 2) := dk_21 7 (dk_at dksX1_sell_3 8 rfl rfl)
theorem dX1_sell_80 : decode cX1_sell 80 = .ok (.iload 5, 2) := dk_21 5 (dk_at dksX1_sell_3 10 rfl rfl)
theorem dX1_sell_82 : decode cX1_sell 82 = .ok (.iastore, 1) := dk_79 (dk_at dksX1_sell_3 12 rfl rfl)
theorem dX1_sell_83 : decode cX1_sell 83 = .ok (.aload_n 0, 1) := dk_42 (dk_at dksX1_sell_3 13 rfl rfl)
theorem dX1_sell_84 : decode cX1_sell 84 = .ok (.getfield 70, 3) := dk_180 0 70 (dk_at dksX1_sell_3 14 rfl rfl)
theorem dX1_sell_87 : decode cX1_sell 87 = .ok (.getfield 326, 3) := dk_180 1 70 (dk_at dksX1_sell_3 17 rfl rfl)
theorem dX1_sell_90 : decode cX1_sell 90 = .ok (.iload 7, 2) := dk_21 7 (dk_at dksX1_sell_3 20 rfl rfl)
theorem dX1_sell_92 : decode cX1_sell 92 = .ok (.iload 6, 2) := dk_21 6 (dk_at dksX1_sell_3 22 rfl rfl)
theorem dX1_sell_94 : decode cX1_sell 94 = .ok (.iastore, 1) := dk_79 (dk_at dksX1_sell_4 0 rfl rfl)
theorem dX1_sell_95 : decode cX1_sell 95 = .ok (.aload_n 0, 1) := dk_42 (dk_at dksX1_sell_4 1 rfl rfl)
theorem dX1_sell_96 : decode cX1_sell 96 = .ok (.getfield 70, 3) := dk_180 0 70 (dk_at dksX1_sell_4 2 rfl rfl)
theorem dX1_sell_99 : decode cX1_sell 99 = .ok (.dup, 1) := dk_89 (dk_at dksX1_sell_4 5 rfl rfl)
theorem dX1_sell_100 : decode cX1_sell 100 = .ok (.getfield 302, 3) := dk_180 1 46 (dk_at dksX1_sell_4 6 rfl rfl)
theorem dX1_sell_103 : decode cX1_sell 103 = .ok (.iconst 1, 1) := dk_4 (dk_at dksX1_sell_4 9 rfl rfl)
theorem dX1_sell_104 : decode cX1_sell 104 = .ok (.iadd, 1) := dk_96 (dk_at dksX1_sell_4 10 rfl rfl)
theorem dX1_sell_105 : decode cX1_sell 105 = .ok (.putfield 302, 3) := dk_181 1 46 (dk_at dksX1_sell_4 11 rfl rfl)
theorem dX1_sell_108 : decode cX1_sell 108 = .ok (.iload 7, 2) := dk_21 7 (dk_at dksX1_sell_4 14 rfl rfl)
theorem dX1_sell_110 : decode cX1_sell 110 = .ok (.ireturn, 1) := dk_172 (dk_at dksX1_sell_4 16 rfl rfl)
abbrev cX1_passes : ByteArray := prog_1_method_27_code
def yX1_passes : MethodName := ⟨RX1, "passes", "(IIII)V"⟩
def dkwX1_passes_0 : List UInt8 := [42, 180, 0, 70, 27, 28, 29, 21, 4, 3, 182, 1, 18, 42, 180, 0, 70, 180, 0, 228, 27, 28, 79, 177]
abbrev dktX1_passes_0 : List UInt8 := dkwX1_passes_0 ++ []
theorem dksX1_passes_0 : cX1_passes.data.toList.drop 0 = dktX1_passes_0 := by decide +kernel
theorem dX1_passes_0 : decode cX1_passes 0 = .ok (.aload_n 0, 1) := dk_42 (dk_at dksX1_passes_0 0 rfl rfl)
theorem dX1_passes_1 : decode cX1_passes 1 = .ok (.getfield 70, 3) := dk_180 0 70 (dk_at dksX1_passes_0 1 rfl rfl)
theorem dX1_passes_4 : decode cX1_passes 4 = .ok (.iload_n 1, 1) := dk_27 (dk_at dksX1_passes_0 4 rfl rfl)
theorem dX1_passes_5 : decode cX1_passes 5 = .ok (.iload_n 2, 1) := dk_28 (dk_at dksX1_passes_0 5 rfl rfl)
theorem dX1_passes_6 : decode cX1_passes 6 = .ok (.iload_n 3, 1) := dk_29 (dk_at dksX1_passes_0 6 rfl rfl)
theorem dX1_passes_7 : decode cX1_passes 7 = .ok (.iload 4, 2) := dk_21 4 (dk_at dksX1_passes_0 7 rfl rfl)
theorem dX1_passes_9 : decode cX1_passes 9 = .ok (.iconst 0, 1) := dk_3 (dk_at dksX1_passes_0 9 rfl rfl)
theorem dX1_passes_10 : decode cX1_passes 10 = .ok (.invokevirtual 274, 3) := dk_182 1 18 (dk_at dksX1_passes_0 10 rfl rfl)
theorem dX1_passes_13 : decode cX1_passes 13 = .ok (.aload_n 0, 1) := dk_42 (dk_at dksX1_passes_0 13 rfl rfl)
theorem dX1_passes_14 : decode cX1_passes 14 = .ok (.getfield 70, 3) := dk_180 0 70 (dk_at dksX1_passes_0 14 rfl rfl)
theorem dX1_passes_17 : decode cX1_passes 17 = .ok (.getfield 228, 3) := dk_180 0 228 (dk_at dksX1_passes_0 17 rfl rfl)
theorem dX1_passes_20 : decode cX1_passes 20 = .ok (.iload_n 1, 1) := dk_27 (dk_at dksX1_passes_0 20 rfl rfl)
theorem dX1_passes_21 : decode cX1_passes 21 = .ok (.iload_n 2, 1) := dk_28 (dk_at dksX1_passes_0 21 rfl rfl)
theorem dX1_passes_22 : decode cX1_passes 22 = .ok (.iastore, 1) := dk_79 (dk_at dksX1_passes_0 22 rfl rfl)
theorem dX1_passes_23 : decode cX1_passes 23 = .ok (.return_, 1) := dk_177 (dk_at dksX1_passes_0 23 rfl rfl)
abbrev cX1_sales : ByteArray := prog_1_method_30_code
def yX1_sales : MethodName := ⟨RX1, "sales", "()I"⟩
def dkwX1_sales_0 : List UInt8 := [42, 180, 0, 70, 180, 1, 46, 172]
abbrev dktX1_sales_0 : List UInt8 := dkwX1_sales_0 ++ []
theorem dksX1_sales_0 : cX1_sales.data.toList.drop 0 = dktX1_sales_0 := by decide +kernel
theorem dX1_sales_0 : decode cX1_sales 0 = .ok (.aload_n 0, 1) := dk_42 (dk_at dksX1_sales_0 0 rfl rfl)
theorem dX1_sales_1 : decode cX1_sales 1 = .ok (.getfield 70, 3) := dk_180 0 70 (dk_at dksX1_sales_0 1 rfl rfl)
theorem dX1_sales_4 : decode cX1_sales 4 = .ok (.getfield 302, 3) := dk_180 1 46 (dk_at dksX1_sales_0 4 rfl rfl)
theorem dX1_sales_7 : decode cX1_sales 7 = .ok (.ireturn, 1) := dk_172 (dk_at dksX1_sales_0 7 rfl rfl)
abbrev cX1_payment : ByteArray := prog_1_method_37_code
def yX1_payment : MethodName := ⟨RX1, "payment", "(IIII)I"⟩
def dkwX1_payment_1 : List UInt8 := [153, 0, 16, 42, 180, 0, 94, 21, 4, 46, 16, 64, 108, 167, 0, 4, 2, 172]
abbrev dktX1_payment_1 : List UInt8 := dkwX1_payment_1 ++ []
def dkwX1_payment_0 : List UInt8 := [42, 27, 28, 29, 21, 4, 182, 1, 113, 154, 0, 6, 16, 254, 172, 42, 27, 28, 29, 21, 4, 182, 1, 117]
abbrev dktX1_payment_0 : List UInt8 := dkwX1_payment_0 ++ dktX1_payment_1
theorem dksX1_payment_0 : cX1_payment.data.toList.drop 0 = dktX1_payment_0 := by decide +kernel
theorem dksX1_payment_1 : cX1_payment.data.toList.drop 24 = dktX1_payment_1 := dk_seg dksX1_payment_0 24 rfl rfl
theorem dX1_payment_0 : decode cX1_payment 0 = .ok (.aload_n 0, 1) := dk_42 (dk_at dksX1_payment_0 0 rfl rfl)
theorem dX1_payment_1 : decode cX1_payment 1 = .ok (.iload_n 1, 1) := dk_27 (dk_at dksX1_payment_0 1 rfl rfl)
theorem dX1_payment_2 : decode cX1_payment 2 = .ok (.iload_n 2, 1) := dk_28 (dk_at dksX1_payment_0 2 rfl rfl)
theorem dX1_payment_3 : decode cX1_payment 3 = .ok (.iload_n 3, 1) := dk_29 (dk_at dksX1_payment_0 3 rfl rfl)
theorem dX1_payment_4 : decode cX1_payment 4 = .ok (.iload 4, 2) := dk_21 4 (dk_at dksX1_payment_0 4 rfl rfl)
theorem dX1_payment_6 : decode cX1_payment 6 = .ok (.invokevirtual 369, 3) := dk_182 1 113 (dk_at dksX1_payment_0 6 rfl rfl)
theorem dX1_payment_9 : decode cX1_payment 9 = .ok (.ifCond .ne 6, 3) := dk_154 0 6 (dk_at dksX1_payment_0 9 rfl rfl)
theorem dX1_payment_12 : decode cX1_payment 12 = .ok (.bipush (-2), 2) := dk_16 254 (dk_at dksX1_payment_0 12 rfl rfl)
theorem dX1_payment_14 : decode cX1_payment 14 = .ok (.ireturn, 1) := dk_172 (dk_at dksX1_payment_0 14 rfl rfl)
theorem dX1_payment_15 : decode cX1_payment 15 = .ok (.aload_n 0, 1) := dk_42 (dk_at dksX1_payment_0 15 rfl rfl)
theorem dX1_payment_16 : decode cX1_payment 16 = .ok (.iload_n 1, 1) := dk_27 (dk_at dksX1_payment_0 16 rfl rfl)
theorem dX1_payment_17 : decode cX1_payment 17 = .ok (.iload_n 2, 1) := dk_28 (dk_at dksX1_payment_0 17 rfl rfl)
theorem dX1_payment_18 : decode cX1_payment 18 = .ok (.iload_n 3, 1) := dk_29 (dk_at dksX1_payment_0 18 rfl rfl)
theorem dX1_payment_19 : decode cX1_payment 19 = .ok (.iload 4, 2) := dk_21 4 (dk_at dksX1_payment_0 19 rfl rfl)
theorem dX1_payment_21 : decode cX1_payment 21 = .ok (.invokevirtual 373, 3) := dk_182 1 117 (dk_at dksX1_payment_0 21 rfl rfl)
theorem dX1_payment_24 : decode cX1_payment 24 = .ok (.ifCond .eq 16, 3) := dk_153 0 16 (dk_at dksX1_payment_1 0 rfl rfl)
theorem dX1_payment_27 : decode cX1_payment 27 = .ok (.aload_n 0, 1) := dk_42 (dk_at dksX1_payment_1 3 rfl rfl)
theorem dX1_payment_28 : decode cX1_payment 28 = .ok (.getfield 94, 3) := dk_180 0 94 (dk_at dksX1_payment_1 4 rfl rfl)
theorem dX1_payment_31 : decode cX1_payment 31 = .ok (.iload 4, 2) := dk_21 4 (dk_at dksX1_payment_1 7 rfl rfl)
theorem dX1_payment_33 : decode cX1_payment 33 = .ok (.iaload, 1) := dk_46 (dk_at dksX1_payment_1 9 rfl rfl)
theorem dX1_payment_34 : decode cX1_payment 34 = .ok (.bipush 64, 2) := dk_16 64 (dk_at dksX1_payment_1 10 rfl rfl)
theorem dX1_payment_36 : decode cX1_payment 36 = .ok (.idiv, 1) := dk_108 (dk_at dksX1_payment_1 12 rfl rfl)
theorem dX1_payment_37 : decode cX1_payment 37 = .ok (.goto 4, 3) := dk_167 0 4 (dk_at dksX1_payment_1 13 rfl rfl)
theorem dX1_payment_40 : decode cX1_payment 40 = .ok (.iconst (-1), 1) := dk_2 (dk_at dksX1_payment_1 16 rfl rfl)
theorem dX1_payment_41 : decode cX1_payment 41 = .ok (.ireturn, 1) := dk_172 (dk_at dksX1_payment_1 17 rfl rfl)
abbrev cX1_isPayment : ByteArray := prog_1_method_36_code
def yX1_isPayment : MethodName := ⟨RX1, "isPayment", "(IIII)Z"⟩
def dkwX1_isPayment_1 : List UInt8 := [182, 0, 233, 153, 0, 19, 21, 4, 4, 17, 7, 208, 184, 0, 189, 153, 0, 7, 4, 167, 0, 4, 3, 172]
abbrev dktX1_isPayment_1 : List UInt8 := dkwX1_isPayment_1 ++ []
def dkwX1_isPayment_0 : List UInt8 := [42, 27, 182, 1, 1, 153, 0, 40, 42, 28, 182, 1, 1, 153, 0, 32, 27, 28, 159, 0, 27, 42, 29]
abbrev dktX1_isPayment_0 : List UInt8 := dkwX1_isPayment_0 ++ dktX1_isPayment_1
theorem dksX1_isPayment_0 : cX1_isPayment.data.toList.drop 0 = dktX1_isPayment_0 := by decide +kernel
theorem dksX1_isPayment_1 : cX1_isPayment.data.toList.drop 23 = dktX1_isPayment_1 := dk_seg dksX1_isPayment_0 23 rfl rfl
theorem dX1_isPayment_0 : decode cX1_isPayment 0 = .ok (.aload_n 0, 1) := dk_42 (dk_at dksX1_isPayment_0 0 rfl rfl)
theorem dX1_isPayment_1 : decode cX1_isPayment 1 = .ok (.iload_n 1, 1) := dk_27 (dk_at dksX1_isPayment_0 1 rfl rfl)
theorem dX1_isPayment_2 : decode cX1_isPayment 2 = .ok (.invokevirtual 257, 3) := dk_182 1 1 (dk_at dksX1_isPayment_0 2 rfl rfl)
theorem dX1_isPayment_5 : decode cX1_isPayment 5 = .ok (.ifCond .eq 40, 3) := dk_153 0 40 (dk_at dksX1_isPayment_0 5 rfl rfl)
theorem dX1_isPayment_8 : decode cX1_isPayment 8 = .ok (.aload_n 0, 1) := dk_42 (dk_at dksX1_isPayment_0 8 rfl rfl)
theorem dX1_isPayment_9 : decode cX1_isPayment 9 = .ok (.iload_n 2, 1) := dk_28 (dk_at dksX1_isPayment_0 9 rfl rfl)
theorem dX1_isPayment_10 : decode cX1_isPayment 10 = .ok (.invokevirtual 257, 3) := dk_182 1 1 (dk_at dksX1_isPayment_0 10 rfl rfl)
theorem dX1_isPayment_13 : decode cX1_isPayment 13 = .ok (.ifCond .eq 32, 3) := dk_153 0 32 (dk_at dksX1_isPayment_0 13 rfl rfl)
theorem dX1_isPayment_16 : decode cX1_isPayment 16 = .ok (.iload_n 1, 1) := dk_27 (dk_at dksX1_isPayment_0 16 rfl rfl)
theorem dX1_isPayment_17 : decode cX1_isPayment 17 = .ok (.iload_n 2, 1) := dk_28 (dk_at dksX1_isPayment_0 17 rfl rfl)
theorem dX1_isPayment_18 : decode cX1_isPayment 18 = .ok (.if_icmp .eq 27, 3) := dk_159 0 27 (dk_at dksX1_isPayment_0 18 rfl rfl)
theorem dX1_isPayment_21 : decode cX1_isPayment 21 = .ok (.aload_n 0, 1) := dk_42 (dk_at dksX1_isPayment_0 21 rfl rfl)
theorem dX1_isPayment_22 : decode cX1_isPayment 22 = .ok (.iload_n 3, 1) := dk_29 (dk_at dksX1_isPayment_0 22 rfl rfl)
theorem dX1_isPayment_23 : decode cX1_isPayment 23 = .ok (.invokevirtual 233, 3) := dk_182 0 233 (dk_at dksX1_isPayment_1 0 rfl rfl)
theorem dX1_isPayment_26 : decode cX1_isPayment 26 = .ok (.ifCond .eq 19, 3) := dk_153 0 19 (dk_at dksX1_isPayment_1 3 rfl rfl)
theorem dX1_isPayment_29 : decode cX1_isPayment 29 = .ok (.iload 4, 2) := dk_21 4 (dk_at dksX1_isPayment_1 6 rfl rfl)
theorem dX1_isPayment_31 : decode cX1_isPayment 31 = .ok (.iconst 1, 1) := dk_4 (dk_at dksX1_isPayment_1 8 rfl rfl)
theorem dX1_isPayment_32 : decode cX1_isPayment 32 = .ok (.sipush 2000, 3) := dk_17 7 208 (dk_at dksX1_isPayment_1 9 rfl rfl)
theorem dX1_isPayment_35 : decode cX1_isPayment 35 = .ok (.invokestatic 189, 3) := dk_184 0 189 (dk_at dksX1_isPayment_1 12 rfl rfl)
theorem dX1_isPayment_38 : decode cX1_isPayment 38 = .ok (.ifCond .eq 7, 3) := dk_153 0 7 (dk_at dksX1_isPayment_1 15 rfl rfl)
theorem dX1_isPayment_41 : decode cX1_isPayment 41 = .ok (.iconst 1, 1) := dk_4 (dk_at dksX1_isPayment_1 18 rfl rfl)
theorem dX1_isPayment_42 : decode cX1_isPayment 42 = .ok (.goto 4, 3) := dk_167 0 4 (dk_at dksX1_isPayment_1 19 rfl rfl)
theorem dX1_isPayment_45 : decode cX1_isPayment 45 = .ok (.iconst 0, 1) := dk_3 (dk_at dksX1_isPayment_1 22 rfl rfl)
theorem dX1_isPayment_46 : decode cX1_isPayment 46 = .ok (.ireturn, 1) := dk_172 (dk_at dksX1_isPayment_1 23 rfl rfl)
abbrev cX1_finds : ByteArray := prog_1_method_34_code
def yX1_finds : MethodName := ⟨RX1, "finds", "(IIII)Z"⟩
def dkwX1_finds_20 : List UInt8 := [4, 172]
abbrev dktX1_finds_20 : List UInt8 := dkwX1_finds_20 ++ []
def dkwX1_finds_19 : List UInt8 := [180, 0, 91, 16, 6, 21, 8, 104, 21, 9, 96, 46, 100, 184, 1, 101, 54, 7, 132, 8, 1, 167, 255, 193]
abbrev dktX1_finds_19 : List UInt8 := dkwX1_finds_19 ++ dktX1_finds_20
def dkwX1_finds_18 : List UInt8 := [180, 0, 97, 42, 180, 0, 87, 21, 8, 46, 21, 9, 79, 21, 9, 158, 0, 25, 3, 21, 7, 42]
abbrev dktX1_finds_18 : List UInt8 := dkwX1_finds_18 ++ dktX1_finds_19
def dkwX1_finds_17 : List UInt8 := [54, 8, 21, 8, 42, 180, 1, 94, 162, 0, 60, 42, 21, 8, 21, 7, 182, 1, 110, 54, 9, 42]
abbrev dktX1_finds_17 : List UInt8 := dkwX1_finds_17 ++ dktX1_finds_18
def dkwX1_finds_16 : List UInt8 := [16, 40, 162, 0, 17, 42, 180, 0, 97, 21, 7, 2, 79, 132, 7, 1, 167, 255, 238, 21, 4, 54, 7, 3]
abbrev dktX1_finds_16 : List UInt8 := dkwX1_finds_16 ++ dktX1_finds_17
def dkwX1_finds_15 : List UInt8 := [180, 0, 94, 21, 4, 46, 19, 1, 100, 161, 0, 5, 3, 172, 42, 4, 181, 1, 107, 3, 54, 7, 21, 7]
abbrev dktX1_finds_15 : List UInt8 := dkwX1_finds_15 ++ dktX1_finds_16
def dkwX1_finds_14 : List UInt8 := [21, 7, 104, 21, 8, 96, 21, 9, 79, 132, 8, 1, 167, 255, 112, 132, 7, 255, 167, 255, 98, 42]
abbrev dktX1_finds_14 : List UInt8 := dkwX1_finds_14 ++ dktX1_finds_15
def dkwX1_finds_13 : List UInt8 := [21, 7, 46, 182, 1, 104, 96, 184, 1, 80, 54, 9, 132, 10, 1, 167, 255, 160, 42, 180, 0, 94, 21, 6]
abbrev dktX1_finds_13 : List UInt8 := dkwX1_finds_13 ++ dktX1_finds_14
def dkwX1_finds_12 : List UInt8 := [184, 1, 101, 96, 46, 54, 12, 21, 12, 19, 1, 100, 162, 0, 24, 21, 9, 21, 12, 42, 42, 180, 0, 87]
abbrev dktX1_finds_12 : List UInt8 := dkwX1_finds_12 ++ dktX1_finds_13
def dkwX1_finds_11 : List UInt8 := [154, 0, 6, 167, 0, 56, 42, 180, 0, 94, 21, 6, 21, 7, 4, 96, 104, 3, 21, 8, 21, 11, 100]
abbrev dktX1_finds_11 : List UInt8 := dkwX1_finds_11 ++ dktX1_finds_12
def dkwX1_finds_10 : List UInt8 := [180, 0, 203, 96, 162, 0, 85, 42, 180, 0, 91, 16, 6, 21, 7, 104, 21, 10, 96, 46, 54, 11, 21, 11]
abbrev dktX1_finds_10 : List UInt8 := dkwX1_finds_10 ++ dktX1_finds_11
def dkwX1_finds_9 : List UInt8 := [21, 7, 4, 96, 104, 21, 8, 96, 46, 54, 9, 4, 54, 10, 21, 10, 5, 42, 180, 0, 70, 180, 0, 182]
abbrev dktX1_finds_9 : List UInt8 := dkwX1_finds_9 ++ dktX1_finds_10
def dkwX1_finds_8 : List UInt8 := [100, 54, 7, 21, 7, 155, 0, 159, 3, 54, 8, 21, 8, 21, 4, 163, 0, 143, 42, 180, 0, 94, 21, 6]
abbrev dktX1_finds_8 : List UInt8 := dkwX1_finds_8 ++ dktX1_finds_9
def dkwX1_finds_7 : List UInt8 := [21, 7, 154, 0, 7, 3, 167, 0, 6, 19, 1, 100, 79, 132, 7, 1, 167, 255, 219, 42, 180, 1, 94, 4]
abbrev dktX1_finds_7 : List UInt8 := dkwX1_finds_7 ++ dktX1_finds_8
def dkwX1_finds_6 : List UInt8 := [54, 7, 21, 7, 21, 4, 163, 0, 36, 42, 180, 0, 94, 21, 6, 42, 180, 1, 94, 104, 21, 7, 96]
abbrev dktX1_finds_6 : List UInt8 := dkwX1_finds_6 ++ dktX1_finds_7
def dkwX1_finds_5 : List UInt8 := [79, 42, 89, 180, 1, 94, 4, 96, 181, 1, 94, 132, 6, 1, 167, 255, 140, 17, 7, 209, 54, 6, 3]
abbrev dktX1_finds_5 : List UInt8 := dkwX1_finds_5 ++ dktX1_finds_6
def dkwX1_finds_4 : List UInt8 := [28, 29, 21, 5, 182, 1, 97, 79, 132, 7, 1, 167, 255, 208, 42, 180, 0, 87, 42, 180, 1, 94, 21, 6]
abbrev dktX1_finds_4 : List UInt8 := dkwX1_finds_4 ++ dktX1_finds_5
def dkwX1_finds_3 : List UInt8 := [96, 162, 0, 37, 42, 180, 0, 91, 16, 6, 42, 180, 1, 94, 104, 21, 7, 96, 42, 21, 6, 21, 7, 27]
abbrev dktX1_finds_3 : List UInt8 := dkwX1_finds_3 ++ dktX1_finds_4
def dkwX1_finds_2 : List UInt8 := [46, 27, 159, 0, 6, 167, 0, 78, 4, 54, 7, 21, 7, 5, 42, 180, 0, 70, 180, 0, 182, 180, 0, 203]
abbrev dktX1_finds_2 : List UInt8 := dkwX1_finds_2 ++ dktX1_finds_3
def dkwX1_finds_1 : List UInt8 := [180, 0, 206, 162, 0, 110, 42, 180, 1, 94, 16, 12, 162, 0, 101, 42, 180, 0, 70, 180, 0, 228, 21, 6]
abbrev dktX1_finds_1 : List UInt8 := dkwX1_finds_1 ++ dktX1_finds_2
def dkwX1_finds_0 : List UInt8 := [42, 180, 0, 70, 182, 1, 36, 54, 5, 42, 3, 181, 1, 94, 3, 54, 6, 21, 6, 42, 180, 0, 70]
abbrev dktX1_finds_0 : List UInt8 := dkwX1_finds_0 ++ dktX1_finds_1
theorem dksX1_finds_0 : cX1_finds.data.toList.drop 0 = dktX1_finds_0 := by decide +kernel
theorem dksX1_finds_1 : cX1_finds.data.toList.drop 23 = dktX1_finds_1 := dk_seg dksX1_finds_0 23 rfl rfl
theorem dksX1_finds_2 : cX1_finds.data.toList.drop 47 = dktX1_finds_2 := dk_seg dksX1_finds_1 24 rfl rfl
theorem dksX1_finds_3 : cX1_finds.data.toList.drop 71 = dktX1_finds_3 := dk_seg dksX1_finds_2 24 rfl rfl
theorem dksX1_finds_4 : cX1_finds.data.toList.drop 95 = dktX1_finds_4 := dk_seg dksX1_finds_3 24 rfl rfl
theorem dksX1_finds_5 : cX1_finds.data.toList.drop 119 = dktX1_finds_5 := dk_seg dksX1_finds_4 24 rfl rfl
theorem dksX1_finds_6 : cX1_finds.data.toList.drop 142 = dktX1_finds_6 := dk_seg dksX1_finds_5 23 rfl rfl
theorem dksX1_finds_7 : cX1_finds.data.toList.drop 165 = dktX1_finds_7 := dk_seg dksX1_finds_6 23 rfl rfl
theorem dksX1_finds_8 : cX1_finds.data.toList.drop 189 = dktX1_finds_8 := dk_seg dksX1_finds_7 24 rfl rfl
theorem dksX1_finds_9 : cX1_finds.data.toList.drop 213 = dktX1_finds_9 := dk_seg dksX1_finds_8 24 rfl rfl
theorem dksX1_finds_10 : cX1_finds.data.toList.drop 237 = dktX1_finds_10 := dk_seg dksX1_finds_9 24 rfl rfl
theorem dksX1_finds_11 : cX1_finds.data.toList.drop 261 = dktX1_finds_11 := dk_seg dksX1_finds_10 24 rfl rfl
theorem dksX1_finds_12 : cX1_finds.data.toList.drop 284 = dktX1_finds_12 := dk_seg dksX1_finds_11 23 rfl rfl
theorem dksX1_finds_13 : cX1_finds.data.toList.drop 308 = dktX1_finds_13 := dk_seg dksX1_finds_12 24 rfl rfl
theorem dksX1_finds_14 : cX1_finds.data.toList.drop 332 = dktX1_finds_14 := dk_seg dksX1_finds_13 24 rfl rfl
theorem dksX1_finds_15 : cX1_finds.data.toList.drop 354 = dktX1_finds_15 := dk_seg dksX1_finds_14 22 rfl rfl
theorem dksX1_finds_16 : cX1_finds.data.toList.drop 378 = dktX1_finds_16 := dk_seg dksX1_finds_15 24 rfl rfl
theorem dksX1_finds_17 : cX1_finds.data.toList.drop 402 = dktX1_finds_17 := dk_seg dksX1_finds_16 24 rfl rfl
theorem dksX1_finds_18 : cX1_finds.data.toList.drop 424 = dktX1_finds_18 := dk_seg dksX1_finds_17 22 rfl rfl
theorem dksX1_finds_19 : cX1_finds.data.toList.drop 446 = dktX1_finds_19 := dk_seg dksX1_finds_18 22 rfl rfl
theorem dksX1_finds_20 : cX1_finds.data.toList.drop 470 = dktX1_finds_20 := dk_seg dksX1_finds_19 24 rfl rfl
theorem dX1_finds_0 : decode cX1_finds 0 = .ok (.aload_n 0, 1) := dk_42 (dk_at dksX1_finds_0 0 rfl rfl)
theorem dX1_finds_1 : decode cX1_finds 1 = .ok (.getfield 70, 3) := dk_180 0 70 (dk_at dksX1_finds_0 1 rfl rfl)
theorem dX1_finds_4 : decode cX1_finds 4 = .ok (.invokevirtual 292, 3) := dk_182 1 36 (dk_at dksX1_finds_0 4 rfl rfl)
theorem dX1_finds_7 : decode cX1_finds 7 = .ok (.istore 5, 2) := dk_54 5 (dk_at dksX1_finds_0 7 rfl rfl)
theorem dX1_finds_9 : decode cX1_finds 9 = .ok (.aload_n 0, 1) := dk_42 (dk_at dksX1_finds_0 9 rfl rfl)
theorem dX1_finds_10 : decode cX1_finds 10 = .ok (.iconst 0, 1) := dk_3 (dk_at dksX1_finds_0 10 rfl rfl)
theorem dX1_finds_11 : decode cX1_finds 11 = .ok (.putfield 350, 3) := dk_181 1 94 (dk_at dksX1_finds_0 11 rfl rfl)
theorem dX1_finds_14 : decode cX1_finds 14 = .ok (.iconst 0, 1) := dk_3 (dk_at dksX1_finds_0 14 rfl rfl)
theorem dX1_finds_15 : decode cX1_finds 15 = .ok (.istore 6, 2) := dk_54 6 (dk_at dksX1_finds_0 15 rfl rfl)
theorem dX1_finds_17 : decode cX1_finds 17 = .ok (.iload 6, 2) := dk_21 6 (dk_at dksX1_finds_0 17 rfl rfl)
theorem dX1_finds_19 : decode cX1_finds 19 = .ok (.aload_n 0, 1) := dk_42 (dk_at dksX1_finds_0 19 rfl rfl)
theorem dX1_finds_20 : decode cX1_finds 20 = .ok (.getfield 70, 3) := dk_180 0 70 (dk_at dksX1_finds_0 20 rfl rfl)
theorem dX1_finds_23 : decode cX1_finds 23 = .ok (.getfield 206, 3) := dk_180 0 206 (dk_at dksX1_finds_1 0 rfl rfl)
theorem dX1_finds_26 : decode cX1_finds 26 = .ok (.if_icmp .ge 110, 3) := dk_162 0 110 (dk_at dksX1_finds_1 3 rfl rfl)
theorem dX1_finds_29 : decode cX1_finds 29 = .ok (.aload_n 0, 1) := dk_42 (dk_at dksX1_finds_1 6 rfl rfl)
theorem dX1_finds_30 : decode cX1_finds 30 = .ok (.getfield 350, 3) := dk_180 1 94 (dk_at dksX1_finds_1 7 rfl rfl)
theorem dX1_finds_33 : decode cX1_finds 33 = .ok (.bipush 12, 2) := dk_16 12 (dk_at dksX1_finds_1 10 rfl rfl)
theorem dX1_finds_35 : decode cX1_finds 35 = .ok (.if_icmp .ge 101, 3) := dk_162 0 101 (dk_at dksX1_finds_1 12 rfl rfl)
theorem dX1_finds_38 : decode cX1_finds 38 = .ok (.aload_n 0, 1) := dk_42 (dk_at dksX1_finds_1 15 rfl rfl)
theorem dX1_finds_39 : decode cX1_finds 39 = .ok (.getfield 70, 3) := dk_180 0 70 (dk_at dksX1_finds_1 16 rfl rfl)
theorem dX1_finds_42 : decode cX1_finds 42 = .ok (.getfield 228, 3) := dk_180 0 228 (dk_at dksX1_finds_1 19 rfl rfl)
theorem dX1_finds_45 : decode cX1_finds 45 = .ok (.iload 6, 2) := dk_21 6 (dk_at dksX1_finds_1 22 rfl rfl)
theorem dX1_finds_47 : decode cX1_finds 47 = .ok (.iaload, 1) := dk_46 (dk_at dksX1_finds_2 0 rfl rfl)
theorem dX1_finds_48 : decode cX1_finds 48 = .ok (.iload_n 1, 1) := dk_27 (dk_at dksX1_finds_2 1 rfl rfl)
theorem dX1_finds_49 : decode cX1_finds 49 = .ok (.if_icmp .eq 6, 3) := dk_159 0 6 (dk_at dksX1_finds_2 2 rfl rfl)
theorem dX1_finds_52 : decode cX1_finds 52 = .ok (.goto 78, 3) := dk_167 0 78 (dk_at dksX1_finds_2 5 rfl rfl)
theorem dX1_finds_55 : decode cX1_finds 55 = .ok (.iconst 1, 1) := dk_4 (dk_at dksX1_finds_2 8 rfl rfl)
theorem dX1_finds_56 : decode cX1_finds 56 = .ok (.istore 7, 2) := dk_54 7 (dk_at dksX1_finds_2 9 rfl rfl)
theorem dX1_finds_58 : decode cX1_finds 58 = .ok (.iload 7, 2) := dk_21 7 (dk_at dksX1_finds_2 11 rfl rfl)
theorem dX1_finds_60 : decode cX1_finds 60 = .ok (.iconst 2, 1) := dk_5 (dk_at dksX1_finds_2 13 rfl rfl)
theorem dX1_finds_61 : decode cX1_finds 61 = .ok (.aload_n 0, 1) := dk_42 (dk_at dksX1_finds_2 14 rfl rfl)
theorem dX1_finds_62 : decode cX1_finds 62 = .ok (.getfield 70, 3) := dk_180 0 70 (dk_at dksX1_finds_2 15 rfl rfl)
theorem dX1_finds_65 : decode cX1_finds 65 = .ok (.getfield 182, 3) := dk_180 0 182 (dk_at dksX1_finds_2 18 rfl rfl)
theorem dX1_finds_68 : decode cX1_finds 68 = .ok (.getfield 203, 3) := dk_180 0 203 (dk_at dksX1_finds_2 21 rfl rfl)
theorem dX1_finds_71 : decode cX1_finds 71 = .ok (.iadd, 1) := dk_96 (dk_at dksX1_finds_3 0 rfl rfl)
theorem dX1_finds_72 : decode cX1_finds 72 = .ok (.if_icmp .ge 37, 3) := dk_162 0 37 (dk_at dksX1_finds_3 1 rfl rfl)
theorem dX1_finds_75 : decode cX1_finds 75 = .ok (.aload_n 0, 1) := dk_42 (dk_at dksX1_finds_3 4 rfl rfl)
theorem dX1_finds_76 : decode cX1_finds 76 = .ok (.getfield 91, 3) := dk_180 0 91 (dk_at dksX1_finds_3 5 rfl rfl)
theorem dX1_finds_79 : decode cX1_finds 79 = .ok (.bipush 6, 2) := dk_16 6 (dk_at dksX1_finds_3 8 rfl rfl)
theorem dX1_finds_81 : decode cX1_finds 81 = .ok (.aload_n 0, 1) := dk_42 (dk_at dksX1_finds_3 10 rfl rfl)
theorem dX1_finds_82 : decode cX1_finds 82 = .ok (.getfield 350, 3) := dk_180 1 94 (dk_at dksX1_finds_3 11 rfl rfl)
theorem dX1_finds_85 : decode cX1_finds 85 = .ok (.imul, 1) := dk_104 (dk_at dksX1_finds_3 14 rfl rfl)
theorem dX1_finds_86 : decode cX1_finds 86 = .ok (.iload 7, 2) := dk_21 7 (dk_at dksX1_finds_3 15 rfl rfl)
theorem dX1_finds_88 : decode cX1_finds 88 = .ok (.iadd, 1) := dk_96 (dk_at dksX1_finds_3 17 rfl rfl)
theorem dX1_finds_89 : decode cX1_finds 89 = .ok (.aload_n 0, 1) := dk_42 (dk_at dksX1_finds_3 18 rfl rfl)
theorem dX1_finds_90 : decode cX1_finds 90 = .ok (.iload 6, 2) := dk_21 6 (dk_at dksX1_finds_3 19 rfl rfl)
theorem dX1_finds_92 : decode cX1_finds 92 = .ok (.iload 7, 2) := dk_21 7 (dk_at dksX1_finds_3 21 rfl rfl)
theorem dX1_finds_94 : decode cX1_finds 94 = .ok (.iload_n 1, 1) := dk_27 (dk_at dksX1_finds_3 23 rfl rfl)
theorem dX1_finds_95 : decode cX1_finds 95 = .ok (.iload_n 2, 1) := dk_28 (dk_at dksX1_finds_4 0 rfl rfl)
theorem dX1_finds_96 : decode cX1_finds 96 = .ok (.iload_n 3, 1) := dk_29 (dk_at dksX1_finds_4 1 rfl rfl)
theorem dX1_finds_97 : decode cX1_finds 97 = .ok (.iload 5, 2) := dk_21 5 (dk_at dksX1_finds_4 2 rfl rfl)
theorem dX1_finds_99 : decode cX1_finds 99 = .ok (.invokevirtual 353, 3) := dk_182 1 97 (dk_at dksX1_finds_4 4 rfl rfl)
theorem dX1_finds_102 : decode cX1_finds 102 = .ok (.iastore, 1) := dk_79 (dk_at dksX1_finds_4 7 rfl rfl)
theorem dX1_finds_103 : decode cX1_finds 103 = .ok (.iinc 7 1, 3) := dk_132 7 1 (dk_at dksX1_finds_4 8 rfl rfl)
theorem dX1_finds_106 : decode cX1_finds 106 = .ok (.goto (-48), 3) := dk_167 255 208 (dk_at dksX1_finds_4 11 rfl rfl)
theorem dX1_finds_109 : decode cX1_finds 109 = .ok (.aload_n 0, 1) := dk_42 (dk_at dksX1_finds_4 14 rfl rfl)
theorem dX1_finds_110 : decode cX1_finds 110 = .ok (.getfield 87, 3) := dk_180 0 87 (dk_at dksX1_finds_4 15 rfl rfl)
theorem dX1_finds_113 : decode cX1_finds 113 = .ok (.aload_n 0, 1) := dk_42 (dk_at dksX1_finds_4 18 rfl rfl)
theorem dX1_finds_114 : decode cX1_finds 114 = .ok (.getfield 350, 3) := dk_180 1 94 (dk_at dksX1_finds_4 19 rfl rfl)
theorem dX1_finds_117 : decode cX1_finds 117 = .ok (.iload 6, 2) := dk_21 6 (dk_at dksX1_finds_4 22 rfl rfl)
theorem dX1_finds_119 : decode cX1_finds 119 = .ok (.iastore, 1) := dk_79 (dk_at dksX1_finds_5 0 rfl rfl)
theorem dX1_finds_120 : decode cX1_finds 120 = .ok (.aload_n 0, 1) := dk_42 (dk_at dksX1_finds_5 1 rfl rfl)
theorem dX1_finds_121 : decode cX1_finds 121 = .ok (.dup, 1) := dk_89 (dk_at dksX1_finds_5 2 rfl rfl)
theorem dX1_finds_122 : decode cX1_finds 122 = .ok (.getfield 350, 3) := dk_180 1 94 (dk_at dksX1_finds_5 3 rfl rfl)
theorem dX1_finds_125 : decode cX1_finds 125 = .ok (.iconst 1, 1) := dk_4 (dk_at dksX1_finds_5 6 rfl rfl)
theorem dX1_finds_126 : decode cX1_finds 126 = .ok (.iadd, 1) := dk_96 (dk_at dksX1_finds_5 7 rfl rfl)
theorem dX1_finds_127 : decode cX1_finds 127 = .ok (.putfield 350, 3) := dk_181 1 94 (dk_at dksX1_finds_5 8 rfl rfl)
theorem dX1_finds_130 : decode cX1_finds 130 = .ok (.iinc 6 1, 3) := dk_132 6 1 (dk_at dksX1_finds_5 11 rfl rfl)
theorem dX1_finds_133 : decode cX1_finds 133 = .ok (.goto (-116), 3) := dk_167 255 140 (dk_at dksX1_finds_5 14 rfl rfl)
theorem dX1_finds_136 : decode cX1_finds 136 = .ok (.sipush 2001, 3) := dk_17 7 209 (dk_at dksX1_finds_5 17 rfl rfl)
theorem dX1_finds_139 : decode cX1_finds 139 = .ok (.istore 6, 2) := dk_54 6 (dk_at dksX1_finds_5 20 rfl rfl)
theorem dX1_finds_141 : decode cX1_finds 141 = .ok (.iconst 0, 1) := dk_3 (dk_at dksX1_finds_5 22 rfl rfl)
theorem dX1_finds_142 : decode cX1_finds 142 = .ok (.istore 7, 2) := dk_54 7 (dk_at dksX1_finds_6 0 rfl rfl)
theorem dX1_finds_144 : decode cX1_finds 144 = .ok (.iload 7, 2) := dk_21 7 (dk_at dksX1_finds_6 2 rfl rfl)
theorem dX1_finds_146 : decode cX1_finds 146 = .ok (.iload 4, 2) := dk_21 4 (dk_at dksX1_finds_6 4 rfl rfl)
theorem dX1_finds_148 : decode cX1_finds 148 = .ok (.if_icmp .gt 36, 3) := dk_163 0 36 (dk_at dksX1_finds_6 6 rfl rfl)
theorem dX1_finds_151 : decode cX1_finds 151 = .ok (.aload_n 0, 1) := dk_42 (dk_at dksX1_finds_6 9 rfl rfl)
theorem dX1_finds_152 : decode cX1_finds 152 = .ok (.getfield 94, 3) := dk_180 0 94 (dk_at dksX1_finds_6 10 rfl rfl)
theorem dX1_finds_155 : decode cX1_finds 155 = .ok (.iload 6, 2) := dk_21 6 (dk_at dksX1_finds_6 13 rfl rfl)
theorem dX1_finds_157 : decode cX1_finds 157 = .ok (.aload_n 0, 1) := dk_42 (dk_at dksX1_finds_6 15 rfl rfl)
theorem dX1_finds_158 : decode cX1_finds 158 = .ok (.getfield 350, 3) := dk_180 1 94 (dk_at dksX1_finds_6 16 rfl rfl)
theorem dX1_finds_161 : decode cX1_finds 161 = .ok (.imul, 1) := dk_104 (dk_at dksX1_finds_6 19 rfl rfl)
theorem dX1_finds_162 : decode cX1_finds 162 = .ok (.iload 7, 2) := dk_21 7 (dk_at dksX1_finds_6 20 rfl rfl)
theorem dX1_finds_164 : decode cX1_finds 164 = .ok (.iadd, 1) := dk_96 (dk_at dksX1_finds_6 22 rfl rfl)
theorem dX1_finds_165 : decode cX1_finds 165 = .ok (.iload 7, 2) := dk_21 7 (dk_at dksX1_finds_7 0 rfl rfl)
theorem dX1_finds_167 : decode cX1_finds 167 = .ok (.ifCond .ne 7, 3) := dk_154 0 7 (dk_at dksX1_finds_7 2 rfl rfl)
theorem dX1_finds_170 : decode cX1_finds 170 = .ok (.iconst 0, 1) := dk_3 (dk_at dksX1_finds_7 5 rfl rfl)
theorem dX1_finds_171 : decode cX1_finds 171 = .ok (.goto 6, 3) := dk_167 0 6 (dk_at dksX1_finds_7 6 rfl rfl)
theorem dX1_finds_174 : decode cX1_finds 174 = .ok (.ldc_w 356, 3) := dk_19 1 100 (dk_at dksX1_finds_7 9 rfl rfl)
theorem dX1_finds_177 : decode cX1_finds 177 = .ok (.iastore, 1) := dk_79 (dk_at dksX1_finds_7 12 rfl rfl)
theorem dX1_finds_178 : decode cX1_finds 178 = .ok (.iinc 7 1, 3) := dk_132 7 1 (dk_at dksX1_finds_7 13 rfl rfl)
theorem dX1_finds_181 : decode cX1_finds 181 = .ok (.goto (-37), 3) := dk_167 255 219 (dk_at dksX1_finds_7 16 rfl rfl)
theorem dX1_finds_184 : decode cX1_finds 184 = .ok (.aload_n 0, 1) := dk_42 (dk_at dksX1_finds_7 19 rfl rfl)
theorem dX1_finds_185 : decode cX1_finds 185 = .ok (.getfield 350, 3) := dk_180 1 94 (dk_at dksX1_finds_7 20 rfl rfl)
theorem dX1_finds_188 : decode cX1_finds 188 = .ok (.iconst 1, 1) := dk_4 (dk_at dksX1_finds_7 23 rfl rfl)
theorem dX1_finds_189 : decode cX1_finds 189 = .ok (.isub, 1) := dk_100 (dk_at dksX1_finds_8 0 rfl rfl)
theorem dX1_finds_190 : decode cX1_finds 190 = .ok (.istore 7, 2) := dk_54 7 (dk_at dksX1_finds_8 1 rfl rfl)
theorem dX1_finds_192 : decode cX1_finds 192 = .ok (.iload 7, 2) := dk_21 7 (dk_at dksX1_finds_8 3 rfl rfl)
theorem dX1_finds_194 : decode cX1_finds 194 = .ok (.ifCond .lt 159, 3) := dk_155 0 159 (dk_at dksX1_finds_8 5 rfl rfl)
theorem dX1_finds_197 : decode cX1_finds 197 = .ok (.iconst 0, 1) := dk_3 (dk_at dksX1_finds_8 8 rfl rfl)
theorem dX1_finds_198 : decode cX1_finds 198 = .ok (.istore 8, 2) := dk_54 8 (dk_at dksX1_finds_8 9 rfl rfl)
theorem dX1_finds_200 : decode cX1_finds 200 = .ok (.iload 8, 2) := dk_21 8 (dk_at dksX1_finds_8 11 rfl rfl)
theorem dX1_finds_202 : decode cX1_finds 202 = .ok (.iload 4, 2) := dk_21 4 (dk_at dksX1_finds_8 13 rfl rfl)
theorem dX1_finds_204 : decode cX1_finds 204 = .ok (.if_icmp .gt 143, 3) := dk_163 0 143 (dk_at dksX1_finds_8 15 rfl rfl)
theorem dX1_finds_207 : decode cX1_finds 207 = .ok (.aload_n 0, 1) := dk_42 (dk_at dksX1_finds_8 18 rfl rfl)
theorem dX1_finds_208 : decode cX1_finds 208 = .ok (.getfield 94, 3) := dk_180 0 94 (dk_at dksX1_finds_8 19 rfl rfl)
theorem dX1_finds_211 : decode cX1_finds 211 = .ok (.iload 6, 2) := dk_21 6 (dk_at dksX1_finds_8 22 rfl rfl)
theorem dX1_finds_213 : decode cX1_finds 213 = .ok (.iload 7, 2) := dk_21 7 (dk_at dksX1_finds_9 0 rfl rfl)
theorem dX1_finds_215 : decode cX1_finds 215 = .ok (.iconst 1, 1) := dk_4 (dk_at dksX1_finds_9 2 rfl rfl)
theorem dX1_finds_216 : decode cX1_finds 216 = .ok (.iadd, 1) := dk_96 (dk_at dksX1_finds_9 3 rfl rfl)
theorem dX1_finds_217 : decode cX1_finds 217 = .ok (.imul, 1) := dk_104 (dk_at dksX1_finds_9 4 rfl rfl)
theorem dX1_finds_218 : decode cX1_finds 218 = .ok (.iload 8, 2) := dk_21 8 (dk_at dksX1_finds_9 5 rfl rfl)
theorem dX1_finds_220 : decode cX1_finds 220 = .ok (.iadd, 1) := dk_96 (dk_at dksX1_finds_9 7 rfl rfl)
theorem dX1_finds_221 : decode cX1_finds 221 = .ok (.iaload, 1) := dk_46 (dk_at dksX1_finds_9 8 rfl rfl)
theorem dX1_finds_222 : decode cX1_finds 222 = .ok (.istore 9, 2) := dk_54 9 (dk_at dksX1_finds_9 9 rfl rfl)
theorem dX1_finds_224 : decode cX1_finds 224 = .ok (.iconst 1, 1) := dk_4 (dk_at dksX1_finds_9 11 rfl rfl)
theorem dX1_finds_225 : decode cX1_finds 225 = .ok (.istore 10, 2) := dk_54 10 (dk_at dksX1_finds_9 12 rfl rfl)
theorem dX1_finds_227 : decode cX1_finds 227 = .ok (.iload 10, 2) := dk_21 10 (dk_at dksX1_finds_9 14 rfl rfl)
theorem dX1_finds_229 : decode cX1_finds 229 = .ok (.iconst 2, 1) := dk_5 (dk_at dksX1_finds_9 16 rfl rfl)
theorem dX1_finds_230 : decode cX1_finds 230 = .ok (.aload_n 0, 1) := dk_42 (dk_at dksX1_finds_9 17 rfl rfl)
theorem dX1_finds_231 : decode cX1_finds 231 = .ok (.getfield 70, 3) := dk_180 0 70 (dk_at dksX1_finds_9 18 rfl rfl)
theorem dX1_finds_234 : decode cX1_finds 234 = .ok (.getfield 182, 3) := dk_180 0 182 (dk_at dksX1_finds_9 21 rfl rfl)
theorem dX1_finds_237 : decode cX1_finds 237 = .ok (.getfield 203, 3) := dk_180 0 203 (dk_at dksX1_finds_10 0 rfl rfl)
theorem dX1_finds_240 : decode cX1_finds 240 = .ok (.iadd, 1) := dk_96 (dk_at dksX1_finds_10 3 rfl rfl)
theorem dX1_finds_241 : decode cX1_finds 241 = .ok (.if_icmp .ge 85, 3) := dk_162 0 85 (dk_at dksX1_finds_10 4 rfl rfl)
theorem dX1_finds_244 : decode cX1_finds 244 = .ok (.aload_n 0, 1) := dk_42 (dk_at dksX1_finds_10 7 rfl rfl)
theorem dX1_finds_245 : decode cX1_finds 245 = .ok (.getfield 91, 3) := dk_180 0 91 (dk_at dksX1_finds_10 8 rfl rfl)
theorem dX1_finds_248 : decode cX1_finds 248 = .ok (.bipush 6, 2) := dk_16 6 (dk_at dksX1_finds_10 11 rfl rfl)
theorem dX1_finds_250 : decode cX1_finds 250 = .ok (.iload 7, 2) := dk_21 7 (dk_at dksX1_finds_10 13 rfl rfl)
theorem dX1_finds_252 : decode cX1_finds 252 = .ok (.imul, 1) := dk_104 (dk_at dksX1_finds_10 15 rfl rfl)
theorem dX1_finds_253 : decode cX1_finds 253 = .ok (.iload 10, 2) := dk_21 10 (dk_at dksX1_finds_10 16 rfl rfl)
theorem dX1_finds_255 : decode cX1_finds 255 = .ok (.iadd, 1) := dk_96 (dk_at dksX1_finds_10 18 rfl rfl)
theorem dX1_finds_256 : decode cX1_finds 256 = .ok (.iaload, 1) := dk_46 (dk_at dksX1_finds_10 19 rfl rfl)
theorem dX1_finds_257 : decode cX1_finds 257 = .ok (.istore 11, 2) := dk_54 11 (dk_at dksX1_finds_10 20 rfl rfl)
theorem dX1_finds_259 : decode cX1_finds 259 = .ok (.iload 11, 2) := dk_21 11 (dk_at dksX1_finds_10 22 rfl rfl)
theorem dX1_finds_261 : decode cX1_finds 261 = .ok (.ifCond .ne 6, 3) := dk_154 0 6 (dk_at dksX1_finds_11 0 rfl rfl)
theorem dX1_finds_264 : decode cX1_finds 264 = .ok (.goto 56, 3) := dk_167 0 56 (dk_at dksX1_finds_11 3 rfl rfl)
theorem dX1_finds_267 : decode cX1_finds 267 = .ok (.aload_n 0, 1) := dk_42 (dk_at dksX1_finds_11 6 rfl rfl)
theorem dX1_finds_268 : decode cX1_finds 268 = .ok (.getfield 94, 3) := dk_180 0 94 (dk_at dksX1_finds_11 7 rfl rfl)
theorem dX1_finds_271 : decode cX1_finds 271 = .ok (.iload 6, 2) := dk_21 6 (dk_at dksX1_finds_11 10 rfl rfl)
theorem dX1_finds_273 : decode cX1_finds 273 = .ok (.iload 7, 2) := dk_21 7 (dk_at dksX1_finds_11 12 rfl rfl)
theorem dX1_finds_275 : decode cX1_finds 275 = .ok (.iconst 1, 1) := dk_4 (dk_at dksX1_finds_11 14 rfl rfl)
theorem dX1_finds_276 : decode cX1_finds 276 = .ok (.iadd, 1) := dk_96 (dk_at dksX1_finds_11 15 rfl rfl)
theorem dX1_finds_277 : decode cX1_finds 277 = .ok (.imul, 1) := dk_104 (dk_at dksX1_finds_11 16 rfl rfl)
theorem dX1_finds_278 : decode cX1_finds 278 = .ok (.iconst 0, 1) := dk_3 (dk_at dksX1_finds_11 17 rfl rfl)
theorem dX1_finds_279 : decode cX1_finds 279 = .ok (.iload 8, 2) := dk_21 8 (dk_at dksX1_finds_11 18 rfl rfl)
theorem dX1_finds_281 : decode cX1_finds 281 = .ok (.iload 11, 2) := dk_21 11 (dk_at dksX1_finds_11 20 rfl rfl)
theorem dX1_finds_283 : decode cX1_finds 283 = .ok (.isub, 1) := dk_100 (dk_at dksX1_finds_11 22 rfl rfl)
theorem dX1_finds_284 : decode cX1_finds 284 = .ok (.invokestatic 357, 3) := dk_184 1 101 (dk_at dksX1_finds_12 0 rfl rfl)
theorem dX1_finds_287 : decode cX1_finds 287 = .ok (.iadd, 1) := dk_96 (dk_at dksX1_finds_12 3 rfl rfl)
theorem dX1_finds_288 : decode cX1_finds 288 = .ok (.iaload, 1) := dk_46 (dk_at dksX1_finds_12 4 rfl rfl)
theorem dX1_finds_289 : decode cX1_finds 289 = .ok (.istore 12, 2) := dk_54 12 (dk_at dksX1_finds_12 5 rfl rfl)
theorem dX1_finds_291 : decode cX1_finds 291 = .ok (.iload 12, 2) := dk_21 12 (dk_at dksX1_finds_12 7 rfl rfl)
theorem dX1_finds_293 : decode cX1_finds 293 = .ok (.ldc_w 356, 3) := dk_19 1 100 (dk_at dksX1_finds_12 9 rfl rfl)
theorem dX1_finds_296 : decode cX1_finds 296 = .ok (.if_icmp .ge 24, 3) := dk_162 0 24 (dk_at dksX1_finds_12 12 rfl rfl)
theorem dX1_finds_299 : decode cX1_finds 299 = .ok (.iload 9, 2) := dk_21 9 (dk_at dksX1_finds_12 15 rfl rfl)
theorem dX1_finds_301 : decode cX1_finds 301 = .ok (.iload 12, 2) := dk_21 12 (dk_at dksX1_finds_12 17 rfl rfl)
theorem dX1_finds_303 : decode cX1_finds 303 = .ok (.aload_n 0, 1) := dk_42 (dk_at dksX1_finds_12 19 rfl rfl)
theorem dX1_finds_304 : decode cX1_finds 304 = .ok (.aload_n 0, 1) := dk_42 (dk_at dksX1_finds_12 20 rfl rfl)
theorem dX1_finds_305 : decode cX1_finds 305 = .ok (.getfield 87, 3) := dk_180 0 87 (dk_at dksX1_finds_12 21 rfl rfl)
theorem dX1_finds_308 : decode cX1_finds 308 = .ok (.iload 7, 2) := dk_21 7 (dk_at dksX1_finds_13 0 rfl rfl)
theorem dX1_finds_310 : decode cX1_finds 310 = .ok (.iaload, 1) := dk_46 (dk_at dksX1_finds_13 2 rfl rfl)
theorem dX1_finds_311 : decode cX1_finds 311 = .ok (.invokevirtual 360, 3) := dk_182 1 104 (dk_at dksX1_finds_13 3 rfl rfl)
theorem dX1_finds_314 : decode cX1_finds 314 = .ok (.iadd, 1) := dk_96 (dk_at dksX1_finds_13 6 rfl rfl)
theorem dX1_finds_315 : decode cX1_finds 315 = .ok (.invokestatic 336, 3) := dk_184 1 80 (dk_at dksX1_finds_13 7 rfl rfl)
theorem dX1_finds_318 : decode cX1_finds 318 = .ok (.istore 9, 2) := dk_54 9 (dk_at dksX1_finds_13 10 rfl rfl)
theorem dX1_finds_320 : decode cX1_finds 320 = .ok (.iinc 10 1, 3) := dk_132 10 1 (dk_at dksX1_finds_13 12 rfl rfl)
theorem dX1_finds_323 : decode cX1_finds 323 = .ok (.goto (-96), 3) := dk_167 255 160 (dk_at dksX1_finds_13 15 rfl rfl)
theorem dX1_finds_326 : decode cX1_finds 326 = .ok (.aload_n 0, 1) := dk_42 (dk_at dksX1_finds_13 18 rfl rfl)
theorem dX1_finds_327 : decode cX1_finds 327 = .ok (.getfield 94, 3) := dk_180 0 94 (dk_at dksX1_finds_13 19 rfl rfl)
theorem dX1_finds_330 : decode cX1_finds 330 = .ok (.iload 6, 2) := dk_21 6 (dk_at dksX1_finds_13 22 rfl rfl)
theorem dX1_finds_332 : decode cX1_finds 332 = .ok (.iload 7, 2) := dk_21 7 (dk_at dksX1_finds_14 0 rfl rfl)
theorem dX1_finds_334 : decode cX1_finds 334 = .ok (.imul, 1) := dk_104 (dk_at dksX1_finds_14 2 rfl rfl)
theorem dX1_finds_335 : decode cX1_finds 335 = .ok (.iload 8, 2) := dk_21 8 (dk_at dksX1_finds_14 3 rfl rfl)
theorem dX1_finds_337 : decode cX1_finds 337 = .ok (.iadd, 1) := dk_96 (dk_at dksX1_finds_14 5 rfl rfl)
theorem dX1_finds_338 : decode cX1_finds 338 = .ok (.iload 9, 2) := dk_21 9 (dk_at dksX1_finds_14 6 rfl rfl)
theorem dX1_finds_340 : decode cX1_finds 340 = .ok (.iastore, 1) := dk_79 (dk_at dksX1_finds_14 8 rfl rfl)
theorem dX1_finds_341 : decode cX1_finds 341 = .ok (.iinc 8 1, 3) := dk_132 8 1 (dk_at dksX1_finds_14 9 rfl rfl)
theorem dX1_finds_344 : decode cX1_finds 344 = .ok (.goto (-144), 3) := dk_167 255 112 (dk_at dksX1_finds_14 12 rfl rfl)
theorem dX1_finds_347 : decode cX1_finds 347 = .ok (.iinc 7 (-1), 3) := dk_132 7 255 (dk_at dksX1_finds_14 15 rfl rfl)
theorem dX1_finds_350 : decode cX1_finds 350 = .ok (.goto (-158), 3) := dk_167 255 98 (dk_at dksX1_finds_14 18 rfl rfl)
theorem dX1_finds_353 : decode cX1_finds 353 = .ok (.aload_n 0, 1) := dk_42 (dk_at dksX1_finds_14 21 rfl rfl)
theorem dX1_finds_354 : decode cX1_finds 354 = .ok (.getfield 94, 3) := dk_180 0 94 (dk_at dksX1_finds_15 0 rfl rfl)
theorem dX1_finds_357 : decode cX1_finds 357 = .ok (.iload 4, 2) := dk_21 4 (dk_at dksX1_finds_15 3 rfl rfl)
theorem dX1_finds_359 : decode cX1_finds 359 = .ok (.iaload, 1) := dk_46 (dk_at dksX1_finds_15 5 rfl rfl)
theorem dX1_finds_360 : decode cX1_finds 360 = .ok (.ldc_w 356, 3) := dk_19 1 100 (dk_at dksX1_finds_15 6 rfl rfl)
theorem dX1_finds_363 : decode cX1_finds 363 = .ok (.if_icmp .lt 5, 3) := dk_161 0 5 (dk_at dksX1_finds_15 9 rfl rfl)
theorem dX1_finds_366 : decode cX1_finds 366 = .ok (.iconst 0, 1) := dk_3 (dk_at dksX1_finds_15 12 rfl rfl)
theorem dX1_finds_367 : decode cX1_finds 367 = .ok (.ireturn, 1) := dk_172 (dk_at dksX1_finds_15 13 rfl rfl)
theorem dX1_finds_368 : decode cX1_finds 368 = .ok (.aload_n 0, 1) := dk_42 (dk_at dksX1_finds_15 14 rfl rfl)
theorem dX1_finds_369 : decode cX1_finds 369 = .ok (.iconst 1, 1) := dk_4 (dk_at dksX1_finds_15 15 rfl rfl)
theorem dX1_finds_370 : decode cX1_finds 370 = .ok (.putfield 363, 3) := dk_181 1 107 (dk_at dksX1_finds_15 16 rfl rfl)
theorem dX1_finds_373 : decode cX1_finds 373 = .ok (.iconst 0, 1) := dk_3 (dk_at dksX1_finds_15 19 rfl rfl)
theorem dX1_finds_374 : decode cX1_finds 374 = .ok (.istore 7, 2) := dk_54 7 (dk_at dksX1_finds_15 20 rfl rfl)
theorem dX1_finds_376 : decode cX1_finds 376 = .ok (.iload 7, 2) := dk_21 7 (dk_at dksX1_finds_15 22 rfl rfl)
theorem dX1_finds_378 : decode cX1_finds 378 = .ok (.bipush 40, 2) := dk_16 40 (dk_at dksX1_finds_16 0 rfl rfl)
theorem dX1_finds_380 : decode cX1_finds 380 = .ok (.if_icmp .ge 17, 3) := dk_162 0 17 (dk_at dksX1_finds_16 2 rfl rfl)
theorem dX1_finds_383 : decode cX1_finds 383 = .ok (.aload_n 0, 1) := dk_42 (dk_at dksX1_finds_16 5 rfl rfl)
theorem dX1_finds_384 : decode cX1_finds 384 = .ok (.getfield 97, 3) := dk_180 0 97 (dk_at dksX1_finds_16 6 rfl rfl)
theorem dX1_finds_387 : decode cX1_finds 387 = .ok (.iload 7, 2) := dk_21 7 (dk_at dksX1_finds_16 9 rfl rfl)
theorem dX1_finds_389 : decode cX1_finds 389 = .ok (.iconst (-1), 1) := dk_2 (dk_at dksX1_finds_16 11 rfl rfl)
theorem dX1_finds_390 : decode cX1_finds 390 = .ok (.iastore, 1) := dk_79 (dk_at dksX1_finds_16 12 rfl rfl)
theorem dX1_finds_391 : decode cX1_finds 391 = .ok (.iinc 7 1, 3) := dk_132 7 1 (dk_at dksX1_finds_16 13 rfl rfl)
theorem dX1_finds_394 : decode cX1_finds 394 = .ok (.goto (-18), 3) := dk_167 255 238 (dk_at dksX1_finds_16 16 rfl rfl)
theorem dX1_finds_397 : decode cX1_finds 397 = .ok (.iload 4, 2) := dk_21 4 (dk_at dksX1_finds_16 19 rfl rfl)
theorem dX1_finds_399 : decode cX1_finds 399 = .ok (.istore 7, 2) := dk_54 7 (dk_at dksX1_finds_16 21 rfl rfl)
theorem dX1_finds_401 : decode cX1_finds 401 = .ok (.iconst 0, 1) := dk_3 (dk_at dksX1_finds_16 23 rfl rfl)
theorem dX1_finds_402 : decode cX1_finds 402 = .ok (.istore 8, 2) := dk_54 8 (dk_at dksX1_finds_17 0 rfl rfl)
theorem dX1_finds_404 : decode cX1_finds 404 = .ok (.iload 8, 2) := dk_21 8 (dk_at dksX1_finds_17 2 rfl rfl)
theorem dX1_finds_406 : decode cX1_finds 406 = .ok (.aload_n 0, 1) := dk_42 (dk_at dksX1_finds_17 4 rfl rfl)
theorem dX1_finds_407 : decode cX1_finds 407 = .ok (.getfield 350, 3) := dk_180 1 94 (dk_at dksX1_finds_17 5 rfl rfl)
theorem dX1_finds_410 : decode cX1_finds 410 = .ok (.if_icmp .ge 60, 3) := dk_162 0 60 (dk_at dksX1_finds_17 8 rfl rfl)
theorem dX1_finds_413 : decode cX1_finds 413 = .ok (.aload_n 0, 1) := dk_42 (dk_at dksX1_finds_17 11 rfl rfl)
theorem dX1_finds_414 : decode cX1_finds 414 = .ok (.iload 8, 2) := dk_21 8 (dk_at dksX1_finds_17 12 rfl rfl)
theorem dX1_finds_416 : decode cX1_finds 416 = .ok (.iload 7, 2) := dk_21 7 (dk_at dksX1_finds_17 14 rfl rfl)
theorem dX1_finds_418 : decode cX1_finds 418 = .ok (.invokevirtual 366, 3) := dk_182 1 110 (dk_at dksX1_finds_17 16 rfl rfl)
theorem dX1_finds_421 : decode cX1_finds 421 = .ok (.istore 9, 2) := dk_54 9 (dk_at dksX1_finds_17 19 rfl rfl)
theorem dX1_finds_423 : decode cX1_finds 423 = .ok (.aload_n 0, 1) := dk_42 (dk_at dksX1_finds_17 21 rfl rfl)
theorem dX1_finds_424 : decode cX1_finds 424 = .ok (.getfield 97, 3) := dk_180 0 97 (dk_at dksX1_finds_18 0 rfl rfl)
theorem dX1_finds_427 : decode cX1_finds 427 = .ok (.aload_n 0, 1) := dk_42 (dk_at dksX1_finds_18 3 rfl rfl)
theorem dX1_finds_428 : decode cX1_finds 428 = .ok (.getfield 87, 3) := dk_180 0 87 (dk_at dksX1_finds_18 4 rfl rfl)
theorem dX1_finds_431 : decode cX1_finds 431 = .ok (.iload 8, 2) := dk_21 8 (dk_at dksX1_finds_18 7 rfl rfl)
theorem dX1_finds_433 : decode cX1_finds 433 = .ok (.iaload, 1) := dk_46 (dk_at dksX1_finds_18 9 rfl rfl)
theorem dX1_finds_434 : decode cX1_finds 434 = .ok (.iload 9, 2) := dk_21 9 (dk_at dksX1_finds_18 10 rfl rfl)
theorem dX1_finds_436 : decode cX1_finds 436 = .ok (.iastore, 1) := dk_79 (dk_at dksX1_finds_18 12 rfl rfl)
theorem dX1_finds_437 : decode cX1_finds 437 = .ok (.iload 9, 2) := dk_21 9 (dk_at dksX1_finds_18 13 rfl rfl)
theorem dX1_finds_439 : decode cX1_finds 439 = .ok (.ifCond .le 25, 3) := dk_158 0 25 (dk_at dksX1_finds_18 15 rfl rfl)
theorem dX1_finds_442 : decode cX1_finds 442 = .ok (.iconst 0, 1) := dk_3 (dk_at dksX1_finds_18 18 rfl rfl)
theorem dX1_finds_443 : decode cX1_finds 443 = .ok (.iload 7, 2) := dk_21 7 (dk_at dksX1_finds_18 19 rfl rfl)
theorem dX1_finds_445 : decode cX1_finds 445 = .ok (.aload_n 0, 1) := dk_42 (dk_at dksX1_finds_18 21 rfl rfl)
theorem dX1_finds_446 : decode cX1_finds 446 = .ok (.getfield 91, 3) := dk_180 0 91 (dk_at dksX1_finds_19 0 rfl rfl)
theorem dX1_finds_449 : decode cX1_finds 449 = .ok (.bipush 6, 2) := dk_16 6 (dk_at dksX1_finds_19 3 rfl rfl)
theorem dX1_finds_451 : decode cX1_finds 451 = .ok (.iload 8, 2) := dk_21 8 (dk_at dksX1_finds_19 5 rfl rfl)
theorem dX1_finds_453 : decode cX1_finds 453 = .ok (.imul, 1) := dk_104 (dk_at dksX1_finds_19 7 rfl rfl)
theorem dX1_finds_454 : decode cX1_finds 454 = .ok (.iload 9, 2) := dk_21 9 (dk_at dksX1_finds_19 8 rfl rfl)
theorem dX1_finds_456 : decode cX1_finds 456 = .ok (.iadd, 1) := dk_96 (dk_at dksX1_finds_19 10 rfl rfl)
theorem dX1_finds_457 : decode cX1_finds 457 = .ok (.iaload, 1) := dk_46 (dk_at dksX1_finds_19 11 rfl rfl)
theorem dX1_finds_458 : decode cX1_finds 458 = .ok (.isub, 1) := dk_100 (dk_at dksX1_finds_19 12 rfl rfl)
theorem dX1_finds_459 : decode cX1_finds 459 = .ok (.invokestatic 357, 3) := dk_184 1 101 (dk_at dksX1_finds_19 13 rfl rfl)
theorem dX1_finds_462 : decode cX1_finds 462 = .ok (.istore 7, 2) := dk_54 7 (dk_at dksX1_finds_19 16 rfl rfl)
theorem dX1_finds_464 : decode cX1_finds 464 = .ok (.iinc 8 1, 3) := dk_132 8 1 (dk_at dksX1_finds_19 18 rfl rfl)
theorem dX1_finds_467 : decode cX1_finds 467 = .ok (.goto (-63), 3) := dk_167 255 193 (dk_at dksX1_finds_19 21 rfl rfl)
theorem dX1_finds_470 : decode cX1_finds 470 = .ok (.iconst 1, 1) := dk_4 (dk_at dksX1_finds_20 0 rfl rfl)
theorem dX1_finds_471 : decode cX1_finds 471 = .ok (.ireturn, 1) := dk_172 (dk_at dksX1_finds_20 1 rfl rfl)
abbrev cX1_worthOf : ByteArray := prog_1_method_32_code
def yX1_worthOf : MethodName := ⟨RX1, "worthOf", "(IIIIII)I"⟩
def dkwX1_worthOf_5 : List UInt8 := [21, 6, 182, 1, 40, 104, 16, 100, 108, 172]
abbrev dktX1_worthOf_5 : List UInt8 := dkwX1_worthOf_5 ++ []
def dkwX1_worthOf_4 : List UInt8 := [21, 8, 21, 5, 182, 1, 4, 158, 0, 7, 3, 167, 0, 22, 21, 7, 42, 180, 0, 70, 21, 4, 21, 9]
abbrev dktX1_worthOf_4 : List UInt8 := dkwX1_worthOf_4 ++ dktX1_worthOf_5
def dkwX1_worthOf_3 : List UInt8 := [180, 0, 236, 21, 10, 50, 180, 0, 240, 100, 54, 7, 132, 8, 1, 29, 54, 9, 42, 180, 0, 70, 21, 7]
abbrev dktX1_worthOf_3 : List UInt8 := dkwX1_worthOf_3 ++ dktX1_worthOf_4
def dkwX1_worthOf_2 : List UInt8 := [21, 7, 21, 8, 21, 10, 182, 1, 4, 158, 0, 5, 3, 172, 21, 7, 42, 180, 0, 70, 180, 0, 182]
abbrev dktX1_worthOf_2 : List UInt8 := dkwX1_worthOf_2 ++ dktX1_worthOf_3
def dkwX1_worthOf_1 : List UInt8 := [180, 0, 70, 27, 182, 0, 224, 54, 9, 28, 4, 164, 0, 53, 28, 5, 100, 54, 10, 42, 180, 0, 70]
abbrev dktX1_worthOf_1 : List UInt8 := dkwX1_worthOf_1 ++ dktX1_worthOf_2
def dkwX1_worthOf_0 : List UInt8 := [42, 180, 0, 70, 180, 0, 231, 27, 46, 54, 7, 42, 180, 0, 70, 180, 1, 11, 27, 46, 54, 8, 42]
abbrev dktX1_worthOf_0 : List UInt8 := dkwX1_worthOf_0 ++ dktX1_worthOf_1
theorem dksX1_worthOf_0 : cX1_worthOf.data.toList.drop 0 = dktX1_worthOf_0 := by decide +kernel
theorem dksX1_worthOf_1 : cX1_worthOf.data.toList.drop 23 = dktX1_worthOf_1 := dk_seg dksX1_worthOf_0 23 rfl rfl
theorem dksX1_worthOf_2 : cX1_worthOf.data.toList.drop 46 = dktX1_worthOf_2 := dk_seg dksX1_worthOf_1 23 rfl rfl
theorem dksX1_worthOf_3 : cX1_worthOf.data.toList.drop 69 = dktX1_worthOf_3 := dk_seg dksX1_worthOf_2 23 rfl rfl
theorem dksX1_worthOf_4 : cX1_worthOf.data.toList.drop 93 = dktX1_worthOf_4 := dk_seg dksX1_worthOf_3 24 rfl rfl
theorem dksX1_worthOf_5 : cX1_worthOf.data.toList.drop 117 = dktX1_worthOf_5 := dk_seg dksX1_worthOf_4 24 rfl rfl
theorem dX1_worthOf_0 : decode cX1_worthOf 0 = .ok (.aload_n 0, 1) := dk_42 (dk_at dksX1_worthOf_0 0 rfl rfl)
theorem dX1_worthOf_1 : decode cX1_worthOf 1 = .ok (.getfield 70, 3) := dk_180 0 70 (dk_at dksX1_worthOf_0 1 rfl rfl)
theorem dX1_worthOf_4 : decode cX1_worthOf 4 = .ok (.getfield 231, 3) := dk_180 0 231 (dk_at dksX1_worthOf_0 4 rfl rfl)
theorem dX1_worthOf_7 : decode cX1_worthOf 7 = .ok (.iload_n 1, 1) := dk_27 (dk_at dksX1_worthOf_0 7 rfl rfl)
theorem dX1_worthOf_8 : decode cX1_worthOf 8 = .ok (.iaload, 1) := dk_46 (dk_at dksX1_worthOf_0 8 rfl rfl)
theorem dX1_worthOf_9 : decode cX1_worthOf 9 = .ok (.istore 7, 2) := dk_54 7 (dk_at dksX1_worthOf_0 9 rfl rfl)
theorem dX1_worthOf_11 : decode cX1_worthOf 11 = .ok (.aload_n 0, 1) := dk_42 (dk_at dksX1_worthOf_0 11 rfl rfl)
theorem dX1_worthOf_12 : decode cX1_worthOf 12 = .ok (.getfield 70, 3) := dk_180 0 70 (dk_at dksX1_worthOf_0 12 rfl rfl)
theorem dX1_worthOf_15 : decode cX1_worthOf 15 = .ok (.getfield 267, 3) := dk_180 1 11 (dk_at dksX1_worthOf_0 15 rfl rfl)
theorem dX1_worthOf_18 : decode cX1_worthOf 18 = .ok (.iload_n 1, 1) := dk_27 (dk_at dksX1_worthOf_0 18 rfl rfl)
theorem dX1_worthOf_19 : decode cX1_worthOf 19 = .ok (.iaload, 1) := dk_46 (dk_at dksX1_worthOf_0 19 rfl rfl)
theorem dX1_worthOf_20 : decode cX1_worthOf 20 = .ok (.istore 8, 2) := dk_54 8 (dk_at dksX1_worthOf_0 20 rfl rfl)
theorem dX1_worthOf_22 : decode cX1_worthOf 22 = .ok (.aload_n 0, 1) := dk_42 (dk_at dksX1_worthOf_0 22 rfl rfl)
theorem dX1_worthOf_23 : decode cX1_worthOf 23 = .ok (.getfield 70, 3) := dk_180 0 70 (dk_at dksX1_worthOf_1 0 rfl rfl)
theorem dX1_worthOf_26 : decode cX1_worthOf 26 = .ok (.iload_n 1, 1) := dk_27 (dk_at dksX1_worthOf_1 3 rfl rfl)
theorem dX1_worthOf_27 : decode cX1_worthOf 27 = .ok (.invokevirtual 224, 3) := dk_182 0 224 (dk_at dksX1_worthOf_1 4 rfl rfl)
theorem dX1_worthOf_30 : decode cX1_worthOf 30 = .ok (.istore 9, 2) := dk_54 9 (dk_at dksX1_worthOf_1 7 rfl rfl)
theorem dX1_worthOf_32 : decode cX1_worthOf 32 = .ok (.iload_n 2, 1) := dk_28 (dk_at dksX1_worthOf_1 9 rfl rfl)
theorem dX1_worthOf_33 : decode cX1_worthOf 33 = .ok (.iconst 1, 1) := dk_4 (dk_at dksX1_worthOf_1 10 rfl rfl)
theorem dX1_worthOf_34 : decode cX1_worthOf 34 = .ok (.if_icmp .le 53, 3) := dk_164 0 53 (dk_at dksX1_worthOf_1 11 rfl rfl)
theorem dX1_worthOf_37 : decode cX1_worthOf 37 = .ok (.iload_n 2, 1) := dk_28 (dk_at dksX1_worthOf_1 14 rfl rfl)
theorem dX1_worthOf_38 : decode cX1_worthOf 38 = .ok (.iconst 2, 1) := dk_5 (dk_at dksX1_worthOf_1 15 rfl rfl)
theorem dX1_worthOf_39 : decode cX1_worthOf 39 = .ok (.isub, 1) := dk_100 (dk_at dksX1_worthOf_1 16 rfl rfl)
theorem dX1_worthOf_40 : decode cX1_worthOf 40 = .ok (.istore 10, 2) := dk_54 10 (dk_at dksX1_worthOf_1 17 rfl rfl)
theorem dX1_worthOf_42 : decode cX1_worthOf 42 = .ok (.aload_n 0, 1) := dk_42 (dk_at dksX1_worthOf_1 19 rfl rfl)
theorem dX1_worthOf_43 : decode cX1_worthOf 43 = .ok (.getfield 70, 3) := dk_180 0 70 (dk_at dksX1_worthOf_1 20 rfl rfl)
theorem dX1_worthOf_46 : decode cX1_worthOf 46 = .ok (.iload 7, 2) := dk_21 7 (dk_at dksX1_worthOf_2 0 rfl rfl)
theorem dX1_worthOf_48 : decode cX1_worthOf 48 = .ok (.iload 8, 2) := dk_21 8 (dk_at dksX1_worthOf_2 2 rfl rfl)
theorem dX1_worthOf_50 : decode cX1_worthOf 50 = .ok (.iload 10, 2) := dk_21 10 (dk_at dksX1_worthOf_2 4 rfl rfl)
theorem dX1_worthOf_52 : decode cX1_worthOf 52 = .ok (.invokevirtual 260, 3) := dk_182 1 4 (dk_at dksX1_worthOf_2 6 rfl rfl)
theorem dX1_worthOf_55 : decode cX1_worthOf 55 = .ok (.ifCond .le 5, 3) := dk_158 0 5 (dk_at dksX1_worthOf_2 9 rfl rfl)
theorem dX1_worthOf_58 : decode cX1_worthOf 58 = .ok (.iconst 0, 1) := dk_3 (dk_at dksX1_worthOf_2 12 rfl rfl)
theorem dX1_worthOf_59 : decode cX1_worthOf 59 = .ok (.ireturn, 1) := dk_172 (dk_at dksX1_worthOf_2 13 rfl rfl)
theorem dX1_worthOf_60 : decode cX1_worthOf 60 = .ok (.iload 7, 2) := dk_21 7 (dk_at dksX1_worthOf_2 14 rfl rfl)
theorem dX1_worthOf_62 : decode cX1_worthOf 62 = .ok (.aload_n 0, 1) := dk_42 (dk_at dksX1_worthOf_2 16 rfl rfl)
theorem dX1_worthOf_63 : decode cX1_worthOf 63 = .ok (.getfield 70, 3) := dk_180 0 70 (dk_at dksX1_worthOf_2 17 rfl rfl)
theorem dX1_worthOf_66 : decode cX1_worthOf 66 = .ok (.getfield 182, 3) := dk_180 0 182 (dk_at dksX1_worthOf_2 20 rfl rfl)
theorem dX1_worthOf_69 : decode cX1_worthOf 69 = .ok (.getfield 236, 3) := dk_180 0 236 (dk_at dksX1_worthOf_3 0 rfl rfl)
theorem dX1_worthOf_72 : decode cX1_worthOf 72 = .ok (.iload 10, 2) := dk_21 10 (dk_at dksX1_worthOf_3 3 rfl rfl)
theorem dX1_worthOf_74 : decode cX1_worthOf 74 = .ok (.aaload, 1) := dk_50 (dk_at dksX1_worthOf_3 5 rfl rfl)
theorem dX1_worthOf_75 : decode cX1_worthOf 75 = .ok (.getfield 240, 3) := dk_180 0 240 (dk_at dksX1_worthOf_3 6 rfl rfl)
theorem dX1_worthOf_78 : decode cX1_worthOf 78 = .ok (.isub, 1) := dk_100 (dk_at dksX1_worthOf_3 9 rfl rfl)
theorem dX1_worthOf_79 : decode cX1_worthOf 79 = .ok (.istore 7, 2) := dk_54 7 (dk_at dksX1_worthOf_3 10 rfl rfl)
theorem dX1_worthOf_81 : decode cX1_worthOf 81 = .ok (.iinc 8 1, 3) := dk_132 8 1 (dk_at dksX1_worthOf_3 12 rfl rfl)
theorem dX1_worthOf_84 : decode cX1_worthOf 84 = .ok (.iload_n 3, 1) := dk_29 (dk_at dksX1_worthOf_3 15 rfl rfl)
theorem dX1_worthOf_85 : decode cX1_worthOf 85 = .ok (.istore 9, 2) := dk_54 9 (dk_at dksX1_worthOf_3 16 rfl rfl)
theorem dX1_worthOf_87 : decode cX1_worthOf 87 = .ok (.aload_n 0, 1) := dk_42 (dk_at dksX1_worthOf_3 18 rfl rfl)
theorem dX1_worthOf_88 : decode cX1_worthOf 88 = .ok (.getfield 70, 3) := dk_180 0 70 (dk_at dksX1_worthOf_3 19 rfl rfl)
theorem dX1_worthOf_91 : decode cX1_worthOf 91 = .ok (.iload 7, 2) := dk_21 7 (dk_at dksX1_worthOf_3 22 rfl rfl)
theorem dX1_worthOf_93 : decode cX1_worthOf 93 = .ok (.iload 8, 2) := dk_21 8 (dk_at dksX1_worthOf_4 0 rfl rfl)
theorem dX1_worthOf_95 : decode cX1_worthOf 95 = .ok (.iload 5, 2) := dk_21 5 (dk_at dksX1_worthOf_4 2 rfl rfl)
theorem dX1_worthOf_97 : decode cX1_worthOf 97 = .ok (.invokevirtual 260, 3) := dk_182 1 4 (dk_at dksX1_worthOf_4 4 rfl rfl)
theorem dX1_worthOf_100 : decode cX1_worthOf 100 = .ok (.ifCond .le 7, 3) := dk_158 0 7 (dk_at dksX1_worthOf_4 7 rfl rfl)
theorem dX1_worthOf_103 : decode cX1_worthOf 103 = .ok (.iconst 0, 1) := dk_3 (dk_at dksX1_worthOf_4 10 rfl rfl)
theorem dX1_worthOf_104 : decode cX1_worthOf 104 = .ok (.goto 22, 3) := dk_167 0 22 (dk_at dksX1_worthOf_4 11 rfl rfl)
theorem dX1_worthOf_107 : decode cX1_worthOf 107 = .ok (.iload 7, 2) := dk_21 7 (dk_at dksX1_worthOf_4 14 rfl rfl)
theorem dX1_worthOf_109 : decode cX1_worthOf 109 = .ok (.aload_n 0, 1) := dk_42 (dk_at dksX1_worthOf_4 16 rfl rfl)
theorem dX1_worthOf_110 : decode cX1_worthOf 110 = .ok (.getfield 70, 3) := dk_180 0 70 (dk_at dksX1_worthOf_4 17 rfl rfl)
theorem dX1_worthOf_113 : decode cX1_worthOf 113 = .ok (.iload 4, 2) := dk_21 4 (dk_at dksX1_worthOf_4 20 rfl rfl)
theorem dX1_worthOf_115 : decode cX1_worthOf 115 = .ok (.iload 9, 2) := dk_21 9 (dk_at dksX1_worthOf_4 22 rfl rfl)
theorem dX1_worthOf_117 : decode cX1_worthOf 117 = .ok (.iload 6, 2) := dk_21 6 (dk_at dksX1_worthOf_5 0 rfl rfl)
theorem dX1_worthOf_119 : decode cX1_worthOf 119 = .ok (.invokevirtual 296, 3) := dk_182 1 40 (dk_at dksX1_worthOf_5 2 rfl rfl)
theorem dX1_worthOf_122 : decode cX1_worthOf 122 = .ok (.imul, 1) := dk_104 (dk_at dksX1_worthOf_5 5 rfl rfl)
theorem dX1_worthOf_123 : decode cX1_worthOf 123 = .ok (.bipush 100, 2) := dk_16 100 (dk_at dksX1_worthOf_5 6 rfl rfl)
theorem dX1_worthOf_125 : decode cX1_worthOf 125 = .ok (.idiv, 1) := dk_108 (dk_at dksX1_worthOf_5 8 rfl rfl)
theorem dX1_worthOf_126 : decode cX1_worthOf 126 = .ok (.ireturn, 1) := dk_172 (dk_at dksX1_worthOf_5 9 rfl rfl)
abbrev cX1_cost : ByteArray := prog_1_method_33_code
def yX1_cost : MethodName := ⟨RX1, "cost", "(I)I"⟩
def dkwX1_cost_0 : List UInt8 := [16, 64, 42, 180, 0, 70, 180, 0, 231, 27, 46, 104, 4, 96, 172]
abbrev dktX1_cost_0 : List UInt8 := dkwX1_cost_0 ++ []
theorem dksX1_cost_0 : cX1_cost.data.toList.drop 0 = dktX1_cost_0 := by decide +kernel
theorem dX1_cost_0 : decode cX1_cost 0 = .ok (.bipush 64, 2) := dk_16 64 (dk_at dksX1_cost_0 0 rfl rfl)
theorem dX1_cost_2 : decode cX1_cost 2 = .ok (.aload_n 0, 1) := dk_42 (dk_at dksX1_cost_0 2 rfl rfl)
theorem dX1_cost_3 : decode cX1_cost 3 = .ok (.getfield 70, 3) := dk_180 0 70 (dk_at dksX1_cost_0 3 rfl rfl)
theorem dX1_cost_6 : decode cX1_cost 6 = .ok (.getfield 231, 3) := dk_180 0 231 (dk_at dksX1_cost_0 6 rfl rfl)
theorem dX1_cost_9 : decode cX1_cost 9 = .ok (.iload_n 1, 1) := dk_27 (dk_at dksX1_cost_0 9 rfl rfl)
theorem dX1_cost_10 : decode cX1_cost 10 = .ok (.iaload, 1) := dk_46 (dk_at dksX1_cost_0 10 rfl rfl)
theorem dX1_cost_11 : decode cX1_cost 11 = .ok (.imul, 1) := dk_104 (dk_at dksX1_cost_0 11 rfl rfl)
theorem dX1_cost_12 : decode cX1_cost 12 = .ok (.iconst 1, 1) := dk_4 (dk_at dksX1_cost_0 12 rfl rfl)
theorem dX1_cost_13 : decode cX1_cost 13 = .ok (.iadd, 1) := dk_96 (dk_at dksX1_cost_0 13 rfl rfl)
theorem dX1_cost_14 : decode cX1_cost 14 = .ok (.ireturn, 1) := dk_172 (dk_at dksX1_cost_0 14 rfl rfl)
abbrev cX1_optionOf : ByteArray := prog_1_method_35_code
def yX1_optionOf : MethodName := ⟨RX1, "optionOf", "(II)I"⟩
def dkwX1_optionOf_4 : List UInt8 := [159, 0, 9, 132, 5, 1, 167, 255, 193, 21, 5, 172]
abbrev dktX1_optionOf_4 : List UInt8 := dkwX1_optionOf_4 ++ []
def dkwX1_optionOf_3 : List UInt8 := [21, 5, 96, 46, 100, 184, 1, 101, 96, 46, 42, 42, 180, 0, 87, 27, 46, 182, 1, 104, 96, 21, 4]
abbrev dktX1_optionOf_3 : List UInt8 := dkwX1_optionOf_3 ++ dktX1_optionOf_4
def dkwX1_optionOf_2 : List UInt8 := [96, 46, 153, 0, 48, 42, 180, 0, 94, 29, 27, 4, 96, 104, 3, 28, 42, 180, 0, 91, 16, 6, 27, 104]
abbrev dktX1_optionOf_2 : List UInt8 := dkwX1_optionOf_2 ++ dktX1_optionOf_3
def dkwX1_optionOf_1 : List UInt8 := [104, 28, 96, 46, 21, 4, 160, 0, 5, 3, 172, 4, 54, 5, 42, 180, 0, 91, 16, 6, 27, 104, 21, 5]
abbrev dktX1_optionOf_1 : List UInt8 := dkwX1_optionOf_1 ++ dktX1_optionOf_2
def dkwX1_optionOf_0 : List UInt8 := [17, 7, 209, 62, 42, 180, 0, 94, 29, 27, 104, 28, 96, 46, 54, 4, 42, 180, 0, 94, 29, 27, 4, 96]
abbrev dktX1_optionOf_0 : List UInt8 := dkwX1_optionOf_0 ++ dktX1_optionOf_1
theorem dksX1_optionOf_0 : cX1_optionOf.data.toList.drop 0 = dktX1_optionOf_0 := by decide +kernel
theorem dksX1_optionOf_1 : cX1_optionOf.data.toList.drop 24 = dktX1_optionOf_1 := dk_seg dksX1_optionOf_0 24 rfl rfl
theorem dksX1_optionOf_2 : cX1_optionOf.data.toList.drop 48 = dktX1_optionOf_2 := dk_seg dksX1_optionOf_1 24 rfl rfl
theorem dksX1_optionOf_3 : cX1_optionOf.data.toList.drop 72 = dktX1_optionOf_3 := dk_seg dksX1_optionOf_2 24 rfl rfl
theorem dksX1_optionOf_4 : cX1_optionOf.data.toList.drop 95 = dktX1_optionOf_4 := dk_seg dksX1_optionOf_3 23 rfl rfl
theorem dX1_optionOf_0 : decode cX1_optionOf 0 = .ok (.sipush 2001, 3) := dk_17 7 209 (dk_at dksX1_optionOf_0 0 rfl rfl)
theorem dX1_optionOf_3 : decode cX1_optionOf 3 = .ok (.istore_n 3, 1) := dk_62 (dk_at dksX1_optionOf_0 3 rfl rfl)
theorem dX1_optionOf_4 : decode cX1_optionOf 4 = .ok (.aload_n 0, 1) := dk_42 (dk_at dksX1_optionOf_0 4 rfl rfl)
theorem dX1_optionOf_5 : decode cX1_optionOf 5 = .ok (.getfield 94, 3) := dk_180 0 94 (dk_at dksX1_optionOf_0 5 rfl rfl)
theorem dX1_optionOf_8 : decode cX1_optionOf 8 = .ok (.iload_n 3, 1) := dk_29 (dk_at dksX1_optionOf_0 8 rfl rfl)
theorem dX1_optionOf_9 : decode cX1_optionOf 9 = .ok (.iload_n 1, 1) := dk_27 (dk_at dksX1_optionOf_0 9 rfl rfl)
theorem dX1_optionOf_10 : decode cX1_optionOf 10 = .ok (.imul, 1) := dk_104 (dk_at dksX1_optionOf_0 10 rfl rfl)
theorem dX1_optionOf_11 : decode cX1_optionOf 11 = .ok (.iload_n 2, 1) := dk_28 (dk_at dksX1_optionOf_0 11 rfl rfl)
theorem dX1_optionOf_12 : decode cX1_optionOf 12 = .ok (.iadd, 1) := dk_96 (dk_at dksX1_optionOf_0 12 rfl rfl)
theorem dX1_optionOf_13 : decode cX1_optionOf 13 = .ok (.iaload, 1) := dk_46 (dk_at dksX1_optionOf_0 13 rfl rfl)
theorem dX1_optionOf_14 : decode cX1_optionOf 14 = .ok (.istore 4, 2) := dk_54 4 (dk_at dksX1_optionOf_0 14 rfl rfl)
theorem dX1_optionOf_16 : decode cX1_optionOf 16 = .ok (.aload_n 0, 1) := dk_42 (dk_at dksX1_optionOf_0 16 rfl rfl)
theorem dX1_optionOf_17 : decode cX1_optionOf 17 = .ok (.getfield 94, 3) := dk_180 0 94 (dk_at dksX1_optionOf_0 17 rfl rfl)
theorem dX1_optionOf_20 : decode cX1_optionOf 20 = .ok (.iload_n 3, 1) := dk_29 (dk_at dksX1_optionOf_0 20 rfl rfl)
theorem dX1_optionOf_21 : decode cX1_optionOf 21 = .ok (.iload_n 1, 1) := dk_27 (dk_at dksX1_optionOf_0 21 rfl rfl)
theorem dX1_optionOf_22 : decode cX1_optionOf 22 = .ok (.iconst 1, 1) := dk_4 (dk_at dksX1_optionOf_0 22 rfl rfl)
theorem dX1_optionOf_23 : decode cX1_optionOf 23 = .ok (.iadd, 1) := dk_96 (dk_at dksX1_optionOf_0 23 rfl rfl)
theorem dX1_optionOf_24 : decode cX1_optionOf 24 = .ok (.imul, 1) := dk_104 (dk_at dksX1_optionOf_1 0 rfl rfl)
theorem dX1_optionOf_25 : decode cX1_optionOf 25 = .ok (.iload_n 2, 1) := dk_28 (dk_at dksX1_optionOf_1 1 rfl rfl)
theorem dX1_optionOf_26 : decode cX1_optionOf 26 = .ok (.iadd, 1) := dk_96 (dk_at dksX1_optionOf_1 2 rfl rfl)
theorem dX1_optionOf_27 : decode cX1_optionOf 27 = .ok (.iaload, 1) := dk_46 (dk_at dksX1_optionOf_1 3 rfl rfl)
theorem dX1_optionOf_28 : decode cX1_optionOf 28 = .ok (.iload 4, 2) := dk_21 4 (dk_at dksX1_optionOf_1 4 rfl rfl)
theorem dX1_optionOf_30 : decode cX1_optionOf 30 = .ok (.if_icmp .ne 5, 3) := dk_160 0 5 (dk_at dksX1_optionOf_1 6 rfl rfl)
theorem dX1_optionOf_33 : decode cX1_optionOf 33 = .ok (.iconst 0, 1) := dk_3 (dk_at dksX1_optionOf_1 9 rfl rfl)
theorem dX1_optionOf_34 : decode cX1_optionOf 34 = .ok (.ireturn, 1) := dk_172 (dk_at dksX1_optionOf_1 10 rfl rfl)
theorem dX1_optionOf_35 : decode cX1_optionOf 35 = .ok (.iconst 1, 1) := dk_4 (dk_at dksX1_optionOf_1 11 rfl rfl)
theorem dX1_optionOf_36 : decode cX1_optionOf 36 = .ok (.istore 5, 2) := dk_54 5 (dk_at dksX1_optionOf_1 12 rfl rfl)
theorem dX1_optionOf_38 : decode cX1_optionOf 38 = .ok (.aload_n 0, 1) := dk_42 (dk_at dksX1_optionOf_1 14 rfl rfl)
theorem dX1_optionOf_39 : decode cX1_optionOf 39 = .ok (.getfield 91, 3) := dk_180 0 91 (dk_at dksX1_optionOf_1 15 rfl rfl)
theorem dX1_optionOf_42 : decode cX1_optionOf 42 = .ok (.bipush 6, 2) := dk_16 6 (dk_at dksX1_optionOf_1 18 rfl rfl)
theorem dX1_optionOf_44 : decode cX1_optionOf 44 = .ok (.iload_n 1, 1) := dk_27 (dk_at dksX1_optionOf_1 20 rfl rfl)
theorem dX1_optionOf_45 : decode cX1_optionOf 45 = .ok (.imul, 1) := dk_104 (dk_at dksX1_optionOf_1 21 rfl rfl)
theorem dX1_optionOf_46 : decode cX1_optionOf 46 = .ok (.iload 5, 2) := dk_21 5 (dk_at dksX1_optionOf_1 22 rfl rfl)
theorem dX1_optionOf_48 : decode cX1_optionOf 48 = .ok (.iadd, 1) := dk_96 (dk_at dksX1_optionOf_2 0 rfl rfl)
theorem dX1_optionOf_49 : decode cX1_optionOf 49 = .ok (.iaload, 1) := dk_46 (dk_at dksX1_optionOf_2 1 rfl rfl)
theorem dX1_optionOf_50 : decode cX1_optionOf 50 = .ok (.ifCond .eq 48, 3) := dk_153 0 48 (dk_at dksX1_optionOf_2 2 rfl rfl)
theorem dX1_optionOf_53 : decode cX1_optionOf 53 = .ok (.aload_n 0, 1) := dk_42 (dk_at dksX1_optionOf_2 5 rfl rfl)
theorem dX1_optionOf_54 : decode cX1_optionOf 54 = .ok (.getfield 94, 3) := dk_180 0 94 (dk_at dksX1_optionOf_2 6 rfl rfl)
theorem dX1_optionOf_57 : decode cX1_optionOf 57 = .ok (.iload_n 3, 1) := dk_29 (dk_at dksX1_optionOf_2 9 rfl rfl)
theorem dX1_optionOf_58 : decode cX1_optionOf 58 = .ok (.iload_n 1, 1) := dk_27 (dk_at dksX1_optionOf_2 10 rfl rfl)
theorem dX1_optionOf_59 : decode cX1_optionOf 59 = .ok (.iconst 1, 1) := dk_4 (dk_at dksX1_optionOf_2 11 rfl rfl)
theorem dX1_optionOf_60 : decode cX1_optionOf 60 = .ok (.iadd, 1) := dk_96 (dk_at dksX1_optionOf_2 12 rfl rfl)
theorem dX1_optionOf_61 : decode cX1_optionOf 61 = .ok (.imul, 1) := dk_104 (dk_at dksX1_optionOf_2 13 rfl rfl)
theorem dX1_optionOf_62 : decode cX1_optionOf 62 = .ok (.iconst 0, 1) := dk_3 (dk_at dksX1_optionOf_2 14 rfl rfl)
theorem dX1_optionOf_63 : decode cX1_optionOf 63 = .ok (.iload_n 2, 1) := dk_28 (dk_at dksX1_optionOf_2 15 rfl rfl)
theorem dX1_optionOf_64 : decode cX1_optionOf 64 = .ok (.aload_n 0, 1) := dk_42 (dk_at dksX1_optionOf_2 16 rfl rfl)
theorem dX1_optionOf_65 : decode cX1_optionOf 65 = .ok (.getfield 91, 3) := dk_180 0 91 (dk_at dksX1_optionOf_2 17 rfl rfl)
theorem dX1_optionOf_68 : decode cX1_optionOf 68 = .ok (.bipush 6, 2) := dk_16 6 (dk_at dksX1_optionOf_2 20 rfl rfl)
theorem dX1_optionOf_70 : decode cX1_optionOf 70 = .ok (.iload_n 1, 1) := dk_27 (dk_at dksX1_optionOf_2 22 rfl rfl)
theorem dX1_optionOf_71 : decode cX1_optionOf 71 = .ok (.imul, 1) := dk_104 (dk_at dksX1_optionOf_2 23 rfl rfl)
theorem dX1_optionOf_72 : decode cX1_optionOf 72 = .ok (.iload 5, 2) := dk_21 5 (dk_at dksX1_optionOf_3 0 rfl rfl)
theorem dX1_optionOf_74 : decode cX1_optionOf 74 = .ok (.iadd, 1) := dk_96 (dk_at dksX1_optionOf_3 2 rfl rfl)
theorem dX1_optionOf_75 : decode cX1_optionOf 75 = .ok (.iaload, 1) := dk_46 (dk_at dksX1_optionOf_3 3 rfl rfl)
theorem dX1_optionOf_76 : decode cX1_optionOf 76 = .ok (.isub, 1) := dk_100 (dk_at dksX1_optionOf_3 4 rfl rfl)
theorem dX1_optionOf_77 : decode cX1_optionOf 77 = .ok (.invokestatic 357, 3) := dk_184 1 101 (dk_at dksX1_optionOf_3 5 rfl rfl)
theorem dX1_optionOf_80 : decode cX1_optionOf 80 = .ok (.iadd, 1) := dk_96 (dk_at dksX1_optionOf_3 8 rfl rfl)
theorem dX1_optionOf_81 : decode cX1_optionOf 81 = .ok (.iaload, 1) := dk_46 (dk_at dksX1_optionOf_3 9 rfl rfl)
theorem dX1_optionOf_82 : decode cX1_optionOf 82 = .ok (.aload_n 0, 1) := dk_42 (dk_at dksX1_optionOf_3 10 rfl rfl)
theorem dX1_optionOf_83 : decode cX1_optionOf 83 = .ok (.aload_n 0, 1) := dk_42 (dk_at dksX1_optionOf_3 11 rfl rfl)
theorem dX1_optionOf_84 : decode cX1_optionOf 84 = .ok (.getfield 87, 3) := dk_180 0 87 (dk_at dksX1_optionOf_3 12 rfl rfl)
theorem dX1_optionOf_87 : decode cX1_optionOf 87 = .ok (.iload_n 1, 1) := dk_27 (dk_at dksX1_optionOf_3 15 rfl rfl)
theorem dX1_optionOf_88 : decode cX1_optionOf 88 = .ok (.iaload, 1) := dk_46 (dk_at dksX1_optionOf_3 16 rfl rfl)
theorem dX1_optionOf_89 : decode cX1_optionOf 89 = .ok (.invokevirtual 360, 3) := dk_182 1 104 (dk_at dksX1_optionOf_3 17 rfl rfl)
theorem dX1_optionOf_92 : decode cX1_optionOf 92 = .ok (.iadd, 1) := dk_96 (dk_at dksX1_optionOf_3 20 rfl rfl)
theorem dX1_optionOf_93 : decode cX1_optionOf 93 = .ok (.iload 4, 2) := dk_21 4 (dk_at dksX1_optionOf_3 21 rfl rfl)
theorem dX1_optionOf_95 : decode cX1_optionOf 95 = .ok (.if_icmp .eq 9, 3) := dk_159 0 9 (dk_at dksX1_optionOf_4 0 rfl rfl)
theorem dX1_optionOf_98 : decode cX1_optionOf 98 = .ok (.iinc 5 1, 3) := dk_132 5 1 (dk_at dksX1_optionOf_4 3 rfl rfl)
theorem dX1_optionOf_101 : decode cX1_optionOf 101 = .ok (.goto (-63), 3) := dk_167 255 193 (dk_at dksX1_optionOf_4 6 rfl rfl)
theorem dX1_optionOf_104 : decode cX1_optionOf 104 = .ok (.iload 5, 2) := dk_21 5 (dk_at dksX1_optionOf_4 9 rfl rfl)
theorem dX1_optionOf_106 : decode cX1_optionOf 106 = .ok (.ireturn, 1) := dk_172 (dk_at dksX1_optionOf_4 11 rfl rfl)
abbrev cX1_paid : ByteArray := prog_1_method_38_code
def yX1_paid : MethodName := ⟨RX1, "paid", "(I)I"⟩
def dkwX1_paid_1 : List UInt8 := [167, 0, 4, 2, 172]
abbrev dktX1_paid_1 : List UInt8 := dkwX1_paid_1 ++ []
def dkwX1_paid_0 : List UInt8 := [42, 180, 1, 107, 153, 0, 22, 27, 3, 16, 39, 184, 0, 189, 153, 0, 12, 42, 180, 0, 97, 27, 46]
abbrev dktX1_paid_0 : List UInt8 := dkwX1_paid_0 ++ dktX1_paid_1
theorem dksX1_paid_0 : cX1_paid.data.toList.drop 0 = dktX1_paid_0 := by decide +kernel
theorem dksX1_paid_1 : cX1_paid.data.toList.drop 23 = dktX1_paid_1 := dk_seg dksX1_paid_0 23 rfl rfl
theorem dX1_paid_0 : decode cX1_paid 0 = .ok (.aload_n 0, 1) := dk_42 (dk_at dksX1_paid_0 0 rfl rfl)
theorem dX1_paid_1 : decode cX1_paid 1 = .ok (.getfield 363, 3) := dk_180 1 107 (dk_at dksX1_paid_0 1 rfl rfl)
theorem dX1_paid_4 : decode cX1_paid 4 = .ok (.ifCond .eq 22, 3) := dk_153 0 22 (dk_at dksX1_paid_0 4 rfl rfl)
theorem dX1_paid_7 : decode cX1_paid 7 = .ok (.iload_n 1, 1) := dk_27 (dk_at dksX1_paid_0 7 rfl rfl)
theorem dX1_paid_8 : decode cX1_paid 8 = .ok (.iconst 0, 1) := dk_3 (dk_at dksX1_paid_0 8 rfl rfl)
theorem dX1_paid_9 : decode cX1_paid 9 = .ok (.bipush 39, 2) := dk_16 39 (dk_at dksX1_paid_0 9 rfl rfl)
theorem dX1_paid_11 : decode cX1_paid 11 = .ok (.invokestatic 189, 3) := dk_184 0 189 (dk_at dksX1_paid_0 11 rfl rfl)
theorem dX1_paid_14 : decode cX1_paid 14 = .ok (.ifCond .eq 12, 3) := dk_153 0 12 (dk_at dksX1_paid_0 14 rfl rfl)
theorem dX1_paid_17 : decode cX1_paid 17 = .ok (.aload_n 0, 1) := dk_42 (dk_at dksX1_paid_0 17 rfl rfl)
theorem dX1_paid_18 : decode cX1_paid 18 = .ok (.getfield 97, 3) := dk_180 0 97 (dk_at dksX1_paid_0 18 rfl rfl)
theorem dX1_paid_21 : decode cX1_paid 21 = .ok (.iload_n 1, 1) := dk_27 (dk_at dksX1_paid_0 21 rfl rfl)
theorem dX1_paid_22 : decode cX1_paid 22 = .ok (.iaload, 1) := dk_46 (dk_at dksX1_paid_0 22 rfl rfl)
theorem dX1_paid_23 : decode cX1_paid 23 = .ok (.goto 4, 3) := dk_167 0 4 (dk_at dksX1_paid_1 0 rfl rfl)
theorem dX1_paid_26 : decode cX1_paid 26 = .ok (.iconst (-1), 1) := dk_2 (dk_at dksX1_paid_1 3 rfl rfl)
theorem dX1_paid_27 : decode cX1_paid 27 = .ok (.ireturn, 1) := dk_172 (dk_at dksX1_paid_1 4 rfl rfl)
abbrev cX1_buy : ByteArray := prog_1_method_41_code
def yX1_buy : MethodName := ⟨RX1, "buy", "(IIII)I"⟩
def dkwX1_buy_2 : List UInt8 := [182, 1, 123, 42, 180, 0, 94, 21, 4, 46, 16, 64, 108, 172]
abbrev dktX1_buy_2 : List UInt8 := dkwX1_buy_2 ++ []
def dkwX1_buy_1 : List UInt8 := [153, 0, 10, 42, 182, 1, 120, 154, 0, 5, 2, 172, 42, 182, 1, 8, 42, 27, 28, 29, 21, 4]
abbrev dktX1_buy_1 : List UInt8 := dkwX1_buy_1 ++ dktX1_buy_2
def dkwX1_buy_0 : List UInt8 := [42, 27, 28, 29, 21, 4, 182, 1, 113, 154, 0, 6, 16, 254, 172, 42, 27, 28, 29, 21, 4, 182, 1, 117]
abbrev dktX1_buy_0 : List UInt8 := dkwX1_buy_0 ++ dktX1_buy_1
theorem dksX1_buy_0 : cX1_buy.data.toList.drop 0 = dktX1_buy_0 := by decide +kernel
theorem dksX1_buy_1 : cX1_buy.data.toList.drop 24 = dktX1_buy_1 := dk_seg dksX1_buy_0 24 rfl rfl
theorem dksX1_buy_2 : cX1_buy.data.toList.drop 46 = dktX1_buy_2 := dk_seg dksX1_buy_1 22 rfl rfl
theorem dX1_buy_0 : decode cX1_buy 0 = .ok (.aload_n 0, 1) := dk_42 (dk_at dksX1_buy_0 0 rfl rfl)
theorem dX1_buy_1 : decode cX1_buy 1 = .ok (.iload_n 1, 1) := dk_27 (dk_at dksX1_buy_0 1 rfl rfl)
theorem dX1_buy_2 : decode cX1_buy 2 = .ok (.iload_n 2, 1) := dk_28 (dk_at dksX1_buy_0 2 rfl rfl)
theorem dX1_buy_3 : decode cX1_buy 3 = .ok (.iload_n 3, 1) := dk_29 (dk_at dksX1_buy_0 3 rfl rfl)
theorem dX1_buy_4 : decode cX1_buy 4 = .ok (.iload 4, 2) := dk_21 4 (dk_at dksX1_buy_0 4 rfl rfl)
theorem dX1_buy_6 : decode cX1_buy 6 = .ok (.invokevirtual 369, 3) := dk_182 1 113 (dk_at dksX1_buy_0 6 rfl rfl)
theorem dX1_buy_9 : decode cX1_buy 9 = .ok (.ifCond .ne 6, 3) := dk_154 0 6 (dk_at dksX1_buy_0 9 rfl rfl)
theorem dX1_buy_12 : decode cX1_buy 12 = .ok (.bipush (-2), 2) := dk_16 254 (dk_at dksX1_buy_0 12 rfl rfl)
theorem dX1_buy_14 : decode cX1_buy 14 = .ok (.ireturn, 1) := dk_172 (dk_at dksX1_buy_0 14 rfl rfl)
theorem dX1_buy_15 : decode cX1_buy 15 = .ok (.aload_n 0, 1) := dk_42 (dk_at dksX1_buy_0 15 rfl rfl)
theorem dX1_buy_16 : decode cX1_buy 16 = .ok (.iload_n 1, 1) := dk_27 (dk_at dksX1_buy_0 16 rfl rfl)
theorem dX1_buy_17 : decode cX1_buy 17 = .ok (.iload_n 2, 1) := dk_28 (dk_at dksX1_buy_0 17 rfl rfl)
theorem dX1_buy_18 : decode cX1_buy 18 = .ok (.iload_n 3, 1) := dk_29 (dk_at dksX1_buy_0 18 rfl rfl)
theorem dX1_buy_19 : decode cX1_buy 19 = .ok (.iload 4, 2) := dk_21 4 (dk_at dksX1_buy_0 19 rfl rfl)
theorem dX1_buy_21 : decode cX1_buy 21 = .ok (.invokevirtual 373, 3) := dk_182 1 117 (dk_at dksX1_buy_0 21 rfl rfl)
theorem dX1_buy_24 : decode cX1_buy 24 = .ok (.ifCond .eq 10, 3) := dk_153 0 10 (dk_at dksX1_buy_1 0 rfl rfl)
theorem dX1_buy_27 : decode cX1_buy 27 = .ok (.aload_n 0, 1) := dk_42 (dk_at dksX1_buy_1 3 rfl rfl)
theorem dX1_buy_28 : decode cX1_buy 28 = .ok (.invokevirtual 376, 3) := dk_182 1 120 (dk_at dksX1_buy_1 4 rfl rfl)
theorem dX1_buy_31 : decode cX1_buy 31 = .ok (.ifCond .ne 5, 3) := dk_154 0 5 (dk_at dksX1_buy_1 7 rfl rfl)
theorem dX1_buy_34 : decode cX1_buy 34 = .ok (.iconst (-1), 1) := dk_2 (dk_at dksX1_buy_1 10 rfl rfl)
theorem dX1_buy_35 : decode cX1_buy 35 = .ok (.ireturn, 1) := dk_172 (dk_at dksX1_buy_1 11 rfl rfl)
theorem dX1_buy_36 : decode cX1_buy 36 = .ok (.aload_n 0, 1) := dk_42 (dk_at dksX1_buy_1 12 rfl rfl)
theorem dX1_buy_37 : decode cX1_buy 37 = .ok (.invokevirtual 264, 3) := dk_182 1 8 (dk_at dksX1_buy_1 13 rfl rfl)
theorem dX1_buy_40 : decode cX1_buy 40 = .ok (.aload_n 0, 1) := dk_42 (dk_at dksX1_buy_1 16 rfl rfl)
theorem dX1_buy_41 : decode cX1_buy 41 = .ok (.iload_n 1, 1) := dk_27 (dk_at dksX1_buy_1 17 rfl rfl)
theorem dX1_buy_42 : decode cX1_buy 42 = .ok (.iload_n 2, 1) := dk_28 (dk_at dksX1_buy_1 18 rfl rfl)
theorem dX1_buy_43 : decode cX1_buy 43 = .ok (.iload_n 3, 1) := dk_29 (dk_at dksX1_buy_1 19 rfl rfl)
theorem dX1_buy_44 : decode cX1_buy 44 = .ok (.iload 4, 2) := dk_21 4 (dk_at dksX1_buy_1 20 rfl rfl)
theorem dX1_buy_46 : decode cX1_buy 46 = .ok (.invokevirtual 379, 3) := dk_182 1 123 (dk_at dksX1_buy_2 0 rfl rfl)
theorem dX1_buy_49 : decode cX1_buy 49 = .ok (.aload_n 0, 1) := dk_42 (dk_at dksX1_buy_2 3 rfl rfl)
theorem dX1_buy_50 : decode cX1_buy 50 = .ok (.getfield 94, 3) := dk_180 0 94 (dk_at dksX1_buy_2 4 rfl rfl)
theorem dX1_buy_53 : decode cX1_buy 53 = .ok (.iload 4, 2) := dk_21 4 (dk_at dksX1_buy_2 7 rfl rfl)
theorem dX1_buy_55 : decode cX1_buy 55 = .ok (.iaload, 1) := dk_46 (dk_at dksX1_buy_2 9 rfl rfl)
theorem dX1_buy_56 : decode cX1_buy 56 = .ok (.bipush 64, 2) := dk_16 64 (dk_at dksX1_buy_2 10 rfl rfl)
theorem dX1_buy_58 : decode cX1_buy 58 = .ok (.idiv, 1) := dk_108 (dk_at dksX1_buy_2 12 rfl rfl)
theorem dX1_buy_59 : decode cX1_buy 59 = .ok (.ireturn, 1) := dk_172 (dk_at dksX1_buy_2 13 rfl rfl)
abbrev cX1_hasRoom : ByteArray := prog_1_method_39_code
def yX1_hasRoom : MethodName := ⟨RX1, "hasRoom", "()Z"⟩
def dkwX1_hasRoom_2 : List UInt8 := [163, 0, 7, 4, 167, 0, 4, 3, 172]
abbrev dktX1_hasRoom_2 : List UInt8 := dkwX1_hasRoom_2 ++ []
def dkwX1_hasRoom_1 : List UInt8 := [42, 180, 0, 87, 28, 46, 46, 184, 1, 80, 96, 60, 132, 2, 1, 167, 255, 227, 27, 17, 1, 244]
abbrev dktX1_hasRoom_1 : List UInt8 := dkwX1_hasRoom_1 ++ dktX1_hasRoom_2
def dkwX1_hasRoom_0 : List UInt8 := [42, 180, 0, 70, 180, 0, 251, 60, 3, 61, 28, 42, 180, 1, 94, 162, 0, 27, 27, 5, 42, 180, 0, 97]
abbrev dktX1_hasRoom_0 : List UInt8 := dkwX1_hasRoom_0 ++ dktX1_hasRoom_1
theorem dksX1_hasRoom_0 : cX1_hasRoom.data.toList.drop 0 = dktX1_hasRoom_0 := by decide +kernel
theorem dksX1_hasRoom_1 : cX1_hasRoom.data.toList.drop 24 = dktX1_hasRoom_1 := dk_seg dksX1_hasRoom_0 24 rfl rfl
theorem dksX1_hasRoom_2 : cX1_hasRoom.data.toList.drop 46 = dktX1_hasRoom_2 := dk_seg dksX1_hasRoom_1 22 rfl rfl
theorem dX1_hasRoom_0 : decode cX1_hasRoom 0 = .ok (.aload_n 0, 1) := dk_42 (dk_at dksX1_hasRoom_0 0 rfl rfl)
theorem dX1_hasRoom_1 : decode cX1_hasRoom 1 = .ok (.getfield 70, 3) := dk_180 0 70 (dk_at dksX1_hasRoom_0 1 rfl rfl)
theorem dX1_hasRoom_4 : decode cX1_hasRoom 4 = .ok (.getfield 251, 3) := dk_180 0 251 (dk_at dksX1_hasRoom_0 4 rfl rfl)
theorem dX1_hasRoom_7 : decode cX1_hasRoom 7 = .ok (.istore_n 1, 1) := dk_60 (dk_at dksX1_hasRoom_0 7 rfl rfl)
theorem dX1_hasRoom_8 : decode cX1_hasRoom 8 = .ok (.iconst 0, 1) := dk_3 (dk_at dksX1_hasRoom_0 8 rfl rfl)
theorem dX1_hasRoom_9 : decode cX1_hasRoom 9 = .ok (.istore_n 2, 1) := dk_61 (dk_at dksX1_hasRoom_0 9 rfl rfl)
theorem dX1_hasRoom_10 : decode cX1_hasRoom 10 = .ok (.iload_n 2, 1) := dk_28 (dk_at dksX1_hasRoom_0 10 rfl rfl)
theorem dX1_hasRoom_11 : decode cX1_hasRoom 11 = .ok (.aload_n 0, 1) := dk_42 (dk_at dksX1_hasRoom_0 11 rfl rfl)
theorem dX1_hasRoom_12 : decode cX1_hasRoom 12 = .ok (.getfield 350, 3) := dk_180 1 94 (dk_at dksX1_hasRoom_0 12 rfl rfl)
theorem dX1_hasRoom_15 : decode cX1_hasRoom 15 = .ok (.if_icmp .ge 27, 3) := dk_162 0 27 (dk_at dksX1_hasRoom_0 15 rfl rfl)
theorem dX1_hasRoom_18 : decode cX1_hasRoom 18 = .ok (.iload_n 1, 1) := dk_27 (dk_at dksX1_hasRoom_0 18 rfl rfl)
theorem dX1_hasRoom_19 : decode cX1_hasRoom 19 = .ok (.iconst 2, 1) := dk_5 (dk_at dksX1_hasRoom_0 19 rfl rfl)
theorem dX1_hasRoom_20 : decode cX1_hasRoom 20 = .ok (.aload_n 0, 1) := dk_42 (dk_at dksX1_hasRoom_0 20 rfl rfl)
theorem dX1_hasRoom_21 : decode cX1_hasRoom 21 = .ok (.getfield 97, 3) := dk_180 0 97 (dk_at dksX1_hasRoom_0 21 rfl rfl)
theorem dX1_hasRoom_24 : decode cX1_hasRoom 24 = .ok (.aload_n 0, 1) := dk_42 (dk_at dksX1_hasRoom_1 0 rfl rfl)
theorem dX1_hasRoom_25 : decode cX1_hasRoom 25 = .ok (.getfield 87, 3) := dk_180 0 87 (dk_at dksX1_hasRoom_1 1 rfl rfl)
theorem dX1_hasRoom_28 : decode cX1_hasRoom 28 = .ok (.iload_n 2, 1) := dk_28 (dk_at dksX1_hasRoom_1 4 rfl rfl)
theorem dX1_hasRoom_29 : decode cX1_hasRoom 29 = .ok (.iaload, 1) := dk_46 (dk_at dksX1_hasRoom_1 5 rfl rfl)
theorem dX1_hasRoom_30 : decode cX1_hasRoom 30 = .ok (.iaload, 1) := dk_46 (dk_at dksX1_hasRoom_1 6 rfl rfl)
theorem dX1_hasRoom_31 : decode cX1_hasRoom 31 = .ok (.invokestatic 336, 3) := dk_184 1 80 (dk_at dksX1_hasRoom_1 7 rfl rfl)
theorem dX1_hasRoom_34 : decode cX1_hasRoom 34 = .ok (.iadd, 1) := dk_96 (dk_at dksX1_hasRoom_1 10 rfl rfl)
theorem dX1_hasRoom_35 : decode cX1_hasRoom 35 = .ok (.istore_n 1, 1) := dk_60 (dk_at dksX1_hasRoom_1 11 rfl rfl)
theorem dX1_hasRoom_36 : decode cX1_hasRoom 36 = .ok (.iinc 2 1, 3) := dk_132 2 1 (dk_at dksX1_hasRoom_1 12 rfl rfl)
theorem dX1_hasRoom_39 : decode cX1_hasRoom 39 = .ok (.goto (-29), 3) := dk_167 255 227 (dk_at dksX1_hasRoom_1 15 rfl rfl)
theorem dX1_hasRoom_42 : decode cX1_hasRoom 42 = .ok (.iload_n 1, 1) := dk_27 (dk_at dksX1_hasRoom_1 18 rfl rfl)
theorem dX1_hasRoom_43 : decode cX1_hasRoom 43 = .ok (.sipush 500, 3) := dk_17 1 244 (dk_at dksX1_hasRoom_1 19 rfl rfl)
theorem dX1_hasRoom_46 : decode cX1_hasRoom 46 = .ok (.if_icmp .gt 7, 3) := dk_163 0 7 (dk_at dksX1_hasRoom_2 0 rfl rfl)
theorem dX1_hasRoom_49 : decode cX1_hasRoom 49 = .ok (.iconst 1, 1) := dk_4 (dk_at dksX1_hasRoom_2 3 rfl rfl)
theorem dX1_hasRoom_50 : decode cX1_hasRoom 50 = .ok (.goto 4, 3) := dk_167 0 4 (dk_at dksX1_hasRoom_2 4 rfl rfl)
theorem dX1_hasRoom_53 : decode cX1_hasRoom 53 = .ok (.iconst 0, 1) := dk_3 (dk_at dksX1_hasRoom_2 7 rfl rfl)
theorem dX1_hasRoom_54 : decode cX1_hasRoom 54 = .ok (.ireturn, 1) := dk_172 (dk_at dksX1_hasRoom_2 8 rfl rfl)
abbrev cX1_pays : ByteArray := prog_1_method_40_code
def yX1_pays : MethodName := ⟨RX1, "pays", "(IIII)V"⟩
def dkwX1_pays_8 : List UInt8 := [42, 42, 180, 0, 87, 21, 8, 46, 28, 29, 21, 7, 182, 1, 90, 132, 8, 1, 167, 255, 214, 177]
abbrev dktX1_pays_8 : List UInt8 := dkwX1_pays_8 ++ []
def dkwX1_pays_7 : List UInt8 := [21, 8, 42, 180, 1, 94, 162, 0, 39, 42, 180, 0, 97, 42, 180, 0, 87, 21, 8, 46, 46, 158, 0, 18]
abbrev dktX1_pays_7 : List UInt8 := dkwX1_pays_7 ++ dktX1_pays_8
def dkwX1_pays_6 : List UInt8 := [132, 7, 1, 167, 255, 197, 42, 27, 28, 29, 21, 4, 21, 5, 21, 6, 182, 1, 86, 54, 7, 3, 54, 8]
abbrev dktX1_pays_6 : List UInt8 := dkwX1_pays_6 ++ dktX1_pays_7
def dkwX1_pays_5 : List UInt8 := [21, 7, 46, 27, 42, 180, 0, 97, 42, 180, 0, 87, 21, 7, 46, 46, 5, 100, 2, 3, 182, 1, 18]
abbrev dktX1_pays_5 : List UInt8 := dkwX1_pays_5 ++ dktX1_pays_6
def dkwX1_pays_4 : List UInt8 := [180, 0, 97, 42, 180, 0, 87, 21, 7, 46, 46, 4, 164, 0, 34, 42, 180, 0, 70, 42, 180, 0, 87]
abbrev dktX1_pays_4 : List UInt8 := dkwX1_pays_4 ++ dktX1_pays_5
def dkwX1_pays_3 : List UInt8 := [96, 54, 6, 132, 7, 1, 167, 255, 188, 3, 54, 7, 21, 7, 42, 180, 1, 94, 162, 0, 56, 42]
abbrev dktX1_pays_3 : List UInt8 := dkwX1_pays_3 ++ dktX1_pays_4
def dkwX1_pays_2 : List UInt8 := [21, 6, 21, 8, 158, 0, 19, 42, 180, 0, 91, 16, 6, 21, 7, 104, 21, 8, 96, 46, 167, 0, 4, 3]
abbrev dktX1_pays_2 : List UInt8 := dkwX1_pays_2 ++ dktX1_pays_3
def dkwX1_pays_1 : List UInt8 := [180, 0, 87, 21, 7, 46, 46, 54, 8, 21, 5, 21, 8, 158, 0, 7, 4, 167, 0, 4, 3, 96, 54, 5]
abbrev dktX1_pays_1 : List UInt8 := dkwX1_pays_1 ++ dktX1_pays_2
def dkwX1_pays_0 : List UInt8 := [3, 54, 5, 3, 54, 6, 3, 54, 7, 21, 7, 42, 180, 1, 94, 162, 0, 65, 42, 180, 0, 97, 42]
abbrev dktX1_pays_0 : List UInt8 := dkwX1_pays_0 ++ dktX1_pays_1
theorem dksX1_pays_0 : cX1_pays.data.toList.drop 0 = dktX1_pays_0 := by decide +kernel
theorem dksX1_pays_1 : cX1_pays.data.toList.drop 23 = dktX1_pays_1 := dk_seg dksX1_pays_0 23 rfl rfl
theorem dksX1_pays_2 : cX1_pays.data.toList.drop 47 = dktX1_pays_2 := dk_seg dksX1_pays_1 24 rfl rfl
theorem dksX1_pays_3 : cX1_pays.data.toList.drop 71 = dktX1_pays_3 := dk_seg dksX1_pays_2 24 rfl rfl
theorem dksX1_pays_4 : cX1_pays.data.toList.drop 93 = dktX1_pays_4 := dk_seg dksX1_pays_3 22 rfl rfl
theorem dksX1_pays_5 : cX1_pays.data.toList.drop 116 = dktX1_pays_5 := dk_seg dksX1_pays_4 23 rfl rfl
theorem dksX1_pays_6 : cX1_pays.data.toList.drop 139 = dktX1_pays_6 := dk_seg dksX1_pays_5 23 rfl rfl
theorem dksX1_pays_7 : cX1_pays.data.toList.drop 163 = dktX1_pays_7 := dk_seg dksX1_pays_6 24 rfl rfl
theorem dksX1_pays_8 : cX1_pays.data.toList.drop 187 = dktX1_pays_8 := dk_seg dksX1_pays_7 24 rfl rfl
theorem dX1_pays_0 : decode cX1_pays 0 = .ok (.iconst 0, 1) := dk_3 (dk_at dksX1_pays_0 0 rfl rfl)
theorem dX1_pays_1 : decode cX1_pays 1 = .ok (.istore 5, 2) := dk_54 5 (dk_at dksX1_pays_0 1 rfl rfl)
theorem dX1_pays_3 : decode cX1_pays 3 = .ok (.iconst 0, 1) := dk_3 (dk_at dksX1_pays_0 3 rfl rfl)
theorem dX1_pays_4 : decode cX1_pays 4 = .ok (.istore 6, 2) := dk_54 6 (dk_at dksX1_pays_0 4 rfl rfl)
theorem dX1_pays_6 : decode cX1_pays 6 = .ok (.iconst 0, 1) := dk_3 (dk_at dksX1_pays_0 6 rfl rfl)
theorem dX1_pays_7 : decode cX1_pays 7 = .ok (.istore 7, 2) := dk_54 7 (dk_at dksX1_pays_0 7 rfl rfl)
theorem dX1_pays_9 : decode cX1_pays 9 = .ok (.iload 7, 2) := dk_21 7 (dk_at dksX1_pays_0 9 rfl rfl)
theorem dX1_pays_11 : decode cX1_pays 11 = .ok (.aload_n 0, 1) := dk_42 (dk_at dksX1_pays_0 11 rfl rfl)
theorem dX1_pays_12 : decode cX1_pays 12 = .ok (.getfield 350, 3) := dk_180 1 94 (dk_at dksX1_pays_0 12 rfl rfl)
theorem dX1_pays_15 : decode cX1_pays 15 = .ok (.if_icmp .ge 65, 3) := dk_162 0 65 (dk_at dksX1_pays_0 15 rfl rfl)
theorem dX1_pays_18 : decode cX1_pays 18 = .ok (.aload_n 0, 1) := dk_42 (dk_at dksX1_pays_0 18 rfl rfl)
theorem dX1_pays_19 : decode cX1_pays 19 = .ok (.getfield 97, 3) := dk_180 0 97 (dk_at dksX1_pays_0 19 rfl rfl)
theorem dX1_pays_22 : decode cX1_pays 22 = .ok (.aload_n 0, 1) := dk_42 (dk_at dksX1_pays_0 22 rfl rfl)
theorem dX1_pays_23 : decode cX1_pays 23 = .ok (.getfield 87, 3) := dk_180 0 87 (dk_at dksX1_pays_1 0 rfl rfl)
theorem dX1_pays_26 : decode cX1_pays 26 = .ok (.iload 7, 2) := dk_21 7 (dk_at dksX1_pays_1 3 rfl rfl)
theorem dX1_pays_28 : decode cX1_pays 28 = .ok (.iaload, 1) := dk_46 (dk_at dksX1_pays_1 5 rfl rfl)
theorem dX1_pays_29 : decode cX1_pays 29 = .ok (.iaload, 1) := dk_46 (dk_at dksX1_pays_1 6 rfl rfl)
theorem dX1_pays_30 : decode cX1_pays 30 = .ok (.istore 8, 2) := dk_54 8 (dk_at dksX1_pays_1 7 rfl rfl)
theorem dX1_pays_32 : decode cX1_pays 32 = .ok (.iload 5, 2) := dk_21 5 (dk_at dksX1_pays_1 9 rfl rfl)
theorem dX1_pays_34 : decode cX1_pays 34 = .ok (.iload 8, 2) := dk_21 8 (dk_at dksX1_pays_1 11 rfl rfl)
theorem dX1_pays_36 : decode cX1_pays 36 = .ok (.ifCond .le 7, 3) := dk_158 0 7 (dk_at dksX1_pays_1 13 rfl rfl)
theorem dX1_pays_39 : decode cX1_pays 39 = .ok (.iconst 1, 1) := dk_4 (dk_at dksX1_pays_1 16 rfl rfl)
theorem dX1_pays_40 : decode cX1_pays 40 = .ok (.goto 4, 3) := dk_167 0 4 (dk_at dksX1_pays_1 17 rfl rfl)
theorem dX1_pays_43 : decode cX1_pays 43 = .ok (.iconst 0, 1) := dk_3 (dk_at dksX1_pays_1 20 rfl rfl)
theorem dX1_pays_44 : decode cX1_pays 44 = .ok (.iadd, 1) := dk_96 (dk_at dksX1_pays_1 21 rfl rfl)
theorem dX1_pays_45 : decode cX1_pays 45 = .ok (.istore 5, 2) := dk_54 5 (dk_at dksX1_pays_1 22 rfl rfl)
theorem dX1_pays_47 : decode cX1_pays 47 = .ok (.iload 6, 2) := dk_21 6 (dk_at dksX1_pays_2 0 rfl rfl)
theorem dX1_pays_49 : decode cX1_pays 49 = .ok (.iload 8, 2) := dk_21 8 (dk_at dksX1_pays_2 2 rfl rfl)
theorem dX1_pays_51 : decode cX1_pays 51 = .ok (.ifCond .le 19, 3) := dk_158 0 19 (dk_at dksX1_pays_2 4 rfl rfl)
theorem dX1_pays_54 : decode cX1_pays 54 = .ok (.aload_n 0, 1) := dk_42 (dk_at dksX1_pays_2 7 rfl rfl)
theorem dX1_pays_55 : decode cX1_pays 55 = .ok (.getfield 91, 3) := dk_180 0 91 (dk_at dksX1_pays_2 8 rfl rfl)
theorem dX1_pays_58 : decode cX1_pays 58 = .ok (.bipush 6, 2) := dk_16 6 (dk_at dksX1_pays_2 11 rfl rfl)
theorem dX1_pays_60 : decode cX1_pays 60 = .ok (.iload 7, 2) := dk_21 7 (dk_at dksX1_pays_2 13 rfl rfl)
theorem dX1_pays_62 : decode cX1_pays 62 = .ok (.imul, 1) := dk_104 (dk_at dksX1_pays_2 15 rfl rfl)
theorem dX1_pays_63 : decode cX1_pays 63 = .ok (.iload 8, 2) := dk_21 8 (dk_at dksX1_pays_2 16 rfl rfl)
theorem dX1_pays_65 : decode cX1_pays 65 = .ok (.iadd, 1) := dk_96 (dk_at dksX1_pays_2 18 rfl rfl)
theorem dX1_pays_66 : decode cX1_pays 66 = .ok (.iaload, 1) := dk_46 (dk_at dksX1_pays_2 19 rfl rfl)
theorem dX1_pays_67 : decode cX1_pays 67 = .ok (.goto 4, 3) := dk_167 0 4 (dk_at dksX1_pays_2 20 rfl rfl)
theorem dX1_pays_70 : decode cX1_pays 70 = .ok (.iconst 0, 1) := dk_3 (dk_at dksX1_pays_2 23 rfl rfl)
theorem dX1_pays_71 : decode cX1_pays 71 = .ok (.iadd, 1) := dk_96 (dk_at dksX1_pays_3 0 rfl rfl)
theorem dX1_pays_72 : decode cX1_pays 72 = .ok (.istore 6, 2) := dk_54 6 (dk_at dksX1_pays_3 1 rfl rfl)
theorem dX1_pays_74 : decode cX1_pays 74 = .ok (.iinc 7 1, 3) := dk_132 7 1 (dk_at dksX1_pays_3 3 rfl rfl)
theorem dX1_pays_77 : decode cX1_pays 77 = .ok (.goto (-68), 3) := dk_167 255 188 (dk_at dksX1_pays_3 6 rfl rfl)
theorem dX1_pays_80 : decode cX1_pays 80 = .ok (.iconst 0, 1) := dk_3 (dk_at dksX1_pays_3 9 rfl rfl)
theorem dX1_pays_81 : decode cX1_pays 81 = .ok (.istore 7, 2) := dk_54 7 (dk_at dksX1_pays_3 10 rfl rfl)
theorem dX1_pays_83 : decode cX1_pays 83 = .ok (.iload 7, 2) := dk_21 7 (dk_at dksX1_pays_3 12 rfl rfl)
theorem dX1_pays_85 : decode cX1_pays 85 = .ok (.aload_n 0, 1) := dk_42 (dk_at dksX1_pays_3 14 rfl rfl)
theorem dX1_pays_86 : decode cX1_pays 86 = .ok (.getfield 350, 3) := dk_180 1 94 (dk_at dksX1_pays_3 15 rfl rfl)
theorem dX1_pays_89 : decode cX1_pays 89 = .ok (.if_icmp .ge 56, 3) := dk_162 0 56 (dk_at dksX1_pays_3 18 rfl rfl)
theorem dX1_pays_92 : decode cX1_pays 92 = .ok (.aload_n 0, 1) := dk_42 (dk_at dksX1_pays_3 21 rfl rfl)
theorem dX1_pays_93 : decode cX1_pays 93 = .ok (.getfield 97, 3) := dk_180 0 97 (dk_at dksX1_pays_4 0 rfl rfl)
theorem dX1_pays_96 : decode cX1_pays 96 = .ok (.aload_n 0, 1) := dk_42 (dk_at dksX1_pays_4 3 rfl rfl)
theorem dX1_pays_97 : decode cX1_pays 97 = .ok (.getfield 87, 3) := dk_180 0 87 (dk_at dksX1_pays_4 4 rfl rfl)
theorem dX1_pays_100 : decode cX1_pays 100 = .ok (.iload 7, 2) := dk_21 7 (dk_at dksX1_pays_4 7 rfl rfl)
theorem dX1_pays_102 : decode cX1_pays 102 = .ok (.iaload, 1) := dk_46 (dk_at dksX1_pays_4 9 rfl rfl)
theorem dX1_pays_103 : decode cX1_pays 103 = .ok (.iaload, 1) := dk_46 (dk_at dksX1_pays_4 10 rfl rfl)
theorem dX1_pays_104 : decode cX1_pays 104 = .ok (.iconst 1, 1) := dk_4 (dk_at dksX1_pays_4 11 rfl rfl)
theorem dX1_pays_105 : decode cX1_pays 105 = .ok (.if_icmp .le 34, 3) := dk_164 0 34 (dk_at dksX1_pays_4 12 rfl rfl)
theorem dX1_pays_108 : decode cX1_pays 108 = .ok (.aload_n 0, 1) := dk_42 (dk_at dksX1_pays_4 15 rfl rfl)
theorem dX1_pays_109 : decode cX1_pays 109 = .ok (.getfield 70, 3) := dk_180 0 70 (dk_at dksX1_pays_4 16 rfl rfl)
theorem dX1_pays_112 : decode cX1_pays 112 = .ok (.aload_n 0, 1) := dk_42 (dk_at dksX1_pays_4 19 rfl rfl)
theorem dX1_pays_113 : decode cX1_pays 113 = .ok (.getfield 87, 3) := dk_180 0 87 (dk_at dksX1_pays_4 20 rfl rfl)
theorem dX1_pays_116 : decode cX1_pays 116 = .ok (.iload 7, 2) := dk_21 7 (dk_at dksX1_pays_5 0 rfl rfl)
theorem dX1_pays_118 : decode cX1_pays 118 = .ok (.iaload, 1) := dk_46 (dk_at dksX1_pays_5 2 rfl rfl)
theorem dX1_pays_119 : decode cX1_pays 119 = .ok (.iload_n 1, 1) := dk_27 (dk_at dksX1_pays_5 3 rfl rfl)
theorem dX1_pays_120 : decode cX1_pays 120 = .ok (.aload_n 0, 1) := dk_42 (dk_at dksX1_pays_5 4 rfl rfl)
theorem dX1_pays_121 : decode cX1_pays 121 = .ok (.getfield 97, 3) := dk_180 0 97 (dk_at dksX1_pays_5 5 rfl rfl)
theorem dX1_pays_124 : decode cX1_pays 124 = .ok (.aload_n 0, 1) := dk_42 (dk_at dksX1_pays_5 8 rfl rfl)
theorem dX1_pays_125 : decode cX1_pays 125 = .ok (.getfield 87, 3) := dk_180 0 87 (dk_at dksX1_pays_5 9 rfl rfl)
theorem dX1_pays_128 : decode cX1_pays 128 = .ok (.iload 7, 2) := dk_21 7 (dk_at dksX1_pays_5 12 rfl rfl)
theorem dX1_pays_130 : decode cX1_pays 130 = .ok (.iaload, 1) := dk_46 (dk_at dksX1_pays_5 14 rfl rfl)
theorem dX1_pays_131 : decode cX1_pays 131 = .ok (.iaload, 1) := dk_46 (dk_at dksX1_pays_5 15 rfl rfl)
theorem dX1_pays_132 : decode cX1_pays 132 = .ok (.iconst 2, 1) := dk_5 (dk_at dksX1_pays_5 16 rfl rfl)
theorem dX1_pays_133 : decode cX1_pays 133 = .ok (.isub, 1) := dk_100 (dk_at dksX1_pays_5 17 rfl rfl)
theorem dX1_pays_134 : decode cX1_pays 134 = .ok (.iconst (-1), 1) := dk_2 (dk_at dksX1_pays_5 18 rfl rfl)
theorem dX1_pays_135 : decode cX1_pays 135 = .ok (.iconst 0, 1) := dk_3 (dk_at dksX1_pays_5 19 rfl rfl)
theorem dX1_pays_136 : decode cX1_pays 136 = .ok (.invokevirtual 274, 3) := dk_182 1 18 (dk_at dksX1_pays_5 20 rfl rfl)
theorem dX1_pays_139 : decode cX1_pays 139 = .ok (.iinc 7 1, 3) := dk_132 7 1 (dk_at dksX1_pays_6 0 rfl rfl)
theorem dX1_pays_142 : decode cX1_pays 142 = .ok (.goto (-59), 3) := dk_167 255 197 (dk_at dksX1_pays_6 3 rfl rfl)
theorem dX1_pays_145 : decode cX1_pays 145 = .ok (.aload_n 0, 1) := dk_42 (dk_at dksX1_pays_6 6 rfl rfl)
theorem dX1_pays_146 : decode cX1_pays 146 = .ok (.iload_n 1, 1) := dk_27 (dk_at dksX1_pays_6 7 rfl rfl)
theorem dX1_pays_147 : decode cX1_pays 147 = .ok (.iload_n 2, 1) := dk_28 (dk_at dksX1_pays_6 8 rfl rfl)
theorem dX1_pays_148 : decode cX1_pays 148 = .ok (.iload_n 3, 1) := dk_29 (dk_at dksX1_pays_6 9 rfl rfl)
theorem dX1_pays_149 : decode cX1_pays 149 = .ok (.iload 4, 2) := dk_21 4 (dk_at dksX1_pays_6 10 rfl rfl)
theorem dX1_pays_151 : decode cX1_pays 151 = .ok (.iload 5, 2) := dk_21 5 (dk_at dksX1_pays_6 12 rfl rfl)
theorem dX1_pays_153 : decode cX1_pays 153 = .ok (.iload 6, 2) := dk_21 6 (dk_at dksX1_pays_6 14 rfl rfl)
theorem dX1_pays_155 : decode cX1_pays 155 = .ok (.invokevirtual 342, 3) := dk_182 1 86 (dk_at dksX1_pays_6 16 rfl rfl)
theorem dX1_pays_158 : decode cX1_pays 158 = .ok (.istore 7, 2) := dk_54 7 (dk_at dksX1_pays_6 19 rfl rfl)
theorem dX1_pays_160 : decode cX1_pays 160 = .ok (.iconst 0, 1) := dk_3 (dk_at dksX1_pays_6 21 rfl rfl)
theorem dX1_pays_161 : decode cX1_pays 161 = .ok (.istore 8, 2) := dk_54 8 (dk_at dksX1_pays_6 22 rfl rfl)
theorem dX1_pays_163 : decode cX1_pays 163 = .ok (.iload 8, 2) := dk_21 8 (dk_at dksX1_pays_7 0 rfl rfl)
theorem dX1_pays_165 : decode cX1_pays 165 = .ok (.aload_n 0, 1) := dk_42 (dk_at dksX1_pays_7 2 rfl rfl)
theorem dX1_pays_166 : decode cX1_pays 166 = .ok (.getfield 350, 3) := dk_180 1 94 (dk_at dksX1_pays_7 3 rfl rfl)
theorem dX1_pays_169 : decode cX1_pays 169 = .ok (.if_icmp .ge 39, 3) := dk_162 0 39 (dk_at dksX1_pays_7 6 rfl rfl)
theorem dX1_pays_172 : decode cX1_pays 172 = .ok (.aload_n 0, 1) := dk_42 (dk_at dksX1_pays_7 9 rfl rfl)
theorem dX1_pays_173 : decode cX1_pays 173 = .ok (.getfield 97, 3) := dk_180 0 97 (dk_at dksX1_pays_7 10 rfl rfl)
theorem dX1_pays_176 : decode cX1_pays 176 = .ok (.aload_n 0, 1) := dk_42 (dk_at dksX1_pays_7 13 rfl rfl)
theorem dX1_pays_177 : decode cX1_pays 177 = .ok (.getfield 87, 3) := dk_180 0 87 (dk_at dksX1_pays_7 14 rfl rfl)
theorem dX1_pays_180 : decode cX1_pays 180 = .ok (.iload 8, 2) := dk_21 8 (dk_at dksX1_pays_7 17 rfl rfl)
theorem dX1_pays_182 : decode cX1_pays 182 = .ok (.iaload, 1) := dk_46 (dk_at dksX1_pays_7 19 rfl rfl)
theorem dX1_pays_183 : decode cX1_pays 183 = .ok (.iaload, 1) := dk_46 (dk_at dksX1_pays_7 20 rfl rfl)
theorem dX1_pays_184 : decode cX1_pays 184 = .ok (.ifCond .le 18, 3) := dk_158 0 18 (dk_at dksX1_pays_7 21 rfl rfl)
theorem dX1_pays_187 : decode cX1_pays 187 = .ok (.aload_n 0, 1) := dk_42 (dk_at dksX1_pays_8 0 rfl rfl)
theorem dX1_pays_188 : decode cX1_pays 188 = .ok (.aload_n 0, 1) := dk_42 (dk_at dksX1_pays_8 1 rfl rfl)
theorem dX1_pays_189 : decode cX1_pays 189 = .ok (.getfield 87, 3) := dk_180 0 87 (dk_at dksX1_pays_8 2 rfl rfl)
theorem dX1_pays_192 : decode cX1_pays 192 = .ok (.iload 8, 2) := dk_21 8 (dk_at dksX1_pays_8 5 rfl rfl)
theorem dX1_pays_194 : decode cX1_pays 194 = .ok (.iaload, 1) := dk_46 (dk_at dksX1_pays_8 7 rfl rfl)
theorem dX1_pays_195 : decode cX1_pays 195 = .ok (.iload_n 2, 1) := dk_28 (dk_at dksX1_pays_8 8 rfl rfl)
theorem dX1_pays_196 : decode cX1_pays 196 = .ok (.iload_n 3, 1) := dk_29 (dk_at dksX1_pays_8 9 rfl rfl)
theorem dX1_pays_197 : decode cX1_pays 197 = .ok (.iload 7, 2) := dk_21 7 (dk_at dksX1_pays_8 10 rfl rfl)
theorem dX1_pays_199 : decode cX1_pays 199 = .ok (.invokevirtual 346, 3) := dk_182 1 90 (dk_at dksX1_pays_8 12 rfl rfl)
theorem dX1_pays_202 : decode cX1_pays 202 = .ok (.iinc 8 1, 3) := dk_132 8 1 (dk_at dksX1_pays_8 15 rfl rfl)
theorem dX1_pays_205 : decode cX1_pays 205 = .ok (.goto (-42), 3) := dk_167 255 214 (dk_at dksX1_pays_8 18 rfl rfl)
theorem dX1_pays_208 : decode cX1_pays 208 = .ok (.return_, 1) := dk_177 (dk_at dksX1_pays_8 21 rfl rfl)
abbrev cX1_steal : ByteArray := prog_1_method_42_code
def yX1_steal : MethodName := ⟨RX1, "steal", "(II)Z"⟩
def dkwX1_steal_2 : List UInt8 := [42, 180, 0, 70, 27, 181, 1, 129, 4, 172]
abbrev dktX1_steal_2 : List UInt8 := dkwX1_steal_2 ++ []
def dkwX1_steal_1 : List UInt8 := [180, 0, 70, 180, 1, 126, 2, 159, 0, 5, 3, 172, 42, 182, 1, 8, 42, 180, 0, 70, 28, 181, 1, 126]
abbrev dktX1_steal_1 : List UInt8 := dkwX1_steal_1 ++ dktX1_steal_2
def dkwX1_steal_0 : List UInt8 := [42, 27, 182, 1, 1, 153, 0, 27, 42, 28, 182, 1, 1, 153, 0, 19, 27, 28, 159, 0, 14, 42]
abbrev dktX1_steal_0 : List UInt8 := dkwX1_steal_0 ++ dktX1_steal_1
theorem dksX1_steal_0 : cX1_steal.data.toList.drop 0 = dktX1_steal_0 := by decide +kernel
theorem dksX1_steal_1 : cX1_steal.data.toList.drop 22 = dktX1_steal_1 := dk_seg dksX1_steal_0 22 rfl rfl
theorem dksX1_steal_2 : cX1_steal.data.toList.drop 46 = dktX1_steal_2 := dk_seg dksX1_steal_1 24 rfl rfl
theorem dX1_steal_0 : decode cX1_steal 0 = .ok (.aload_n 0, 1) := dk_42 (dk_at dksX1_steal_0 0 rfl rfl)
theorem dX1_steal_1 : decode cX1_steal 1 = .ok (.iload_n 1, 1) := dk_27 (dk_at dksX1_steal_0 1 rfl rfl)
theorem dX1_steal_2 : decode cX1_steal 2 = .ok (.invokevirtual 257, 3) := dk_182 1 1 (dk_at dksX1_steal_0 2 rfl rfl)
theorem dX1_steal_5 : decode cX1_steal 5 = .ok (.ifCond .eq 27, 3) := dk_153 0 27 (dk_at dksX1_steal_0 5 rfl rfl)
theorem dX1_steal_8 : decode cX1_steal 8 = .ok (.aload_n 0, 1) := dk_42 (dk_at dksX1_steal_0 8 rfl rfl)
theorem dX1_steal_9 : decode cX1_steal 9 = .ok (.iload_n 2, 1) := dk_28 (dk_at dksX1_steal_0 9 rfl rfl)
theorem dX1_steal_10 : decode cX1_steal 10 = .ok (.invokevirtual 257, 3) := dk_182 1 1 (dk_at dksX1_steal_0 10 rfl rfl)
theorem dX1_steal_13 : decode cX1_steal 13 = .ok (.ifCond .eq 19, 3) := dk_153 0 19 (dk_at dksX1_steal_0 13 rfl rfl)
theorem dX1_steal_16 : decode cX1_steal 16 = .ok (.iload_n 1, 1) := dk_27 (dk_at dksX1_steal_0 16 rfl rfl)
theorem dX1_steal_17 : decode cX1_steal 17 = .ok (.iload_n 2, 1) := dk_28 (dk_at dksX1_steal_0 17 rfl rfl)
theorem dX1_steal_18 : decode cX1_steal 18 = .ok (.if_icmp .eq 14, 3) := dk_159 0 14 (dk_at dksX1_steal_0 18 rfl rfl)
theorem dX1_steal_21 : decode cX1_steal 21 = .ok (.aload_n 0, 1) := dk_42 (dk_at dksX1_steal_0 21 rfl rfl)
theorem dX1_steal_22 : decode cX1_steal 22 = .ok (.getfield 70, 3) := dk_180 0 70 (dk_at dksX1_steal_1 0 rfl rfl)
theorem dX1_steal_25 : decode cX1_steal 25 = .ok (.getfield 382, 3) := dk_180 1 126 (dk_at dksX1_steal_1 3 rfl rfl)
theorem dX1_steal_28 : decode cX1_steal 28 = .ok (.iconst (-1), 1) := dk_2 (dk_at dksX1_steal_1 6 rfl rfl)
theorem dX1_steal_29 : decode cX1_steal 29 = .ok (.if_icmp .eq 5, 3) := dk_159 0 5 (dk_at dksX1_steal_1 7 rfl rfl)
theorem dX1_steal_32 : decode cX1_steal 32 = .ok (.iconst 0, 1) := dk_3 (dk_at dksX1_steal_1 10 rfl rfl)
theorem dX1_steal_33 : decode cX1_steal 33 = .ok (.ireturn, 1) := dk_172 (dk_at dksX1_steal_1 11 rfl rfl)
theorem dX1_steal_34 : decode cX1_steal 34 = .ok (.aload_n 0, 1) := dk_42 (dk_at dksX1_steal_1 12 rfl rfl)
theorem dX1_steal_35 : decode cX1_steal 35 = .ok (.invokevirtual 264, 3) := dk_182 1 8 (dk_at dksX1_steal_1 13 rfl rfl)
theorem dX1_steal_38 : decode cX1_steal 38 = .ok (.aload_n 0, 1) := dk_42 (dk_at dksX1_steal_1 16 rfl rfl)
theorem dX1_steal_39 : decode cX1_steal 39 = .ok (.getfield 70, 3) := dk_180 0 70 (dk_at dksX1_steal_1 17 rfl rfl)
theorem dX1_steal_42 : decode cX1_steal 42 = .ok (.iload_n 2, 1) := dk_28 (dk_at dksX1_steal_1 20 rfl rfl)
theorem dX1_steal_43 : decode cX1_steal 43 = .ok (.putfield 382, 3) := dk_181 1 126 (dk_at dksX1_steal_1 21 rfl rfl)
theorem dX1_steal_46 : decode cX1_steal 46 = .ok (.aload_n 0, 1) := dk_42 (dk_at dksX1_steal_2 0 rfl rfl)
theorem dX1_steal_47 : decode cX1_steal 47 = .ok (.getfield 70, 3) := dk_180 0 70 (dk_at dksX1_steal_2 1 rfl rfl)
theorem dX1_steal_50 : decode cX1_steal 50 = .ok (.iload_n 1, 1) := dk_27 (dk_at dksX1_steal_2 4 rfl rfl)
theorem dX1_steal_51 : decode cX1_steal 51 = .ok (.putfield 385, 3) := dk_181 1 129 (dk_at dksX1_steal_2 5 rfl rfl)
theorem dX1_steal_54 : decode cX1_steal 54 = .ok (.iconst 1, 1) := dk_4 (dk_at dksX1_steal_2 8 rfl rfl)
theorem dX1_steal_55 : decode cX1_steal 55 = .ok (.ireturn, 1) := dk_172 (dk_at dksX1_steal_2 9 rfl rfl)
abbrev cX1_forge : ByteArray := prog_1_method_43_code
def yX1_forge : MethodName := ⟨RX1, "forge", "(II)I"⟩
def dkwX1_forge_5 : List UInt8 := [182, 1, 18, 3, 172]
abbrev dktX1_forge_5 : List UInt8 := dkwX1_forge_5 ++ []
def dkwX1_forge_4 : List UInt8 := [158, 0, 5, 29, 172, 42, 182, 1, 8, 42, 180, 0, 70, 27, 42, 180, 0, 70, 180, 1, 126, 28, 2, 4]
abbrev dktX1_forge_4 : List UInt8 := dkwX1_forge_4 ++ dktX1_forge_5
def dkwX1_forge_3 : List UInt8 := [42, 180, 0, 70, 180, 0, 231, 27, 46, 42, 180, 0, 70, 180, 1, 11, 27, 46, 28, 182, 1, 4, 62, 29]
abbrev dktX1_forge_3 : List UInt8 := dkwX1_forge_3 ++ dktX1_forge_4
def dkwX1_forge_2 : List UInt8 := [180, 0, 70, 180, 0, 228, 27, 46, 42, 180, 0, 70, 180, 1, 129, 159, 0, 5, 5, 172, 42, 180, 0, 70]
abbrev dktX1_forge_2 : List UInt8 := dkwX1_forge_2 ++ dktX1_forge_3
def dkwX1_forge_1 : List UInt8 := [17, 1, 244, 160, 0, 5, 2, 172, 42, 180, 0, 70, 180, 1, 126, 2, 160, 0, 5, 4, 172, 42]
abbrev dktX1_forge_1 : List UInt8 := dkwX1_forge_1 ++ dktX1_forge_2
def dkwX1_forge_0 : List UInt8 := [42, 27, 182, 1, 22, 153, 0, 24, 42, 28, 182, 0, 233, 153, 0, 16, 42, 180, 0, 70, 180, 0, 251]
abbrev dktX1_forge_0 : List UInt8 := dkwX1_forge_0 ++ dktX1_forge_1
theorem dksX1_forge_0 : cX1_forge.data.toList.drop 0 = dktX1_forge_0 := by decide +kernel
theorem dksX1_forge_1 : cX1_forge.data.toList.drop 23 = dktX1_forge_1 := dk_seg dksX1_forge_0 23 rfl rfl
theorem dksX1_forge_2 : cX1_forge.data.toList.drop 45 = dktX1_forge_2 := dk_seg dksX1_forge_1 22 rfl rfl
theorem dksX1_forge_3 : cX1_forge.data.toList.drop 69 = dktX1_forge_3 := dk_seg dksX1_forge_2 24 rfl rfl
theorem dksX1_forge_4 : cX1_forge.data.toList.drop 93 = dktX1_forge_4 := dk_seg dksX1_forge_3 24 rfl rfl
theorem dksX1_forge_5 : cX1_forge.data.toList.drop 117 = dktX1_forge_5 := dk_seg dksX1_forge_4 24 rfl rfl
theorem dX1_forge_0 : decode cX1_forge 0 = .ok (.aload_n 0, 1) := dk_42 (dk_at dksX1_forge_0 0 rfl rfl)
theorem dX1_forge_1 : decode cX1_forge 1 = .ok (.iload_n 1, 1) := dk_27 (dk_at dksX1_forge_0 1 rfl rfl)
theorem dX1_forge_2 : decode cX1_forge 2 = .ok (.invokevirtual 278, 3) := dk_182 1 22 (dk_at dksX1_forge_0 2 rfl rfl)
theorem dX1_forge_5 : decode cX1_forge 5 = .ok (.ifCond .eq 24, 3) := dk_153 0 24 (dk_at dksX1_forge_0 5 rfl rfl)
theorem dX1_forge_8 : decode cX1_forge 8 = .ok (.aload_n 0, 1) := dk_42 (dk_at dksX1_forge_0 8 rfl rfl)
theorem dX1_forge_9 : decode cX1_forge 9 = .ok (.iload_n 2, 1) := dk_28 (dk_at dksX1_forge_0 9 rfl rfl)
theorem dX1_forge_10 : decode cX1_forge 10 = .ok (.invokevirtual 233, 3) := dk_182 0 233 (dk_at dksX1_forge_0 10 rfl rfl)
theorem dX1_forge_13 : decode cX1_forge 13 = .ok (.ifCond .eq 16, 3) := dk_153 0 16 (dk_at dksX1_forge_0 13 rfl rfl)
theorem dX1_forge_16 : decode cX1_forge 16 = .ok (.aload_n 0, 1) := dk_42 (dk_at dksX1_forge_0 16 rfl rfl)
theorem dX1_forge_17 : decode cX1_forge 17 = .ok (.getfield 70, 3) := dk_180 0 70 (dk_at dksX1_forge_0 17 rfl rfl)
theorem dX1_forge_20 : decode cX1_forge 20 = .ok (.getfield 251, 3) := dk_180 0 251 (dk_at dksX1_forge_0 20 rfl rfl)
theorem dX1_forge_23 : decode cX1_forge 23 = .ok (.sipush 500, 3) := dk_17 1 244 (dk_at dksX1_forge_1 0 rfl rfl)
theorem dX1_forge_26 : decode cX1_forge 26 = .ok (.if_icmp .ne 5, 3) := dk_160 0 5 (dk_at dksX1_forge_1 3 rfl rfl)
theorem dX1_forge_29 : decode cX1_forge 29 = .ok (.iconst (-1), 1) := dk_2 (dk_at dksX1_forge_1 6 rfl rfl)
theorem dX1_forge_30 : decode cX1_forge 30 = .ok (.ireturn, 1) := dk_172 (dk_at dksX1_forge_1 7 rfl rfl)
theorem dX1_forge_31 : decode cX1_forge 31 = .ok (.aload_n 0, 1) := dk_42 (dk_at dksX1_forge_1 8 rfl rfl)
theorem dX1_forge_32 : decode cX1_forge 32 = .ok (.getfield 70, 3) := dk_180 0 70 (dk_at dksX1_forge_1 9 rfl rfl)
theorem dX1_forge_35 : decode cX1_forge 35 = .ok (.getfield 382, 3) := dk_180 1 126 (dk_at dksX1_forge_1 12 rfl rfl)
theorem dX1_forge_38 : decode cX1_forge 38 = .ok (.iconst (-1), 1) := dk_2 (dk_at dksX1_forge_1 15 rfl rfl)
theorem dX1_forge_39 : decode cX1_forge 39 = .ok (.if_icmp .ne 5, 3) := dk_160 0 5 (dk_at dksX1_forge_1 16 rfl rfl)
theorem dX1_forge_42 : decode cX1_forge 42 = .ok (.iconst 1, 1) := dk_4 (dk_at dksX1_forge_1 19 rfl rfl)
theorem dX1_forge_43 : decode cX1_forge 43 = .ok (.ireturn, 1) := dk_172 (dk_at dksX1_forge_1 20 rfl rfl)
theorem dX1_forge_44 : decode cX1_forge 44 = .ok (.aload_n 0, 1) := dk_42 (dk_at dksX1_forge_1 21 rfl rfl)
theorem dX1_forge_45 : decode cX1_forge 45 = .ok (.getfield 70, 3) := dk_180 0 70 (dk_at dksX1_forge_2 0 rfl rfl)
theorem dX1_forge_48 : decode cX1_forge 48 = .ok (.getfield 228, 3) := dk_180 0 228 (dk_at dksX1_forge_2 3 rfl rfl)
theorem dX1_forge_51 : decode cX1_forge 51 = .ok (.iload_n 1, 1) := dk_27 (dk_at dksX1_forge_2 6 rfl rfl)
theorem dX1_forge_52 : decode cX1_forge 52 = .ok (.iaload, 1) := dk_46 (dk_at dksX1_forge_2 7 rfl rfl)
theorem dX1_forge_53 : decode cX1_forge 53 = .ok (.aload_n 0, 1) := dk_42 (dk_at dksX1_forge_2 8 rfl rfl)
theorem dX1_forge_54 : decode cX1_forge 54 = .ok (.getfield 70, 3) := dk_180 0 70 (dk_at dksX1_forge_2 9 rfl rfl)
theorem dX1_forge_57 : decode cX1_forge 57 = .ok (.getfield 385, 3) := dk_180 1 129 (dk_at dksX1_forge_2 12 rfl rfl)
theorem dX1_forge_60 : decode cX1_forge 60 = .ok (.if_icmp .eq 5, 3) := dk_159 0 5 (dk_at dksX1_forge_2 15 rfl rfl)
theorem dX1_forge_63 : decode cX1_forge 63 = .ok (.iconst 2, 1) := dk_5 (dk_at dksX1_forge_2 18 rfl rfl)
theorem dX1_forge_64 : decode cX1_forge 64 = .ok (.ireturn, 1) := dk_172 (dk_at dksX1_forge_2 19 rfl rfl)
theorem dX1_forge_65 : decode cX1_forge 65 = .ok (.aload_n 0, 1) := dk_42 (dk_at dksX1_forge_2 20 rfl rfl)
theorem dX1_forge_66 : decode cX1_forge 66 = .ok (.getfield 70, 3) := dk_180 0 70 (dk_at dksX1_forge_2 21 rfl rfl)
theorem dX1_forge_69 : decode cX1_forge 69 = .ok (.aload_n 0, 1) := dk_42 (dk_at dksX1_forge_3 0 rfl rfl)
theorem dX1_forge_70 : decode cX1_forge 70 = .ok (.getfield 70, 3) := dk_180 0 70 (dk_at dksX1_forge_3 1 rfl rfl)
theorem dX1_forge_73 : decode cX1_forge 73 = .ok (.getfield 231, 3) := dk_180 0 231 (dk_at dksX1_forge_3 4 rfl rfl)
theorem dX1_forge_76 : decode cX1_forge 76 = .ok (.iload_n 1, 1) := dk_27 (dk_at dksX1_forge_3 7 rfl rfl)
theorem dX1_forge_77 : decode cX1_forge 77 = .ok (.iaload, 1) := dk_46 (dk_at dksX1_forge_3 8 rfl rfl)
theorem dX1_forge_78 : decode cX1_forge 78 = .ok (.aload_n 0, 1) := dk_42 (dk_at dksX1_forge_3 9 rfl rfl)
theorem dX1_forge_79 : decode cX1_forge 79 = .ok (.getfield 70, 3) := dk_180 0 70 (dk_at dksX1_forge_3 10 rfl rfl)
theorem dX1_forge_82 : decode cX1_forge 82 = .ok (.getfield 267, 3) := dk_180 1 11 (dk_at dksX1_forge_3 13 rfl rfl)
theorem dX1_forge_85 : decode cX1_forge 85 = .ok (.iload_n 1, 1) := dk_27 (dk_at dksX1_forge_3 16 rfl rfl)
theorem dX1_forge_86 : decode cX1_forge 86 = .ok (.iaload, 1) := dk_46 (dk_at dksX1_forge_3 17 rfl rfl)
theorem dX1_forge_87 : decode cX1_forge 87 = .ok (.iload_n 2, 1) := dk_28 (dk_at dksX1_forge_3 18 rfl rfl)
theorem dX1_forge_88 : decode cX1_forge 88 = .ok (.invokevirtual 260, 3) := dk_182 1 4 (dk_at dksX1_forge_3 19 rfl rfl)
theorem dX1_forge_91 : decode cX1_forge 91 = .ok (.istore_n 3, 1) := dk_62 (dk_at dksX1_forge_3 22 rfl rfl)
theorem dX1_forge_92 : decode cX1_forge 92 = .ok (.iload_n 3, 1) := dk_29 (dk_at dksX1_forge_3 23 rfl rfl)
theorem dX1_forge_93 : decode cX1_forge 93 = .ok (.ifCond .le 5, 3) := dk_158 0 5 (dk_at dksX1_forge_4 0 rfl rfl)
theorem dX1_forge_96 : decode cX1_forge 96 = .ok (.iload_n 3, 1) := dk_29 (dk_at dksX1_forge_4 3 rfl rfl)
theorem dX1_forge_97 : decode cX1_forge 97 = .ok (.ireturn, 1) := dk_172 (dk_at dksX1_forge_4 4 rfl rfl)
theorem dX1_forge_98 : decode cX1_forge 98 = .ok (.aload_n 0, 1) := dk_42 (dk_at dksX1_forge_4 5 rfl rfl)
theorem dX1_forge_99 : decode cX1_forge 99 = .ok (.invokevirtual 264, 3) := dk_182 1 8 (dk_at dksX1_forge_4 6 rfl rfl)
theorem dX1_forge_102 : decode cX1_forge 102 = .ok (.aload_n 0, 1) := dk_42 (dk_at dksX1_forge_4 9 rfl rfl)
theorem dX1_forge_103 : decode cX1_forge 103 = .ok (.getfield 70, 3) := dk_180 0 70 (dk_at dksX1_forge_4 10 rfl rfl)
theorem dX1_forge_106 : decode cX1_forge 106 = .ok (.iload_n 1, 1) := dk_27 (dk_at dksX1_forge_4 13 rfl rfl)
theorem dX1_forge_107 : decode cX1_forge 107 = .ok (.aload_n 0, 1) := dk_42 (dk_at dksX1_forge_4 14 rfl rfl)
theorem dX1_forge_108 : decode cX1_forge 108 = .ok (.getfield 70, 3) := dk_180 0 70 (dk_at dksX1_forge_4 15 rfl rfl)
theorem dX1_forge_111 : decode cX1_forge 111 = .ok (.getfield 382, 3) := dk_180 1 126 (dk_at dksX1_forge_4 18 rfl rfl)
theorem dX1_forge_114 : decode cX1_forge 114 = .ok (.iload_n 2, 1) := dk_28 (dk_at dksX1_forge_4 21 rfl rfl)
theorem dX1_forge_115 : decode cX1_forge 115 = .ok (.iconst (-1), 1) := dk_2 (dk_at dksX1_forge_4 22 rfl rfl)
theorem dX1_forge_116 : decode cX1_forge 116 = .ok (.iconst 1, 1) := dk_4 (dk_at dksX1_forge_4 23 rfl rfl)
theorem dX1_forge_117 : decode cX1_forge 117 = .ok (.invokevirtual 274, 3) := dk_182 1 18 (dk_at dksX1_forge_5 0 rfl rfl)
theorem dX1_forge_120 : decode cX1_forge 120 = .ok (.iconst 0, 1) := dk_3 (dk_at dksX1_forge_5 3 rfl rfl)
theorem dX1_forge_121 : decode cX1_forge 121 = .ok (.ireturn, 1) := dk_172 (dk_at dksX1_forge_5 4 rfl rfl)
abbrev cX1_day : ByteArray := prog_1_method_44_code
def yX1_day : MethodName := ⟨RX1, "day", "()I"⟩
def dkwX1_day_1 : List UInt8 := [180, 1, 64, 4, 96, 181, 1, 64, 42, 180, 0, 70, 182, 1, 132, 42, 180, 0, 70, 180, 1, 64, 172]
abbrev dktX1_day_1 : List UInt8 := dkwX1_day_1 ++ []
def dkwX1_day_0 : List UInt8 := [42, 180, 0, 70, 180, 1, 64, 17, 39, 15, 160, 0, 5, 2, 172, 42, 182, 1, 8, 42, 180, 0, 70, 89]
abbrev dktX1_day_0 : List UInt8 := dkwX1_day_0 ++ dktX1_day_1
theorem dksX1_day_0 : cX1_day.data.toList.drop 0 = dktX1_day_0 := by decide +kernel
theorem dksX1_day_1 : cX1_day.data.toList.drop 24 = dktX1_day_1 := dk_seg dksX1_day_0 24 rfl rfl
theorem dX1_day_0 : decode cX1_day 0 = .ok (.aload_n 0, 1) := dk_42 (dk_at dksX1_day_0 0 rfl rfl)
theorem dX1_day_1 : decode cX1_day 1 = .ok (.getfield 70, 3) := dk_180 0 70 (dk_at dksX1_day_0 1 rfl rfl)
theorem dX1_day_4 : decode cX1_day 4 = .ok (.getfield 320, 3) := dk_180 1 64 (dk_at dksX1_day_0 4 rfl rfl)
theorem dX1_day_7 : decode cX1_day 7 = .ok (.sipush 9999, 3) := dk_17 39 15 (dk_at dksX1_day_0 7 rfl rfl)
theorem dX1_day_10 : decode cX1_day 10 = .ok (.if_icmp .ne 5, 3) := dk_160 0 5 (dk_at dksX1_day_0 10 rfl rfl)
theorem dX1_day_13 : decode cX1_day 13 = .ok (.iconst (-1), 1) := dk_2 (dk_at dksX1_day_0 13 rfl rfl)
theorem dX1_day_14 : decode cX1_day 14 = .ok (.ireturn, 1) := dk_172 (dk_at dksX1_day_0 14 rfl rfl)
theorem dX1_day_15 : decode cX1_day 15 = .ok (.aload_n 0, 1) := dk_42 (dk_at dksX1_day_0 15 rfl rfl)
theorem dX1_day_16 : decode cX1_day 16 = .ok (.invokevirtual 264, 3) := dk_182 1 8 (dk_at dksX1_day_0 16 rfl rfl)
theorem dX1_day_19 : decode cX1_day 19 = .ok (.aload_n 0, 1) := dk_42 (dk_at dksX1_day_0 19 rfl rfl)
theorem dX1_day_20 : decode cX1_day 20 = .ok (.getfield 70, 3) := dk_180 0 70 (dk_at dksX1_day_0 20 rfl rfl)
theorem dX1_day_23 : decode cX1_day 23 = .ok (.dup, 1) := dk_89 (dk_at dksX1_day_0 23 rfl rfl)
theorem dX1_day_24 : decode cX1_day 24 = .ok (.getfield 320, 3) := dk_180 1 64 (dk_at dksX1_day_1 0 rfl rfl)
theorem dX1_day_27 : decode cX1_day 27 = .ok (.iconst 1, 1) := dk_4 (dk_at dksX1_day_1 3 rfl rfl)
theorem dX1_day_28 : decode cX1_day 28 = .ok (.iadd, 1) := dk_96 (dk_at dksX1_day_1 4 rfl rfl)
theorem dX1_day_29 : decode cX1_day 29 = .ok (.putfield 320, 3) := dk_181 1 64 (dk_at dksX1_day_1 5 rfl rfl)
theorem dX1_day_32 : decode cX1_day 32 = .ok (.aload_n 0, 1) := dk_42 (dk_at dksX1_day_1 8 rfl rfl)
theorem dX1_day_33 : decode cX1_day 33 = .ok (.getfield 70, 3) := dk_180 0 70 (dk_at dksX1_day_1 9 rfl rfl)
theorem dX1_day_36 : decode cX1_day 36 = .ok (.invokevirtual 388, 3) := dk_182 1 132 (dk_at dksX1_day_1 12 rfl rfl)
theorem dX1_day_39 : decode cX1_day 39 = .ok (.aload_n 0, 1) := dk_42 (dk_at dksX1_day_1 15 rfl rfl)
theorem dX1_day_40 : decode cX1_day 40 = .ok (.getfield 70, 3) := dk_180 0 70 (dk_at dksX1_day_1 16 rfl rfl)
theorem dX1_day_43 : decode cX1_day 43 = .ok (.getfield 320, 3) := dk_180 1 64 (dk_at dksX1_day_1 19 rfl rfl)
theorem dX1_day_46 : decode cX1_day 46 = .ok (.ireturn, 1) := dk_172 (dk_at dksX1_day_1 22 rfl rfl)
abbrev cX1_rob : ByteArray := prog_1_method_45_code
def yX1_rob : MethodName := ⟨RX1, "rob", "(II)Z"⟩
def dkwX1_rob_1 : List UInt8 := [46, 27, 160, 0, 5, 3, 172, 42, 182, 1, 8, 42, 180, 0, 70, 180, 0, 228, 28, 27, 79, 4, 172]
abbrev dktX1_rob_1 : List UInt8 := dkwX1_rob_1 ++ []
def dkwX1_rob_0 : List UInt8 := [42, 27, 182, 1, 1, 153, 0, 24, 42, 28, 182, 1, 22, 153, 0, 16, 42, 180, 0, 70, 180, 0, 228, 28]
abbrev dktX1_rob_0 : List UInt8 := dkwX1_rob_0 ++ dktX1_rob_1
theorem dksX1_rob_0 : cX1_rob.data.toList.drop 0 = dktX1_rob_0 := by decide +kernel
theorem dksX1_rob_1 : cX1_rob.data.toList.drop 24 = dktX1_rob_1 := dk_seg dksX1_rob_0 24 rfl rfl
theorem dX1_rob_0 : decode cX1_rob 0 = .ok (.aload_n 0, 1) := dk_42 (dk_at dksX1_rob_0 0 rfl rfl)
theorem dX1_rob_1 : decode cX1_rob 1 = .ok (.iload_n 1, 1) := dk_27 (dk_at dksX1_rob_0 1 rfl rfl)
theorem dX1_rob_2 : decode cX1_rob 2 = .ok (.invokevirtual 257, 3) := dk_182 1 1 (dk_at dksX1_rob_0 2 rfl rfl)
theorem dX1_rob_5 : decode cX1_rob 5 = .ok (.ifCond .eq 24, 3) := dk_153 0 24 (dk_at dksX1_rob_0 5 rfl rfl)
theorem dX1_rob_8 : decode cX1_rob 8 = .ok (.aload_n 0, 1) := dk_42 (dk_at dksX1_rob_0 8 rfl rfl)
theorem dX1_rob_9 : decode cX1_rob 9 = .ok (.iload_n 2, 1) := dk_28 (dk_at dksX1_rob_0 9 rfl rfl)
theorem dX1_rob_10 : decode cX1_rob 10 = .ok (.invokevirtual 278, 3) := dk_182 1 22 (dk_at dksX1_rob_0 10 rfl rfl)
theorem dX1_rob_13 : decode cX1_rob 13 = .ok (.ifCond .eq 16, 3) := dk_153 0 16 (dk_at dksX1_rob_0 13 rfl rfl)
theorem dX1_rob_16 : decode cX1_rob 16 = .ok (.aload_n 0, 1) := dk_42 (dk_at dksX1_rob_0 16 rfl rfl)
theorem dX1_rob_17 : decode cX1_rob 17 = .ok (.getfield 70, 3) := dk_180 0 70 (dk_at dksX1_rob_0 17 rfl rfl)
theorem dX1_rob_20 : decode cX1_rob 20 = .ok (.getfield 228, 3) := dk_180 0 228 (dk_at dksX1_rob_0 20 rfl rfl)
theorem dX1_rob_23 : decode cX1_rob 23 = .ok (.iload_n 2, 1) := dk_28 (dk_at dksX1_rob_0 23 rfl rfl)
theorem dX1_rob_24 : decode cX1_rob 24 = .ok (.iaload, 1) := dk_46 (dk_at dksX1_rob_1 0 rfl rfl)
theorem dX1_rob_25 : decode cX1_rob 25 = .ok (.iload_n 1, 1) := dk_27 (dk_at dksX1_rob_1 1 rfl rfl)
theorem dX1_rob_26 : decode cX1_rob 26 = .ok (.if_icmp .ne 5, 3) := dk_160 0 5 (dk_at dksX1_rob_1 2 rfl rfl)
theorem dX1_rob_29 : decode cX1_rob 29 = .ok (.iconst 0, 1) := dk_3 (dk_at dksX1_rob_1 5 rfl rfl)
theorem dX1_rob_30 : decode cX1_rob 30 = .ok (.ireturn, 1) := dk_172 (dk_at dksX1_rob_1 6 rfl rfl)
theorem dX1_rob_31 : decode cX1_rob 31 = .ok (.aload_n 0, 1) := dk_42 (dk_at dksX1_rob_1 7 rfl rfl)
theorem dX1_rob_32 : decode cX1_rob 32 = .ok (.invokevirtual 264, 3) := dk_182 1 8 (dk_at dksX1_rob_1 8 rfl rfl)
theorem dX1_rob_35 : decode cX1_rob 35 = .ok (.aload_n 0, 1) := dk_42 (dk_at dksX1_rob_1 11 rfl rfl)
theorem dX1_rob_36 : decode cX1_rob 36 = .ok (.getfield 70, 3) := dk_180 0 70 (dk_at dksX1_rob_1 12 rfl rfl)
theorem dX1_rob_39 : decode cX1_rob 39 = .ok (.getfield 228, 3) := dk_180 0 228 (dk_at dksX1_rob_1 15 rfl rfl)
theorem dX1_rob_42 : decode cX1_rob 42 = .ok (.iload_n 2, 1) := dk_28 (dk_at dksX1_rob_1 18 rfl rfl)
theorem dX1_rob_43 : decode cX1_rob 43 = .ok (.iload_n 1, 1) := dk_27 (dk_at dksX1_rob_1 19 rfl rfl)
theorem dX1_rob_44 : decode cX1_rob 44 = .ok (.iastore, 1) := dk_79 (dk_at dksX1_rob_1 20 rfl rfl)
theorem dX1_rob_45 : decode cX1_rob 45 = .ok (.iconst 1, 1) := dk_4 (dk_at dksX1_rob_1 21 rfl rfl)
theorem dX1_rob_46 : decode cX1_rob 46 = .ok (.ireturn, 1) := dk_172 (dk_at dksX1_rob_1 22 rfl rfl)
abbrev cX1_dies : ByteArray := prog_1_method_46_code
def yX1_dies : MethodName := ⟨RX1, "dies", "(II)I"⟩
def dkwX1_dies_5 : List UInt8 := [180, 0, 70, 182, 1, 132, 29, 172]
abbrev dktX1_dies_5 : List UInt8 := dkwX1_dies_5 ++ []
def dkwX1_dies_4 : List UInt8 := [42, 180, 0, 70, 180, 1, 126, 27, 159, 0, 14, 42, 180, 0, 70, 180, 1, 129, 27, 160, 0, 10, 42]
abbrev dktX1_dies_4 : List UInt8 := dkwX1_dies_4 ++ dktX1_dies_5
def dkwX1_dies_3 : List UInt8 := [132, 3, 1, 132, 4, 1, 167, 255, 210, 42, 180, 0, 70, 89, 180, 0, 197, 4, 27, 120, 128, 181, 0, 197]
abbrev dktX1_dies_3 : List UInt8 := dkwX1_dies_3 ++ dktX1_dies_4
def dkwX1_dies_2 : List UInt8 := [180, 0, 228, 21, 4, 46, 27, 159, 0, 6, 167, 0, 17, 42, 180, 0, 70, 180, 0, 228, 21, 4, 28, 79]
abbrev dktX1_dies_2 : List UInt8 := dkwX1_dies_2 ++ dktX1_dies_3
def dkwX1_dies_1 : List UInt8 := [182, 1, 8, 3, 62, 3, 54, 4, 21, 4, 42, 180, 0, 70, 180, 0, 206, 162, 0, 40, 42, 180, 0, 70]
abbrev dktX1_dies_1 : List UInt8 := dkwX1_dies_1 ++ dktX1_dies_2
def dkwX1_dies_0 : List UInt8 := [42, 27, 182, 1, 1, 153, 0, 16, 42, 28, 182, 1, 1, 153, 0, 8, 27, 28, 160, 0, 5, 2, 172, 42]
abbrev dktX1_dies_0 : List UInt8 := dkwX1_dies_0 ++ dktX1_dies_1
theorem dksX1_dies_0 : cX1_dies.data.toList.drop 0 = dktX1_dies_0 := by decide +kernel
theorem dksX1_dies_1 : cX1_dies.data.toList.drop 24 = dktX1_dies_1 := dk_seg dksX1_dies_0 24 rfl rfl
theorem dksX1_dies_2 : cX1_dies.data.toList.drop 48 = dktX1_dies_2 := dk_seg dksX1_dies_1 24 rfl rfl
theorem dksX1_dies_3 : cX1_dies.data.toList.drop 72 = dktX1_dies_3 := dk_seg dksX1_dies_2 24 rfl rfl
theorem dksX1_dies_4 : cX1_dies.data.toList.drop 96 = dktX1_dies_4 := dk_seg dksX1_dies_3 24 rfl rfl
theorem dksX1_dies_5 : cX1_dies.data.toList.drop 119 = dktX1_dies_5 := dk_seg dksX1_dies_4 23 rfl rfl
theorem dX1_dies_0 : decode cX1_dies 0 = .ok (.aload_n 0, 1) := dk_42 (dk_at dksX1_dies_0 0 rfl rfl)
theorem dX1_dies_1 : decode cX1_dies 1 = .ok (.iload_n 1, 1) := dk_27 (dk_at dksX1_dies_0 1 rfl rfl)
theorem dX1_dies_2 : decode cX1_dies 2 = .ok (.invokevirtual 257, 3) := dk_182 1 1 (dk_at dksX1_dies_0 2 rfl rfl)
theorem dX1_dies_5 : decode cX1_dies 5 = .ok (.ifCond .eq 16, 3) := dk_153 0 16 (dk_at dksX1_dies_0 5 rfl rfl)
theorem dX1_dies_8 : decode cX1_dies 8 = .ok (.aload_n 0, 1) := dk_42 (dk_at dksX1_dies_0 8 rfl rfl)
theorem dX1_dies_9 : decode cX1_dies 9 = .ok (.iload_n 2, 1) := dk_28 (dk_at dksX1_dies_0 9 rfl rfl)
theorem dX1_dies_10 : decode cX1_dies 10 = .ok (.invokevirtual 257, 3) := dk_182 1 1 (dk_at dksX1_dies_0 10 rfl rfl)
theorem dX1_dies_13 : decode cX1_dies 13 = .ok (.ifCond .eq 8, 3) := dk_153 0 8 (dk_at dksX1_dies_0 13 rfl rfl)
theorem dX1_dies_16 : decode cX1_dies 16 = .ok (.iload_n 1, 1) := dk_27 (dk_at dksX1_dies_0 16 rfl rfl)
theorem dX1_dies_17 : decode cX1_dies 17 = .ok (.iload_n 2, 1) := dk_28 (dk_at dksX1_dies_0 17 rfl rfl)
theorem dX1_dies_18 : decode cX1_dies 18 = .ok (.if_icmp .ne 5, 3) := dk_160 0 5 (dk_at dksX1_dies_0 18 rfl rfl)
theorem dX1_dies_21 : decode cX1_dies 21 = .ok (.iconst (-1), 1) := dk_2 (dk_at dksX1_dies_0 21 rfl rfl)
theorem dX1_dies_22 : decode cX1_dies 22 = .ok (.ireturn, 1) := dk_172 (dk_at dksX1_dies_0 22 rfl rfl)
theorem dX1_dies_23 : decode cX1_dies 23 = .ok (.aload_n 0, 1) := dk_42 (dk_at dksX1_dies_0 23 rfl rfl)
theorem dX1_dies_24 : decode cX1_dies 24 = .ok (.invokevirtual 264, 3) := dk_182 1 8 (dk_at dksX1_dies_1 0 rfl rfl)
theorem dX1_dies_27 : decode cX1_dies 27 = .ok (.iconst 0, 1) := dk_3 (dk_at dksX1_dies_1 3 rfl rfl)
theorem dX1_dies_28 : decode cX1_dies 28 = .ok (.istore_n 3, 1) := dk_62 (dk_at dksX1_dies_1 4 rfl rfl)
theorem dX1_dies_29 : decode cX1_dies 29 = .ok (.iconst 0, 1) := dk_3 (dk_at dksX1_dies_1 5 rfl rfl)
theorem dX1_dies_30 : decode cX1_dies 30 = .ok (.istore 4, 2) := dk_54 4 (dk_at dksX1_dies_1 6 rfl rfl)
theorem dX1_dies_32 : decode cX1_dies 32 = .ok (.iload 4, 2) := dk_21 4 (dk_at dksX1_dies_1 8 rfl rfl)
theorem dX1_dies_34 : decode cX1_dies 34 = .ok (.aload_n 0, 1) := dk_42 (dk_at dksX1_dies_1 10 rfl rfl)
theorem dX1_dies_35 : decode cX1_dies 35 = .ok (.getfield 70, 3) := dk_180 0 70 (dk_at dksX1_dies_1 11 rfl rfl)
theorem dX1_dies_38 : decode cX1_dies 38 = .ok (.getfield 206, 3) := dk_180 0 206 (dk_at dksX1_dies_1 14 rfl rfl)
theorem dX1_dies_41 : decode cX1_dies 41 = .ok (.if_icmp .ge 40, 3) := dk_162 0 40 (dk_at dksX1_dies_1 17 rfl rfl)
theorem dX1_dies_44 : decode cX1_dies 44 = .ok (.aload_n 0, 1) := dk_42 (dk_at dksX1_dies_1 20 rfl rfl)
theorem dX1_dies_45 : decode cX1_dies 45 = .ok (.getfield 70, 3) := dk_180 0 70 (dk_at dksX1_dies_1 21 rfl rfl)
theorem dX1_dies_48 : decode cX1_dies 48 = .ok (.getfield 228, 3) := dk_180 0 228 (dk_at dksX1_dies_2 0 rfl rfl)
theorem dX1_dies_51 : decode cX1_dies 51 = .ok (.iload 4, 2) := dk_21 4 (dk_at dksX1_dies_2 3 rfl rfl)
theorem dX1_dies_53 : decode cX1_dies 53 = .ok (.iaload, 1) := dk_46 (dk_at dksX1_dies_2 5 rfl rfl)
theorem dX1_dies_54 : decode cX1_dies 54 = .ok (.iload_n 1, 1) := dk_27 (dk_at dksX1_dies_2 6 rfl rfl)
theorem dX1_dies_55 : decode cX1_dies 55 = .ok (.if_icmp .eq 6, 3) := dk_159 0 6 (dk_at dksX1_dies_2 7 rfl rfl)
theorem dX1_dies_58 : decode cX1_dies 58 = .ok (.goto 17, 3) := dk_167 0 17 (dk_at dksX1_dies_2 10 rfl rfl)
theorem dX1_dies_61 : decode cX1_dies 61 = .ok (.aload_n 0, 1) := dk_42 (dk_at dksX1_dies_2 13 rfl rfl)
theorem dX1_dies_62 : decode cX1_dies 62 = .ok (.getfield 70, 3) := dk_180 0 70 (dk_at dksX1_dies_2 14 rfl rfl)
theorem dX1_dies_65 : decode cX1_dies 65 = .ok (.getfield 228, 3) := dk_180 0 228 (dk_at dksX1_dies_2 17 rfl rfl)
theorem dX1_dies_68 : decode cX1_dies 68 = .ok (.iload 4, 2) := dk_21 4 (dk_at dksX1_dies_2 20 rfl rfl)
theorem dX1_dies_70 : decode cX1_dies 70 = .ok (.iload_n 2, 1) := dk_28 (dk_at dksX1_dies_2 22 rfl rfl)
theorem dX1_dies_71 : decode cX1_dies 71 = .ok (.iastore, 1) := dk_79 (dk_at dksX1_dies_2 23 rfl rfl)
theorem dX1_dies_72 : decode cX1_dies 72 = .ok (.iinc 3 1, 3) := dk_132 3 1 (dk_at dksX1_dies_3 0 rfl rfl)
theorem dX1_dies_75 : decode cX1_dies 75 = .ok (.iinc 4 1, 3) := dk_132 4 1 (dk_at dksX1_dies_3 3 rfl rfl)
theorem dX1_dies_78 : decode cX1_dies 78 = .ok (.goto (-46), 3) := dk_167 255 210 (dk_at dksX1_dies_3 6 rfl rfl)
theorem dX1_dies_81 : decode cX1_dies 81 = .ok (.aload_n 0, 1) := dk_42 (dk_at dksX1_dies_3 9 rfl rfl)
theorem dX1_dies_82 : decode cX1_dies 82 = .ok (.getfield 70, 3) := dk_180 0 70 (dk_at dksX1_dies_3 10 rfl rfl)
theorem dX1_dies_85 : decode cX1_dies 85 = .ok (.dup, 1) := dk_89 (dk_at dksX1_dies_3 13 rfl rfl)
theorem dX1_dies_86 : decode cX1_dies 86 = .ok (.getfield 197, 3) := dk_180 0 197 (dk_at dksX1_dies_3 14 rfl rfl)
theorem dX1_dies_89 : decode cX1_dies 89 = .ok (.iconst 1, 1) := dk_4 (dk_at dksX1_dies_3 17 rfl rfl)
theorem dX1_dies_90 : decode cX1_dies 90 = .ok (.iload_n 1, 1) := dk_27 (dk_at dksX1_dies_3 18 rfl rfl)
theorem dX1_dies_91 : decode cX1_dies 91 = .ok (.ishl, 1) := dk_120 (dk_at dksX1_dies_3 19 rfl rfl)
theorem dX1_dies_92 : decode cX1_dies 92 = .ok (.ior, 1) := dk_128 (dk_at dksX1_dies_3 20 rfl rfl)
theorem dX1_dies_93 : decode cX1_dies 93 = .ok (.putfield 197, 3) := dk_181 0 197 (dk_at dksX1_dies_3 21 rfl rfl)
theorem dX1_dies_96 : decode cX1_dies 96 = .ok (.aload_n 0, 1) := dk_42 (dk_at dksX1_dies_4 0 rfl rfl)
theorem dX1_dies_97 : decode cX1_dies 97 = .ok (.getfield 70, 3) := dk_180 0 70 (dk_at dksX1_dies_4 1 rfl rfl)
theorem dX1_dies_100 : decode cX1_dies 100 = .ok (.getfield 382, 3) := dk_180 1 126 (dk_at dksX1_dies_4 4 rfl rfl)
theorem dX1_dies_103 : decode cX1_dies 103 = .ok (.iload_n 1, 1) := dk_27 (dk_at dksX1_dies_4 7 rfl rfl)
theorem dX1_dies_104 : decode cX1_dies 104 = .ok (.if_icmp .eq 14, 3) := dk_159 0 14 (dk_at dksX1_dies_4 8 rfl rfl)
theorem dX1_dies_107 : decode cX1_dies 107 = .ok (.aload_n 0, 1) := dk_42 (dk_at dksX1_dies_4 11 rfl rfl)
theorem dX1_dies_108 : decode cX1_dies 108 = .ok (.getfield 70, 3) := dk_180 0 70 (dk_at dksX1_dies_4 12 rfl rfl)
theorem dX1_dies_111 : decode cX1_dies 111 = .ok (.getfield 385, 3) := dk_180 1 129 (dk_at dksX1_dies_4 15 rfl rfl)
theorem dX1_dies_114 : decode cX1_dies 114 = .ok (.iload_n 1, 1) := dk_27 (dk_at dksX1_dies_4 18 rfl rfl)
theorem dX1_dies_115 : decode cX1_dies 115 = .ok (.if_icmp .ne 10, 3) := dk_160 0 10 (dk_at dksX1_dies_4 19 rfl rfl)
theorem dX1_dies_118 : decode cX1_dies 118 = .ok (.aload_n 0, 1) := dk_42 (dk_at dksX1_dies_4 22 rfl rfl)
theorem dX1_dies_119 : decode cX1_dies 119 = .ok (.getfield 70, 3) := dk_180 0 70 (dk_at dksX1_dies_5 0 rfl rfl)
theorem dX1_dies_122 : decode cX1_dies 122 = .ok (.invokevirtual 388, 3) := dk_182 1 132 (dk_at dksX1_dies_5 3 rfl rfl)
theorem dX1_dies_125 : decode cX1_dies 125 = .ok (.iload_n 3, 1) := dk_29 (dk_at dksX1_dies_5 6 rfl rfl)
theorem dX1_dies_126 : decode cX1_dies 126 = .ok (.ireturn, 1) := dk_172 (dk_at dksX1_dies_5 7 rfl rfl)
abbrev cX1_close : ByteArray := prog_1_method_47_code
def yX1_close : MethodName := ⟨RX1, "close", "(I)Z"⟩
def dkwX1_close_1 : List UInt8 := [42, 182, 1, 8, 42, 180, 0, 70, 89, 180, 0, 248, 4, 27, 120, 128, 181, 0, 248, 4, 172]
abbrev dktX1_close_1 : List UInt8 := dkwX1_close_1 ++ []
def dkwX1_close_0 : List UInt8 := [42, 27, 182, 0, 233, 153, 0, 17, 42, 180, 0, 70, 180, 0, 248, 27, 184, 0, 199, 153, 0, 5, 3, 172]
abbrev dktX1_close_0 : List UInt8 := dkwX1_close_0 ++ dktX1_close_1
theorem dksX1_close_0 : cX1_close.data.toList.drop 0 = dktX1_close_0 := by decide +kernel
theorem dksX1_close_1 : cX1_close.data.toList.drop 24 = dktX1_close_1 := dk_seg dksX1_close_0 24 rfl rfl
theorem dX1_close_0 : decode cX1_close 0 = .ok (.aload_n 0, 1) := dk_42 (dk_at dksX1_close_0 0 rfl rfl)
theorem dX1_close_1 : decode cX1_close 1 = .ok (.iload_n 1, 1) := dk_27 (dk_at dksX1_close_0 1 rfl rfl)
theorem dX1_close_2 : decode cX1_close 2 = .ok (.invokevirtual 233, 3) := dk_182 0 233 (dk_at dksX1_close_0 2 rfl rfl)
theorem dX1_close_5 : decode cX1_close 5 = .ok (.ifCond .eq 17, 3) := dk_153 0 17 (dk_at dksX1_close_0 5 rfl rfl)
theorem dX1_close_8 : decode cX1_close 8 = .ok (.aload_n 0, 1) := dk_42 (dk_at dksX1_close_0 8 rfl rfl)
theorem dX1_close_9 : decode cX1_close 9 = .ok (.getfield 70, 3) := dk_180 0 70 (dk_at dksX1_close_0 9 rfl rfl)
theorem dX1_close_12 : decode cX1_close 12 = .ok (.getfield 248, 3) := dk_180 0 248 (dk_at dksX1_close_0 12 rfl rfl)
theorem dX1_close_15 : decode cX1_close 15 = .ok (.iload_n 1, 1) := dk_27 (dk_at dksX1_close_0 15 rfl rfl)
theorem dX1_close_16 : decode cX1_close 16 = .ok (.invokestatic 199, 3) := dk_184 0 199 (dk_at dksX1_close_0 16 rfl rfl)
theorem dX1_close_19 : decode cX1_close 19 = .ok (.ifCond .eq 5, 3) := dk_153 0 5 (dk_at dksX1_close_0 19 rfl rfl)
theorem dX1_close_22 : decode cX1_close 22 = .ok (.iconst 0, 1) := dk_3 (dk_at dksX1_close_0 22 rfl rfl)
theorem dX1_close_23 : decode cX1_close 23 = .ok (.ireturn, 1) := dk_172 (dk_at dksX1_close_0 23 rfl rfl)
theorem dX1_close_24 : decode cX1_close 24 = .ok (.aload_n 0, 1) := dk_42 (dk_at dksX1_close_1 0 rfl rfl)
theorem dX1_close_25 : decode cX1_close 25 = .ok (.invokevirtual 264, 3) := dk_182 1 8 (dk_at dksX1_close_1 1 rfl rfl)
theorem dX1_close_28 : decode cX1_close 28 = .ok (.aload_n 0, 1) := dk_42 (dk_at dksX1_close_1 4 rfl rfl)
theorem dX1_close_29 : decode cX1_close 29 = .ok (.getfield 70, 3) := dk_180 0 70 (dk_at dksX1_close_1 5 rfl rfl)
theorem dX1_close_32 : decode cX1_close 32 = .ok (.dup, 1) := dk_89 (dk_at dksX1_close_1 8 rfl rfl)
theorem dX1_close_33 : decode cX1_close 33 = .ok (.getfield 248, 3) := dk_180 0 248 (dk_at dksX1_close_1 9 rfl rfl)
theorem dX1_close_36 : decode cX1_close 36 = .ok (.iconst 1, 1) := dk_4 (dk_at dksX1_close_1 12 rfl rfl)
theorem dX1_close_37 : decode cX1_close 37 = .ok (.iload_n 1, 1) := dk_27 (dk_at dksX1_close_1 13 rfl rfl)
theorem dX1_close_38 : decode cX1_close 38 = .ok (.ishl, 1) := dk_120 (dk_at dksX1_close_1 14 rfl rfl)
theorem dX1_close_39 : decode cX1_close 39 = .ok (.ior, 1) := dk_128 (dk_at dksX1_close_1 15 rfl rfl)
theorem dX1_close_40 : decode cX1_close 40 = .ok (.putfield 248, 3) := dk_181 0 248 (dk_at dksX1_close_1 16 rfl rfl)
theorem dX1_close_43 : decode cX1_close 43 = .ok (.iconst 1, 1) := dk_4 (dk_at dksX1_close_1 19 rfl rfl)
theorem dX1_close_44 : decode cX1_close 44 = .ok (.ireturn, 1) := dk_172 (dk_at dksX1_close_1 20 rfl rfl)
abbrev cX1_strokes : ByteArray := prog_1_method_48_code
def yX1_strokes : MethodName := ⟨RX1, "strokes", "()I"⟩
def dkwX1_strokes_0 : List UInt8 := [42, 180, 0, 70, 180, 0, 251, 172]
abbrev dktX1_strokes_0 : List UInt8 := dkwX1_strokes_0 ++ []
theorem dksX1_strokes_0 : cX1_strokes.data.toList.drop 0 = dktX1_strokes_0 := by decide +kernel
theorem dX1_strokes_0 : decode cX1_strokes 0 = .ok (.aload_n 0, 1) := dk_42 (dk_at dksX1_strokes_0 0 rfl rfl)
theorem dX1_strokes_1 : decode cX1_strokes 1 = .ok (.getfield 70, 3) := dk_180 0 70 (dk_at dksX1_strokes_0 1 rfl rfl)
theorem dX1_strokes_4 : decode cX1_strokes 4 = .ok (.getfield 251, 3) := dk_180 0 251 (dk_at dksX1_strokes_0 4 rfl rfl)
theorem dX1_strokes_7 : decode cX1_strokes 7 = .ok (.ireturn, 1) := dk_172 (dk_at dksX1_strokes_0 7 rfl rfl)
abbrev cX1_foreign : ByteArray := prog_1_method_51_code
def yX1_foreign : MethodName := ⟨RX1, "foreign", "(I)I"⟩
def dkwX1_foreign_3 : List UInt8 := [172]
abbrev dktX1_foreign_3 : List UInt8 := dkwX1_foreign_3 ++ []
def dkwX1_foreign_2 : List UInt8 := [160, 0, 5, 29, 172, 132, 2, 1, 132, 3, 1, 167, 255, 209, 27, 2, 160, 0, 7, 28, 167, 0, 4, 2]
abbrev dktX1_foreign_2 : List UInt8 := dkwX1_foreign_2 ++ dktX1_foreign_3
def dkwX1_foreign_1 : List UInt8 := [180, 0, 70, 180, 0, 228, 29, 46, 42, 180, 0, 70, 29, 182, 0, 224, 160, 0, 6, 167, 0, 13, 28, 27]
abbrev dktX1_foreign_1 : List UInt8 := dkwX1_foreign_1 ++ dktX1_foreign_2
def dkwX1_foreign_0 : List UInt8 := [27, 2, 162, 0, 5, 2, 172, 3, 61, 3, 62, 29, 42, 180, 0, 70, 180, 0, 206, 162, 0, 42, 42]
abbrev dktX1_foreign_0 : List UInt8 := dkwX1_foreign_0 ++ dktX1_foreign_1
theorem dksX1_foreign_0 : cX1_foreign.data.toList.drop 0 = dktX1_foreign_0 := by decide +kernel
theorem dksX1_foreign_1 : cX1_foreign.data.toList.drop 23 = dktX1_foreign_1 := dk_seg dksX1_foreign_0 23 rfl rfl
theorem dksX1_foreign_2 : cX1_foreign.data.toList.drop 47 = dktX1_foreign_2 := dk_seg dksX1_foreign_1 24 rfl rfl
theorem dksX1_foreign_3 : cX1_foreign.data.toList.drop 71 = dktX1_foreign_3 := dk_seg dksX1_foreign_2 24 rfl rfl
theorem dX1_foreign_0 : decode cX1_foreign 0 = .ok (.iload_n 1, 1) := dk_27 (dk_at dksX1_foreign_0 0 rfl rfl)
theorem dX1_foreign_1 : decode cX1_foreign 1 = .ok (.iconst (-1), 1) := dk_2 (dk_at dksX1_foreign_0 1 rfl rfl)
theorem dX1_foreign_2 : decode cX1_foreign 2 = .ok (.if_icmp .ge 5, 3) := dk_162 0 5 (dk_at dksX1_foreign_0 2 rfl rfl)
theorem dX1_foreign_5 : decode cX1_foreign 5 = .ok (.iconst (-1), 1) := dk_2 (dk_at dksX1_foreign_0 5 rfl rfl)
theorem dX1_foreign_6 : decode cX1_foreign 6 = .ok (.ireturn, 1) := dk_172 (dk_at dksX1_foreign_0 6 rfl rfl)
theorem dX1_foreign_7 : decode cX1_foreign 7 = .ok (.iconst 0, 1) := dk_3 (dk_at dksX1_foreign_0 7 rfl rfl)
theorem dX1_foreign_8 : decode cX1_foreign 8 = .ok (.istore_n 2, 1) := dk_61 (dk_at dksX1_foreign_0 8 rfl rfl)
theorem dX1_foreign_9 : decode cX1_foreign 9 = .ok (.iconst 0, 1) := dk_3 (dk_at dksX1_foreign_0 9 rfl rfl)
theorem dX1_foreign_10 : decode cX1_foreign 10 = .ok (.istore_n 3, 1) := dk_62 (dk_at dksX1_foreign_0 10 rfl rfl)
theorem dX1_foreign_11 : decode cX1_foreign 11 = .ok (.iload_n 3, 1) := dk_29 (dk_at dksX1_foreign_0 11 rfl rfl)
theorem dX1_foreign_12 : decode cX1_foreign 12 = .ok (.aload_n 0, 1) := dk_42 (dk_at dksX1_foreign_0 12 rfl rfl)
theorem dX1_foreign_13 : decode cX1_foreign 13 = .ok (.getfield 70, 3) := dk_180 0 70 (dk_at dksX1_foreign_0 13 rfl rfl)
theorem dX1_foreign_16 : decode cX1_foreign 16 = .ok (.getfield 206, 3) := dk_180 0 206 (dk_at dksX1_foreign_0 16 rfl rfl)
theorem dX1_foreign_19 : decode cX1_foreign 19 = .ok (.if_icmp .ge 42, 3) := dk_162 0 42 (dk_at dksX1_foreign_0 19 rfl rfl)
theorem dX1_foreign_22 : decode cX1_foreign 22 = .ok (.aload_n 0, 1) := dk_42 (dk_at dksX1_foreign_0 22 rfl rfl)
theorem dX1_foreign_23 : decode cX1_foreign 23 = .ok (.getfield 70, 3) := dk_180 0 70 (dk_at dksX1_foreign_1 0 rfl rfl)
theorem dX1_foreign_26 : decode cX1_foreign 26 = .ok (.getfield 228, 3) := dk_180 0 228 (dk_at dksX1_foreign_1 3 rfl rfl)
theorem dX1_foreign_29 : decode cX1_foreign 29 = .ok (.iload_n 3, 1) := dk_29 (dk_at dksX1_foreign_1 6 rfl rfl)
theorem dX1_foreign_30 : decode cX1_foreign 30 = .ok (.iaload, 1) := dk_46 (dk_at dksX1_foreign_1 7 rfl rfl)
theorem dX1_foreign_31 : decode cX1_foreign 31 = .ok (.aload_n 0, 1) := dk_42 (dk_at dksX1_foreign_1 8 rfl rfl)
theorem dX1_foreign_32 : decode cX1_foreign 32 = .ok (.getfield 70, 3) := dk_180 0 70 (dk_at dksX1_foreign_1 9 rfl rfl)
theorem dX1_foreign_35 : decode cX1_foreign 35 = .ok (.iload_n 3, 1) := dk_29 (dk_at dksX1_foreign_1 12 rfl rfl)
theorem dX1_foreign_36 : decode cX1_foreign 36 = .ok (.invokevirtual 224, 3) := dk_182 0 224 (dk_at dksX1_foreign_1 13 rfl rfl)
theorem dX1_foreign_39 : decode cX1_foreign 39 = .ok (.if_icmp .ne 6, 3) := dk_160 0 6 (dk_at dksX1_foreign_1 16 rfl rfl)
theorem dX1_foreign_42 : decode cX1_foreign 42 = .ok (.goto 13, 3) := dk_167 0 13 (dk_at dksX1_foreign_1 19 rfl rfl)
theorem dX1_foreign_45 : decode cX1_foreign 45 = .ok (.iload_n 2, 1) := dk_28 (dk_at dksX1_foreign_1 22 rfl rfl)
theorem dX1_foreign_46 : decode cX1_foreign 46 = .ok (.iload_n 1, 1) := dk_27 (dk_at dksX1_foreign_1 23 rfl rfl)
theorem dX1_foreign_47 : decode cX1_foreign 47 = .ok (.if_icmp .ne 5, 3) := dk_160 0 5 (dk_at dksX1_foreign_2 0 rfl rfl)
theorem dX1_foreign_50 : decode cX1_foreign 50 = .ok (.iload_n 3, 1) := dk_29 (dk_at dksX1_foreign_2 3 rfl rfl)
theorem dX1_foreign_51 : decode cX1_foreign 51 = .ok (.ireturn, 1) := dk_172 (dk_at dksX1_foreign_2 4 rfl rfl)
theorem dX1_foreign_52 : decode cX1_foreign 52 = .ok (.iinc 2 1, 3) := dk_132 2 1 (dk_at dksX1_foreign_2 5 rfl rfl)
theorem dX1_foreign_55 : decode cX1_foreign 55 = .ok (.iinc 3 1, 3) := dk_132 3 1 (dk_at dksX1_foreign_2 8 rfl rfl)
theorem dX1_foreign_58 : decode cX1_foreign 58 = .ok (.goto (-47), 3) := dk_167 255 209 (dk_at dksX1_foreign_2 11 rfl rfl)
theorem dX1_foreign_61 : decode cX1_foreign 61 = .ok (.iload_n 1, 1) := dk_27 (dk_at dksX1_foreign_2 14 rfl rfl)
theorem dX1_foreign_62 : decode cX1_foreign 62 = .ok (.iconst (-1), 1) := dk_2 (dk_at dksX1_foreign_2 15 rfl rfl)
theorem dX1_foreign_63 : decode cX1_foreign 63 = .ok (.if_icmp .ne 7, 3) := dk_160 0 7 (dk_at dksX1_foreign_2 16 rfl rfl)
theorem dX1_foreign_66 : decode cX1_foreign 66 = .ok (.iload_n 2, 1) := dk_28 (dk_at dksX1_foreign_2 19 rfl rfl)
theorem dX1_foreign_67 : decode cX1_foreign 67 = .ok (.goto 4, 3) := dk_167 0 4 (dk_at dksX1_foreign_2 20 rfl rfl)
theorem dX1_foreign_70 : decode cX1_foreign 70 = .ok (.iconst (-1), 1) := dk_2 (dk_at dksX1_foreign_2 23 rfl rfl)
theorem dX1_foreign_71 : decode cX1_foreign 71 = .ok (.ireturn, 1) := dk_172 (dk_at dksX1_foreign_3 0 rfl rfl)
abbrev cX1_silver : ByteArray := prog_1_method_52_code
def yX1_silver : MethodName := ⟨RX1, "silver", "(I)I"⟩
def dkwX1_silver_3 : List UInt8 := [180, 0, 70, 180, 1, 154, 172]
abbrev dktX1_silver_3 : List UInt8 := dkwX1_silver_3 ++ []
def dkwX1_silver_2 : List UInt8 := [154, 0, 13, 42, 180, 0, 70, 180, 1, 15, 167, 0, 19, 27, 4, 160, 0, 7, 28, 167, 0, 10, 42]
abbrev dktX1_silver_2 : List UInt8 := dkwX1_silver_2 ++ dktX1_silver_3
def dkwX1_silver_1 : List UInt8 := [162, 0, 21, 28, 42, 180, 0, 70, 180, 0, 231, 29, 46, 96, 61, 132, 3, 1, 167, 255, 230, 27]
abbrev dktX1_silver_1 : List UInt8 := dkwX1_silver_1 ++ dktX1_silver_2
def dkwX1_silver_0 : List UInt8 := [27, 3, 5, 184, 0, 189, 154, 0, 5, 2, 172, 3, 61, 3, 62, 29, 42, 180, 0, 70, 180, 0, 206]
abbrev dktX1_silver_0 : List UInt8 := dkwX1_silver_0 ++ dktX1_silver_1
theorem dksX1_silver_0 : cX1_silver.data.toList.drop 0 = dktX1_silver_0 := by decide +kernel
theorem dksX1_silver_1 : cX1_silver.data.toList.drop 23 = dktX1_silver_1 := dk_seg dksX1_silver_0 23 rfl rfl
theorem dksX1_silver_2 : cX1_silver.data.toList.drop 45 = dktX1_silver_2 := dk_seg dksX1_silver_1 22 rfl rfl
theorem dksX1_silver_3 : cX1_silver.data.toList.drop 68 = dktX1_silver_3 := dk_seg dksX1_silver_2 23 rfl rfl
theorem dX1_silver_0 : decode cX1_silver 0 = .ok (.iload_n 1, 1) := dk_27 (dk_at dksX1_silver_0 0 rfl rfl)
theorem dX1_silver_1 : decode cX1_silver 1 = .ok (.iconst 0, 1) := dk_3 (dk_at dksX1_silver_0 1 rfl rfl)
theorem dX1_silver_2 : decode cX1_silver 2 = .ok (.iconst 2, 1) := dk_5 (dk_at dksX1_silver_0 2 rfl rfl)
theorem dX1_silver_3 : decode cX1_silver 3 = .ok (.invokestatic 189, 3) := dk_184 0 189 (dk_at dksX1_silver_0 3 rfl rfl)
theorem dX1_silver_6 : decode cX1_silver 6 = .ok (.ifCond .ne 5, 3) := dk_154 0 5 (dk_at dksX1_silver_0 6 rfl rfl)
theorem dX1_silver_9 : decode cX1_silver 9 = .ok (.iconst (-1), 1) := dk_2 (dk_at dksX1_silver_0 9 rfl rfl)
theorem dX1_silver_10 : decode cX1_silver 10 = .ok (.ireturn, 1) := dk_172 (dk_at dksX1_silver_0 10 rfl rfl)
theorem dX1_silver_11 : decode cX1_silver 11 = .ok (.iconst 0, 1) := dk_3 (dk_at dksX1_silver_0 11 rfl rfl)
theorem dX1_silver_12 : decode cX1_silver 12 = .ok (.istore_n 2, 1) := dk_61 (dk_at dksX1_silver_0 12 rfl rfl)
theorem dX1_silver_13 : decode cX1_silver 13 = .ok (.iconst 0, 1) := dk_3 (dk_at dksX1_silver_0 13 rfl rfl)
theorem dX1_silver_14 : decode cX1_silver 14 = .ok (.istore_n 3, 1) := dk_62 (dk_at dksX1_silver_0 14 rfl rfl)
theorem dX1_silver_15 : decode cX1_silver 15 = .ok (.iload_n 3, 1) := dk_29 (dk_at dksX1_silver_0 15 rfl rfl)
theorem dX1_silver_16 : decode cX1_silver 16 = .ok (.aload_n 0, 1) := dk_42 (dk_at dksX1_silver_0 16 rfl rfl)
theorem dX1_silver_17 : decode cX1_silver 17 = .ok (.getfield 70, 3) := dk_180 0 70 (dk_at dksX1_silver_0 17 rfl rfl)
theorem dX1_silver_20 : decode cX1_silver 20 = .ok (.getfield 206, 3) := dk_180 0 206 (dk_at dksX1_silver_0 20 rfl rfl)
theorem dX1_silver_23 : decode cX1_silver 23 = .ok (.if_icmp .ge 21, 3) := dk_162 0 21 (dk_at dksX1_silver_1 0 rfl rfl)
theorem dX1_silver_26 : decode cX1_silver 26 = .ok (.iload_n 2, 1) := dk_28 (dk_at dksX1_silver_1 3 rfl rfl)
theorem dX1_silver_27 : decode cX1_silver 27 = .ok (.aload_n 0, 1) := dk_42 (dk_at dksX1_silver_1 4 rfl rfl)
theorem dX1_silver_28 : decode cX1_silver 28 = .ok (.getfield 70, 3) := dk_180 0 70 (dk_at dksX1_silver_1 5 rfl rfl)
theorem dX1_silver_31 : decode cX1_silver 31 = .ok (.getfield 231, 3) := dk_180 0 231 (dk_at dksX1_silver_1 8 rfl rfl)
theorem dX1_silver_34 : decode cX1_silver 34 = .ok (.iload_n 3, 1) := dk_29 (dk_at dksX1_silver_1 11 rfl rfl)
theorem dX1_silver_35 : decode cX1_silver 35 = .ok (.iaload, 1) := dk_46 (dk_at dksX1_silver_1 12 rfl rfl)
theorem dX1_silver_36 : decode cX1_silver 36 = .ok (.iadd, 1) := dk_96 (dk_at dksX1_silver_1 13 rfl rfl)
theorem dX1_silver_37 : decode cX1_silver 37 = .ok (.istore_n 2, 1) := dk_61 (dk_at dksX1_silver_1 14 rfl rfl)
theorem dX1_silver_38 : decode cX1_silver 38 = .ok (.iinc 3 1, 3) := dk_132 3 1 (dk_at dksX1_silver_1 15 rfl rfl)
theorem dX1_silver_41 : decode cX1_silver 41 = .ok (.goto (-26), 3) := dk_167 255 230 (dk_at dksX1_silver_1 18 rfl rfl)
theorem dX1_silver_44 : decode cX1_silver 44 = .ok (.iload_n 1, 1) := dk_27 (dk_at dksX1_silver_1 21 rfl rfl)
theorem dX1_silver_45 : decode cX1_silver 45 = .ok (.ifCond .ne 13, 3) := dk_154 0 13 (dk_at dksX1_silver_2 0 rfl rfl)
theorem dX1_silver_48 : decode cX1_silver 48 = .ok (.aload_n 0, 1) := dk_42 (dk_at dksX1_silver_2 3 rfl rfl)
theorem dX1_silver_49 : decode cX1_silver 49 = .ok (.getfield 70, 3) := dk_180 0 70 (dk_at dksX1_silver_2 4 rfl rfl)
theorem dX1_silver_52 : decode cX1_silver 52 = .ok (.getfield 271, 3) := dk_180 1 15 (dk_at dksX1_silver_2 7 rfl rfl)
theorem dX1_silver_55 : decode cX1_silver 55 = .ok (.goto 19, 3) := dk_167 0 19 (dk_at dksX1_silver_2 10 rfl rfl)
theorem dX1_silver_58 : decode cX1_silver 58 = .ok (.iload_n 1, 1) := dk_27 (dk_at dksX1_silver_2 13 rfl rfl)
theorem dX1_silver_59 : decode cX1_silver 59 = .ok (.iconst 1, 1) := dk_4 (dk_at dksX1_silver_2 14 rfl rfl)
theorem dX1_silver_60 : decode cX1_silver 60 = .ok (.if_icmp .ne 7, 3) := dk_160 0 7 (dk_at dksX1_silver_2 15 rfl rfl)
theorem dX1_silver_63 : decode cX1_silver 63 = .ok (.iload_n 2, 1) := dk_28 (dk_at dksX1_silver_2 18 rfl rfl)
theorem dX1_silver_64 : decode cX1_silver 64 = .ok (.goto 10, 3) := dk_167 0 10 (dk_at dksX1_silver_2 19 rfl rfl)
theorem dX1_silver_67 : decode cX1_silver 67 = .ok (.aload_n 0, 1) := dk_42 (dk_at dksX1_silver_2 22 rfl rfl)
theorem dX1_silver_68 : decode cX1_silver 68 = .ok (.getfield 70, 3) := dk_180 0 70 (dk_at dksX1_silver_3 0 rfl rfl)
theorem dX1_silver_71 : decode cX1_silver 71 = .ok (.getfield 410, 3) := dk_180 1 154 (dk_at dksX1_silver_3 3 rfl rfl)
theorem dX1_silver_74 : decode cX1_silver 74 = .ok (.ireturn, 1) := dk_172 (dk_at dksX1_silver_3 6 rfl rfl)
abbrev cX1_rows : ByteArray := prog_1_method_55_code
def yX1_rows : MethodName := ⟨RX1, "rows", "(III)I"⟩
def dkwX1_rows_6 : List UInt8 := [180, 0, 182, 180, 1, 173, 164, 0, 7, 3, 167, 0, 11, 42, 27, 28, 3, 29, 182, 1, 162, 172]
abbrev dktX1_rows_6 : List UInt8 := dkwX1_rows_6 ++ []
def dkwX1_rows_5 : List UInt8 := [180, 0, 112, 21, 6, 3, 79, 132, 6, 1, 167, 255, 230, 42, 29, 181, 0, 115, 29, 42, 180, 0, 70]
abbrev dktX1_rows_5 : List UInt8 := dkwX1_rows_5 ++ dktX1_rows_6
def dkwX1_rows_4 : List UInt8 := [16, 254, 172, 3, 54, 6, 21, 6, 16, 9, 162, 0, 25, 42, 180, 0, 109, 21, 6, 3, 79, 42]
abbrev dktX1_rows_4 : List UInt8 := dkwX1_rows_4 ++ dktX1_rows_5
def dkwX1_rows_3 : List UInt8 := [20, 1, 166, 184, 1, 168, 55, 4, 132, 6, 1, 167, 255, 213, 22, 4, 20, 1, 171, 148, 158, 0, 6]
abbrev dktX1_rows_3 : List UInt8 := dkwX1_rows_3 ++ dktX1_rows_4
def dkwX1_rows_2 : List UInt8 := [180, 0, 70, 180, 0, 182, 180, 0, 186, 133, 105, 42, 180, 0, 70, 180, 0, 182, 180, 0, 203, 133, 105]
abbrev dktX1_rows_2 : List UInt8 := dkwX1_rows_2 ++ dktX1_rows_3
def dkwX1_rows_1 : List UInt8 := [184, 0, 189, 154, 0, 5, 2, 172, 10, 55, 4, 3, 54, 6, 21, 6, 29, 162, 0, 43, 22, 4, 42]
abbrev dktX1_rows_1 : List UInt8 := dkwX1_rows_1 ++ dktX1_rows_2
def dkwX1_rows_0 : List UInt8 := [42, 27, 182, 1, 22, 153, 0, 24, 28, 4, 17, 39, 15, 184, 0, 189, 153, 0, 13, 29, 4, 16, 9]
abbrev dktX1_rows_0 : List UInt8 := dkwX1_rows_0 ++ dktX1_rows_1
theorem dksX1_rows_0 : cX1_rows.data.toList.drop 0 = dktX1_rows_0 := by decide +kernel
theorem dksX1_rows_1 : cX1_rows.data.toList.drop 23 = dktX1_rows_1 := dk_seg dksX1_rows_0 23 rfl rfl
theorem dksX1_rows_2 : cX1_rows.data.toList.drop 46 = dktX1_rows_2 := dk_seg dksX1_rows_1 23 rfl rfl
theorem dksX1_rows_3 : cX1_rows.data.toList.drop 69 = dktX1_rows_3 := dk_seg dksX1_rows_2 23 rfl rfl
theorem dksX1_rows_4 : cX1_rows.data.toList.drop 92 = dktX1_rows_4 := dk_seg dksX1_rows_3 23 rfl rfl
theorem dksX1_rows_5 : cX1_rows.data.toList.drop 114 = dktX1_rows_5 := dk_seg dksX1_rows_4 22 rfl rfl
theorem dksX1_rows_6 : cX1_rows.data.toList.drop 137 = dktX1_rows_6 := dk_seg dksX1_rows_5 23 rfl rfl
theorem dX1_rows_0 : decode cX1_rows 0 = .ok (.aload_n 0, 1) := dk_42 (dk_at dksX1_rows_0 0 rfl rfl)
theorem dX1_rows_1 : decode cX1_rows 1 = .ok (.iload_n 1, 1) := dk_27 (dk_at dksX1_rows_0 1 rfl rfl)
theorem dX1_rows_2 : decode cX1_rows 2 = .ok (.invokevirtual 278, 3) := dk_182 1 22 (dk_at dksX1_rows_0 2 rfl rfl)
theorem dX1_rows_5 : decode cX1_rows 5 = .ok (.ifCond .eq 24, 3) := dk_153 0 24 (dk_at dksX1_rows_0 5 rfl rfl)
theorem dX1_rows_8 : decode cX1_rows 8 = .ok (.iload_n 2, 1) := dk_28 (dk_at dksX1_rows_0 8 rfl rfl)
theorem dX1_rows_9 : decode cX1_rows 9 = .ok (.iconst 1, 1) := dk_4 (dk_at dksX1_rows_0 9 rfl rfl)
theorem dX1_rows_10 : decode cX1_rows 10 = .ok (.sipush 9999, 3) := dk_17 39 15 (dk_at dksX1_rows_0 10 rfl rfl)
theorem dX1_rows_13 : decode cX1_rows 13 = .ok (.invokestatic 189, 3) := dk_184 0 189 (dk_at dksX1_rows_0 13 rfl rfl)
theorem dX1_rows_16 : decode cX1_rows 16 = .ok (.ifCond .eq 13, 3) := dk_153 0 13 (dk_at dksX1_rows_0 16 rfl rfl)
theorem dX1_rows_19 : decode cX1_rows 19 = .ok (.iload_n 3, 1) := dk_29 (dk_at dksX1_rows_0 19 rfl rfl)
theorem dX1_rows_20 : decode cX1_rows 20 = .ok (.iconst 1, 1) := dk_4 (dk_at dksX1_rows_0 20 rfl rfl)
theorem dX1_rows_21 : decode cX1_rows 21 = .ok (.bipush 9, 2) := dk_16 9 (dk_at dksX1_rows_0 21 rfl rfl)
theorem dX1_rows_23 : decode cX1_rows 23 = .ok (.invokestatic 189, 3) := dk_184 0 189 (dk_at dksX1_rows_1 0 rfl rfl)
theorem dX1_rows_26 : decode cX1_rows 26 = .ok (.ifCond .ne 5, 3) := dk_154 0 5 (dk_at dksX1_rows_1 3 rfl rfl)
theorem dX1_rows_29 : decode cX1_rows 29 = .ok (.iconst (-1), 1) := dk_2 (dk_at dksX1_rows_1 6 rfl rfl)
theorem dX1_rows_30 : decode cX1_rows 30 = .ok (.ireturn, 1) := dk_172 (dk_at dksX1_rows_1 7 rfl rfl)
theorem dX1_rows_31 : decode cX1_rows 31 = .ok (.lconst 1, 1) := dk_10 (dk_at dksX1_rows_1 8 rfl rfl)
theorem dX1_rows_32 : decode cX1_rows 32 = .ok (.lstore 4, 2) := dk_55 4 (dk_at dksX1_rows_1 9 rfl rfl)
theorem dX1_rows_34 : decode cX1_rows 34 = .ok (.iconst 0, 1) := dk_3 (dk_at dksX1_rows_1 11 rfl rfl)
theorem dX1_rows_35 : decode cX1_rows 35 = .ok (.istore 6, 2) := dk_54 6 (dk_at dksX1_rows_1 12 rfl rfl)
theorem dX1_rows_37 : decode cX1_rows 37 = .ok (.iload 6, 2) := dk_21 6 (dk_at dksX1_rows_1 14 rfl rfl)
theorem dX1_rows_39 : decode cX1_rows 39 = .ok (.iload_n 3, 1) := dk_29 (dk_at dksX1_rows_1 16 rfl rfl)
theorem dX1_rows_40 : decode cX1_rows 40 = .ok (.if_icmp .ge 43, 3) := dk_162 0 43 (dk_at dksX1_rows_1 17 rfl rfl)
theorem dX1_rows_43 : decode cX1_rows 43 = .ok (.lload 4, 2) := dk_22 4 (dk_at dksX1_rows_1 20 rfl rfl)
theorem dX1_rows_45 : decode cX1_rows 45 = .ok (.aload_n 0, 1) := dk_42 (dk_at dksX1_rows_1 22 rfl rfl)
theorem dX1_rows_46 : decode cX1_rows 46 = .ok (.getfield 70, 3) := dk_180 0 70 (dk_at dksX1_rows_2 0 rfl rfl)
theorem dX1_rows_49 : decode cX1_rows 49 = .ok (.getfield 182, 3) := dk_180 0 182 (dk_at dksX1_rows_2 3 rfl rfl)
theorem dX1_rows_52 : decode cX1_rows 52 = .ok (.getfield 186, 3) := dk_180 0 186 (dk_at dksX1_rows_2 6 rfl rfl)
theorem dX1_rows_55 : decode cX1_rows 55 = .ok (.i2l, 1) := dk_133 (dk_at dksX1_rows_2 9 rfl rfl)
theorem dX1_rows_56 : decode cX1_rows 56 = .ok (.lmul, 1) := dk_105 (dk_at dksX1_rows_2 10 rfl rfl)
theorem dX1_rows_57 : decode cX1_rows 57 = .ok (.aload_n 0, 1) := dk_42 (dk_at dksX1_rows_2 11 rfl rfl)
theorem dX1_rows_58 : decode cX1_rows 58 = .ok (.getfield 70, 3) := dk_180 0 70 (dk_at dksX1_rows_2 12 rfl rfl)
theorem dX1_rows_61 : decode cX1_rows 61 = .ok (.getfield 182, 3) := dk_180 0 182 (dk_at dksX1_rows_2 15 rfl rfl)
theorem dX1_rows_64 : decode cX1_rows 64 = .ok (.getfield 203, 3) := dk_180 0 203 (dk_at dksX1_rows_2 18 rfl rfl)
theorem dX1_rows_67 : decode cX1_rows 67 = .ok (.i2l, 1) := dk_133 (dk_at dksX1_rows_2 21 rfl rfl)
theorem dX1_rows_68 : decode cX1_rows 68 = .ok (.lmul, 1) := dk_105 (dk_at dksX1_rows_2 22 rfl rfl)
theorem dX1_rows_69 : decode cX1_rows 69 = .ok (.ldc2_w 422, 3) := dk_20 1 166 (dk_at dksX1_rows_3 0 rfl rfl)
theorem dX1_rows_72 : decode cX1_rows 72 = .ok (.invokestatic 424, 3) := dk_184 1 168 (dk_at dksX1_rows_3 3 rfl rfl)
theorem dX1_rows_75 : decode cX1_rows 75 = .ok (.lstore 4, 2) := dk_55 4 (dk_at dksX1_rows_3 6 rfl rfl)
theorem dX1_rows_77 : decode cX1_rows 77 = .ok (.iinc 6 1, 3) := dk_132 6 1 (dk_at dksX1_rows_3 8 rfl rfl)
theorem dX1_rows_80 : decode cX1_rows 80 = .ok (.goto (-43), 3) := dk_167 255 213 (dk_at dksX1_rows_3 11 rfl rfl)
theorem dX1_rows_83 : decode cX1_rows 83 = .ok (.lload 4, 2) := dk_22 4 (dk_at dksX1_rows_3 14 rfl rfl)
theorem dX1_rows_85 : decode cX1_rows 85 = .ok (.ldc2_w 427, 3) := dk_20 1 171 (dk_at dksX1_rows_3 16 rfl rfl)
theorem dX1_rows_88 : decode cX1_rows 88 = .ok (.lcmp, 1) := dk_148 (dk_at dksX1_rows_3 19 rfl rfl)
theorem dX1_rows_89 : decode cX1_rows 89 = .ok (.ifCond .le 6, 3) := dk_158 0 6 (dk_at dksX1_rows_3 20 rfl rfl)
theorem dX1_rows_92 : decode cX1_rows 92 = .ok (.bipush (-2), 2) := dk_16 254 (dk_at dksX1_rows_4 0 rfl rfl)
theorem dX1_rows_94 : decode cX1_rows 94 = .ok (.ireturn, 1) := dk_172 (dk_at dksX1_rows_4 2 rfl rfl)
theorem dX1_rows_95 : decode cX1_rows 95 = .ok (.iconst 0, 1) := dk_3 (dk_at dksX1_rows_4 3 rfl rfl)
theorem dX1_rows_96 : decode cX1_rows 96 = .ok (.istore 6, 2) := dk_54 6 (dk_at dksX1_rows_4 4 rfl rfl)
theorem dX1_rows_98 : decode cX1_rows 98 = .ok (.iload 6, 2) := dk_21 6 (dk_at dksX1_rows_4 6 rfl rfl)
theorem dX1_rows_100 : decode cX1_rows 100 = .ok (.bipush 9, 2) := dk_16 9 (dk_at dksX1_rows_4 8 rfl rfl)
theorem dX1_rows_102 : decode cX1_rows 102 = .ok (.if_icmp .ge 25, 3) := dk_162 0 25 (dk_at dksX1_rows_4 10 rfl rfl)
theorem dX1_rows_105 : decode cX1_rows 105 = .ok (.aload_n 0, 1) := dk_42 (dk_at dksX1_rows_4 13 rfl rfl)
theorem dX1_rows_106 : decode cX1_rows 106 = .ok (.getfield 109, 3) := dk_180 0 109 (dk_at dksX1_rows_4 14 rfl rfl)
theorem dX1_rows_109 : decode cX1_rows 109 = .ok (.iload 6, 2) := dk_21 6 (dk_at dksX1_rows_4 17 rfl rfl)
theorem dX1_rows_111 : decode cX1_rows 111 = .ok (.iconst 0, 1) := dk_3 (dk_at dksX1_rows_4 19 rfl rfl)
theorem dX1_rows_112 : decode cX1_rows 112 = .ok (.iastore, 1) := dk_79 (dk_at dksX1_rows_4 20 rfl rfl)
theorem dX1_rows_113 : decode cX1_rows 113 = .ok (.aload_n 0, 1) := dk_42 (dk_at dksX1_rows_4 21 rfl rfl)
theorem dX1_rows_114 : decode cX1_rows 114 = .ok (.getfield 112, 3) := dk_180 0 112 (dk_at dksX1_rows_5 0 rfl rfl)
theorem dX1_rows_117 : decode cX1_rows 117 = .ok (.iload 6, 2) := dk_21 6 (dk_at dksX1_rows_5 3 rfl rfl)
theorem dX1_rows_119 : decode cX1_rows 119 = .ok (.iconst 0, 1) := dk_3 (dk_at dksX1_rows_5 5 rfl rfl)
theorem dX1_rows_120 : decode cX1_rows 120 = .ok (.iastore, 1) := dk_79 (dk_at dksX1_rows_5 6 rfl rfl)
theorem dX1_rows_121 : decode cX1_rows 121 = .ok (.iinc 6 1, 3) := dk_132 6 1 (dk_at dksX1_rows_5 7 rfl rfl)
theorem dX1_rows_124 : decode cX1_rows 124 = .ok (.goto (-26), 3) := dk_167 255 230 (dk_at dksX1_rows_5 10 rfl rfl)
theorem dX1_rows_127 : decode cX1_rows 127 = .ok (.aload_n 0, 1) := dk_42 (dk_at dksX1_rows_5 13 rfl rfl)
theorem dX1_rows_128 : decode cX1_rows 128 = .ok (.iload_n 3, 1) := dk_29 (dk_at dksX1_rows_5 14 rfl rfl)
theorem dX1_rows_129 : decode cX1_rows 129 = .ok (.putfield 115, 3) := dk_181 0 115 (dk_at dksX1_rows_5 15 rfl rfl)
theorem dX1_rows_132 : decode cX1_rows 132 = .ok (.iload_n 3, 1) := dk_29 (dk_at dksX1_rows_5 18 rfl rfl)
theorem dX1_rows_133 : decode cX1_rows 133 = .ok (.aload_n 0, 1) := dk_42 (dk_at dksX1_rows_5 19 rfl rfl)
theorem dX1_rows_134 : decode cX1_rows 134 = .ok (.getfield 70, 3) := dk_180 0 70 (dk_at dksX1_rows_5 20 rfl rfl)
theorem dX1_rows_137 : decode cX1_rows 137 = .ok (.getfield 182, 3) := dk_180 0 182 (dk_at dksX1_rows_6 0 rfl rfl)
theorem dX1_rows_140 : decode cX1_rows 140 = .ok (.getfield 429, 3) := dk_180 1 173 (dk_at dksX1_rows_6 3 rfl rfl)
theorem dX1_rows_143 : decode cX1_rows 143 = .ok (.if_icmp .le 7, 3) := dk_164 0 7 (dk_at dksX1_rows_6 6 rfl rfl)
theorem dX1_rows_146 : decode cX1_rows 146 = .ok (.iconst 0, 1) := dk_3 (dk_at dksX1_rows_6 9 rfl rfl)
theorem dX1_rows_147 : decode cX1_rows 147 = .ok (.goto 11, 3) := dk_167 0 11 (dk_at dksX1_rows_6 10 rfl rfl)
theorem dX1_rows_150 : decode cX1_rows 150 = .ok (.aload_n 0, 1) := dk_42 (dk_at dksX1_rows_6 13 rfl rfl)
theorem dX1_rows_151 : decode cX1_rows 151 = .ok (.iload_n 1, 1) := dk_27 (dk_at dksX1_rows_6 14 rfl rfl)
theorem dX1_rows_152 : decode cX1_rows 152 = .ok (.iload_n 2, 1) := dk_28 (dk_at dksX1_rows_6 15 rfl rfl)
theorem dX1_rows_153 : decode cX1_rows 153 = .ok (.iconst 0, 1) := dk_3 (dk_at dksX1_rows_6 16 rfl rfl)
theorem dX1_rows_154 : decode cX1_rows 154 = .ok (.iload_n 3, 1) := dk_29 (dk_at dksX1_rows_6 17 rfl rfl)
theorem dX1_rows_155 : decode cX1_rows 155 = .ok (.invokevirtual 418, 3) := dk_182 1 162 (dk_at dksX1_rows_6 18 rfl rfl)
theorem dX1_rows_158 : decode cX1_rows 158 = .ok (.ireturn, 1) := dk_172 (dk_at dksX1_rows_6 21 rfl rfl)
abbrev cX1_rowsFrom : ByteArray := prog_1_method_54_code
def yX1_rowsFrom : MethodName := ⟨RX1, "rowsFrom", "(IIII)I"⟩
def dkwX1_rowsFrom_9 : List UInt8 := [167, 255, 129, 21, 5, 172]
abbrev dktX1_rowsFrom_9 : List UInt8 := dkwX1_rowsFrom_9 ++ []
def dkwX1_rowsFrom_8 : List UInt8 := [21, 7, 29, 4, 96, 21, 4, 182, 1, 162, 96, 54, 5, 132, 8, 1, 167, 255, 213, 132, 6, 1]
abbrev dktX1_rowsFrom_8 : List UInt8 := dkwX1_rowsFrom_8 ++ dktX1_rowsFrom_9
def dkwX1_rowsFrom_7 : List UInt8 := [180, 0, 70, 180, 0, 182, 180, 0, 186, 162, 0, 34, 42, 180, 0, 103, 29, 21, 8, 79, 21, 5, 42, 27]
abbrev dktX1_rowsFrom_7 : List UInt8 := dkwX1_rowsFrom_7 ++ dktX1_rowsFrom_8
def dkwX1_rowsFrom_6 : List UInt8 := [27, 46, 162, 0, 6, 167, 0, 60, 42, 180, 0, 106, 29, 21, 6, 79, 3, 54, 8, 21, 8, 42]
abbrev dktX1_rowsFrom_6 : List UInt8 := dkwX1_rowsFrom_6 ++ dktX1_rowsFrom_7
def dkwX1_rowsFrom_5 : List UInt8 := [21, 7, 42, 180, 0, 70, 180, 0, 182, 180, 1, 160, 161, 0, 77, 21, 7, 42, 180, 0, 70, 180, 0, 231]
abbrev dktX1_rowsFrom_5 : List UInt8 := dkwX1_rowsFrom_5 ++ dktX1_rowsFrom_6
def dkwX1_rowsFrom_4 : List UInt8 := [162, 0, 118, 28, 42, 180, 0, 70, 180, 0, 182, 180, 0, 236, 21, 6, 50, 180, 0, 240, 100, 54, 7]
abbrev dktX1_rowsFrom_4 : List UInt8 := dkwX1_rowsFrom_4 ++ dktX1_rowsFrom_5
def dkwX1_rowsFrom_3 : List UInt8 := [167, 255, 208, 4, 172, 3, 54, 5, 3, 54, 6, 21, 6, 42, 180, 0, 70, 180, 0, 182, 180, 0, 203]
abbrev dktX1_rowsFrom_3 : List UInt8 := dkwX1_rowsFrom_3 ++ dktX1_rowsFrom_4
def dkwX1_rowsFrom_2 : List UInt8 := [42, 180, 0, 112, 21, 5, 92, 46, 4, 42, 180, 0, 106, 21, 5, 46, 120, 128, 79, 132, 5, 1]
abbrev dktX1_rowsFrom_2 : List UInt8 := dkwX1_rowsFrom_2 ++ dktX1_rowsFrom_3
def dkwX1_rowsFrom_1 : List UInt8 := [21, 4, 162, 0, 47, 42, 180, 0, 109, 21, 5, 92, 46, 4, 42, 180, 0, 103, 21, 5, 46, 120, 128, 79]
abbrev dktX1_rowsFrom_1 : List UInt8 := dkwX1_rowsFrom_1 ++ dktX1_rowsFrom_2
def dkwX1_rowsFrom_0 : List UInt8 := [29, 21, 4, 160, 0, 72, 42, 27, 28, 21, 4, 182, 1, 157, 154, 0, 5, 3, 172, 3, 54, 5, 21, 5]
abbrev dktX1_rowsFrom_0 : List UInt8 := dkwX1_rowsFrom_0 ++ dktX1_rowsFrom_1
theorem dksX1_rowsFrom_0 : cX1_rowsFrom.data.toList.drop 0 = dktX1_rowsFrom_0 := by decide +kernel
theorem dksX1_rowsFrom_1 : cX1_rowsFrom.data.toList.drop 24 = dktX1_rowsFrom_1 := dk_seg dksX1_rowsFrom_0 24 rfl rfl
theorem dksX1_rowsFrom_2 : cX1_rowsFrom.data.toList.drop 48 = dktX1_rowsFrom_2 := dk_seg dksX1_rowsFrom_1 24 rfl rfl
theorem dksX1_rowsFrom_3 : cX1_rowsFrom.data.toList.drop 70 = dktX1_rowsFrom_3 := dk_seg dksX1_rowsFrom_2 22 rfl rfl
theorem dksX1_rowsFrom_4 : cX1_rowsFrom.data.toList.drop 93 = dktX1_rowsFrom_4 := dk_seg dksX1_rowsFrom_3 23 rfl rfl
theorem dksX1_rowsFrom_5 : cX1_rowsFrom.data.toList.drop 116 = dktX1_rowsFrom_5 := dk_seg dksX1_rowsFrom_4 23 rfl rfl
theorem dksX1_rowsFrom_6 : cX1_rowsFrom.data.toList.drop 140 = dktX1_rowsFrom_6 := dk_seg dksX1_rowsFrom_5 24 rfl rfl
theorem dksX1_rowsFrom_7 : cX1_rowsFrom.data.toList.drop 162 = dktX1_rowsFrom_7 := dk_seg dksX1_rowsFrom_6 22 rfl rfl
theorem dksX1_rowsFrom_8 : cX1_rowsFrom.data.toList.drop 186 = dktX1_rowsFrom_8 := dk_seg dksX1_rowsFrom_7 24 rfl rfl
theorem dksX1_rowsFrom_9 : cX1_rowsFrom.data.toList.drop 208 = dktX1_rowsFrom_9 := dk_seg dksX1_rowsFrom_8 22 rfl rfl
theorem dX1_rowsFrom_0 : decode cX1_rowsFrom 0 = .ok (.iload_n 3, 1) := dk_29 (dk_at dksX1_rowsFrom_0 0 rfl rfl)
theorem dX1_rowsFrom_1 : decode cX1_rowsFrom 1 = .ok (.iload 4, 2) := dk_21 4 (dk_at dksX1_rowsFrom_0 1 rfl rfl)
theorem dX1_rowsFrom_3 : decode cX1_rowsFrom 3 = .ok (.if_icmp .ne 72, 3) := dk_160 0 72 (dk_at dksX1_rowsFrom_0 3 rfl rfl)
theorem dX1_rowsFrom_6 : decode cX1_rowsFrom 6 = .ok (.aload_n 0, 1) := dk_42 (dk_at dksX1_rowsFrom_0 6 rfl rfl)
theorem dX1_rowsFrom_7 : decode cX1_rowsFrom 7 = .ok (.iload_n 1, 1) := dk_27 (dk_at dksX1_rowsFrom_0 7 rfl rfl)
theorem dX1_rowsFrom_8 : decode cX1_rowsFrom 8 = .ok (.iload_n 2, 1) := dk_28 (dk_at dksX1_rowsFrom_0 8 rfl rfl)
theorem dX1_rowsFrom_9 : decode cX1_rowsFrom 9 = .ok (.iload 4, 2) := dk_21 4 (dk_at dksX1_rowsFrom_0 9 rfl rfl)
theorem dX1_rowsFrom_11 : decode cX1_rowsFrom 11 = .ok (.invokevirtual 413, 3) := dk_182 1 157 (dk_at dksX1_rowsFrom_0 11 rfl rfl)
theorem dX1_rowsFrom_14 : decode cX1_rowsFrom 14 = .ok (.ifCond .ne 5, 3) := dk_154 0 5 (dk_at dksX1_rowsFrom_0 14 rfl rfl)
theorem dX1_rowsFrom_17 : decode cX1_rowsFrom 17 = .ok (.iconst 0, 1) := dk_3 (dk_at dksX1_rowsFrom_0 17 rfl rfl)
theorem dX1_rowsFrom_18 : decode cX1_rowsFrom 18 = .ok (.ireturn, 1) := dk_172 (dk_at dksX1_rowsFrom_0 18 rfl rfl)
theorem dX1_rowsFrom_19 : decode cX1_rowsFrom 19 = .ok (.iconst 0, 1) := dk_3 (dk_at dksX1_rowsFrom_0 19 rfl rfl)
theorem dX1_rowsFrom_20 : decode cX1_rowsFrom 20 = .ok (.istore 5, 2) := dk_54 5 (dk_at dksX1_rowsFrom_0 20 rfl rfl)
theorem dX1_rowsFrom_22 : decode cX1_rowsFrom 22 = .ok (.iload 5, 2) := dk_21 5 (dk_at dksX1_rowsFrom_0 22 rfl rfl)
theorem dX1_rowsFrom_24 : decode cX1_rowsFrom 24 = .ok (.iload 4, 2) := dk_21 4 (dk_at dksX1_rowsFrom_1 0 rfl rfl)
theorem dX1_rowsFrom_26 : decode cX1_rowsFrom 26 = .ok (.if_icmp .ge 47, 3) := dk_162 0 47 (dk_at dksX1_rowsFrom_1 2 rfl rfl)
theorem dX1_rowsFrom_29 : decode cX1_rowsFrom 29 = .ok (.aload_n 0, 1) := dk_42 (dk_at dksX1_rowsFrom_1 5 rfl rfl)
theorem dX1_rowsFrom_30 : decode cX1_rowsFrom 30 = .ok (.getfield 109, 3) := dk_180 0 109 (dk_at dksX1_rowsFrom_1 6 rfl rfl)
theorem dX1_rowsFrom_33 : decode cX1_rowsFrom 33 = .ok (.iload 5, 2) := dk_21 5 (dk_at dksX1_rowsFrom_1 9 rfl rfl)
theorem dX1_rowsFrom_35 : decode cX1_rowsFrom 35 = .ok (.dup2, 1) := dk_92 (dk_at dksX1_rowsFrom_1 11 rfl rfl)
theorem dX1_rowsFrom_36 : decode cX1_rowsFrom 36 = .ok (.iaload, 1) := dk_46 (dk_at dksX1_rowsFrom_1 12 rfl rfl)
theorem dX1_rowsFrom_37 : decode cX1_rowsFrom 37 = .ok (.iconst 1, 1) := dk_4 (dk_at dksX1_rowsFrom_1 13 rfl rfl)
theorem dX1_rowsFrom_38 : decode cX1_rowsFrom 38 = .ok (.aload_n 0, 1) := dk_42 (dk_at dksX1_rowsFrom_1 14 rfl rfl)
theorem dX1_rowsFrom_39 : decode cX1_rowsFrom 39 = .ok (.getfield 103, 3) := dk_180 0 103 (dk_at dksX1_rowsFrom_1 15 rfl rfl)
theorem dX1_rowsFrom_42 : decode cX1_rowsFrom 42 = .ok (.iload 5, 2) := dk_21 5 (dk_at dksX1_rowsFrom_1 18 rfl rfl)
theorem dX1_rowsFrom_44 : decode cX1_rowsFrom 44 = .ok (.iaload, 1) := dk_46 (dk_at dksX1_rowsFrom_1 20 rfl rfl)
theorem dX1_rowsFrom_45 : decode cX1_rowsFrom 45 = .ok (.ishl, 1) := dk_120 (dk_at dksX1_rowsFrom_1 21 rfl rfl)
theorem dX1_rowsFrom_46 : decode cX1_rowsFrom 46 = .ok (.ior, 1) := dk_128 (dk_at dksX1_rowsFrom_1 22 rfl rfl)
theorem dX1_rowsFrom_47 : decode cX1_rowsFrom 47 = .ok (.iastore, 1) := dk_79 (dk_at dksX1_rowsFrom_1 23 rfl rfl)
theorem dX1_rowsFrom_48 : decode cX1_rowsFrom 48 = .ok (.aload_n 0, 1) := dk_42 (dk_at dksX1_rowsFrom_2 0 rfl rfl)
theorem dX1_rowsFrom_49 : decode cX1_rowsFrom 49 = .ok (.getfield 112, 3) := dk_180 0 112 (dk_at dksX1_rowsFrom_2 1 rfl rfl)
theorem dX1_rowsFrom_52 : decode cX1_rowsFrom 52 = .ok (.iload 5, 2) := dk_21 5 (dk_at dksX1_rowsFrom_2 4 rfl rfl)
theorem dX1_rowsFrom_54 : decode cX1_rowsFrom 54 = .ok (.dup2, 1) := dk_92 (dk_at dksX1_rowsFrom_2 6 rfl rfl)
theorem dX1_rowsFrom_55 : decode cX1_rowsFrom 55 = .ok (.iaload, 1) := dk_46 (dk_at dksX1_rowsFrom_2 7 rfl rfl)
theorem dX1_rowsFrom_56 : decode cX1_rowsFrom 56 = .ok (.iconst 1, 1) := dk_4 (dk_at dksX1_rowsFrom_2 8 rfl rfl)
theorem dX1_rowsFrom_57 : decode cX1_rowsFrom 57 = .ok (.aload_n 0, 1) := dk_42 (dk_at dksX1_rowsFrom_2 9 rfl rfl)
theorem dX1_rowsFrom_58 : decode cX1_rowsFrom 58 = .ok (.getfield 106, 3) := dk_180 0 106 (dk_at dksX1_rowsFrom_2 10 rfl rfl)
theorem dX1_rowsFrom_61 : decode cX1_rowsFrom 61 = .ok (.iload 5, 2) := dk_21 5 (dk_at dksX1_rowsFrom_2 13 rfl rfl)
theorem dX1_rowsFrom_63 : decode cX1_rowsFrom 63 = .ok (.iaload, 1) := dk_46 (dk_at dksX1_rowsFrom_2 15 rfl rfl)
theorem dX1_rowsFrom_64 : decode cX1_rowsFrom 64 = .ok (.ishl, 1) := dk_120 (dk_at dksX1_rowsFrom_2 16 rfl rfl)
theorem dX1_rowsFrom_65 : decode cX1_rowsFrom 65 = .ok (.ior, 1) := dk_128 (dk_at dksX1_rowsFrom_2 17 rfl rfl)
theorem dX1_rowsFrom_66 : decode cX1_rowsFrom 66 = .ok (.iastore, 1) := dk_79 (dk_at dksX1_rowsFrom_2 18 rfl rfl)
theorem dX1_rowsFrom_67 : decode cX1_rowsFrom 67 = .ok (.iinc 5 1, 3) := dk_132 5 1 (dk_at dksX1_rowsFrom_2 19 rfl rfl)
theorem dX1_rowsFrom_70 : decode cX1_rowsFrom 70 = .ok (.goto (-48), 3) := dk_167 255 208 (dk_at dksX1_rowsFrom_3 0 rfl rfl)
theorem dX1_rowsFrom_73 : decode cX1_rowsFrom 73 = .ok (.iconst 1, 1) := dk_4 (dk_at dksX1_rowsFrom_3 3 rfl rfl)
theorem dX1_rowsFrom_74 : decode cX1_rowsFrom 74 = .ok (.ireturn, 1) := dk_172 (dk_at dksX1_rowsFrom_3 4 rfl rfl)
theorem dX1_rowsFrom_75 : decode cX1_rowsFrom 75 = .ok (.iconst 0, 1) := dk_3 (dk_at dksX1_rowsFrom_3 5 rfl rfl)
theorem dX1_rowsFrom_76 : decode cX1_rowsFrom 76 = .ok (.istore 5, 2) := dk_54 5 (dk_at dksX1_rowsFrom_3 6 rfl rfl)
theorem dX1_rowsFrom_78 : decode cX1_rowsFrom 78 = .ok (.iconst 0, 1) := dk_3 (dk_at dksX1_rowsFrom_3 8 rfl rfl)
theorem dX1_rowsFrom_79 : decode cX1_rowsFrom 79 = .ok (.istore 6, 2) := dk_54 6 (dk_at dksX1_rowsFrom_3 9 rfl rfl)
theorem dX1_rowsFrom_81 : decode cX1_rowsFrom 81 = .ok (.iload 6, 2) := dk_21 6 (dk_at dksX1_rowsFrom_3 11 rfl rfl)
theorem dX1_rowsFrom_83 : decode cX1_rowsFrom 83 = .ok (.aload_n 0, 1) := dk_42 (dk_at dksX1_rowsFrom_3 13 rfl rfl)
theorem dX1_rowsFrom_84 : decode cX1_rowsFrom 84 = .ok (.getfield 70, 3) := dk_180 0 70 (dk_at dksX1_rowsFrom_3 14 rfl rfl)
theorem dX1_rowsFrom_87 : decode cX1_rowsFrom 87 = .ok (.getfield 182, 3) := dk_180 0 182 (dk_at dksX1_rowsFrom_3 17 rfl rfl)
theorem dX1_rowsFrom_90 : decode cX1_rowsFrom 90 = .ok (.getfield 203, 3) := dk_180 0 203 (dk_at dksX1_rowsFrom_3 20 rfl rfl)
theorem dX1_rowsFrom_93 : decode cX1_rowsFrom 93 = .ok (.if_icmp .ge 118, 3) := dk_162 0 118 (dk_at dksX1_rowsFrom_4 0 rfl rfl)
theorem dX1_rowsFrom_96 : decode cX1_rowsFrom 96 = .ok (.iload_n 2, 1) := dk_28 (dk_at dksX1_rowsFrom_4 3 rfl rfl)
theorem dX1_rowsFrom_97 : decode cX1_rowsFrom 97 = .ok (.aload_n 0, 1) := dk_42 (dk_at dksX1_rowsFrom_4 4 rfl rfl)
theorem dX1_rowsFrom_98 : decode cX1_rowsFrom 98 = .ok (.getfield 70, 3) := dk_180 0 70 (dk_at dksX1_rowsFrom_4 5 rfl rfl)
theorem dX1_rowsFrom_101 : decode cX1_rowsFrom 101 = .ok (.getfield 182, 3) := dk_180 0 182 (dk_at dksX1_rowsFrom_4 8 rfl rfl)
theorem dX1_rowsFrom_104 : decode cX1_rowsFrom 104 = .ok (.getfield 236, 3) := dk_180 0 236 (dk_at dksX1_rowsFrom_4 11 rfl rfl)
theorem dX1_rowsFrom_107 : decode cX1_rowsFrom 107 = .ok (.iload 6, 2) := dk_21 6 (dk_at dksX1_rowsFrom_4 14 rfl rfl)
theorem dX1_rowsFrom_109 : decode cX1_rowsFrom 109 = .ok (.aaload, 1) := dk_50 (dk_at dksX1_rowsFrom_4 16 rfl rfl)
theorem dX1_rowsFrom_110 : decode cX1_rowsFrom 110 = .ok (.getfield 240, 3) := dk_180 0 240 (dk_at dksX1_rowsFrom_4 17 rfl rfl)
theorem dX1_rowsFrom_113 : decode cX1_rowsFrom 113 = .ok (.isub, 1) := dk_100 (dk_at dksX1_rowsFrom_4 20 rfl rfl)
theorem dX1_rowsFrom_114 : decode cX1_rowsFrom 114 = .ok (.istore 7, 2) := dk_54 7 (dk_at dksX1_rowsFrom_4 21 rfl rfl)
theorem dX1_rowsFrom_116 : decode cX1_rowsFrom 116 = .ok (.iload 7, 2) := dk_21 7 (dk_at dksX1_rowsFrom_5 0 rfl rfl)
theorem dX1_rowsFrom_118 : decode cX1_rowsFrom 118 = .ok (.aload_n 0, 1) := dk_42 (dk_at dksX1_rowsFrom_5 2 rfl rfl)
theorem dX1_rowsFrom_119 : decode cX1_rowsFrom 119 = .ok (.getfield 70, 3) := dk_180 0 70 (dk_at dksX1_rowsFrom_5 3 rfl rfl)
theorem dX1_rowsFrom_122 : decode cX1_rowsFrom 122 = .ok (.getfield 182, 3) := dk_180 0 182 (dk_at dksX1_rowsFrom_5 6 rfl rfl)
theorem dX1_rowsFrom_125 : decode cX1_rowsFrom 125 = .ok (.getfield 416, 3) := dk_180 1 160 (dk_at dksX1_rowsFrom_5 9 rfl rfl)
theorem dX1_rowsFrom_128 : decode cX1_rowsFrom 128 = .ok (.if_icmp .lt 77, 3) := dk_161 0 77 (dk_at dksX1_rowsFrom_5 12 rfl rfl)
theorem dX1_rowsFrom_131 : decode cX1_rowsFrom 131 = .ok (.iload 7, 2) := dk_21 7 (dk_at dksX1_rowsFrom_5 15 rfl rfl)
theorem dX1_rowsFrom_133 : decode cX1_rowsFrom 133 = .ok (.aload_n 0, 1) := dk_42 (dk_at dksX1_rowsFrom_5 17 rfl rfl)
theorem dX1_rowsFrom_134 : decode cX1_rowsFrom 134 = .ok (.getfield 70, 3) := dk_180 0 70 (dk_at dksX1_rowsFrom_5 18 rfl rfl)
theorem dX1_rowsFrom_137 : decode cX1_rowsFrom 137 = .ok (.getfield 231, 3) := dk_180 0 231 (dk_at dksX1_rowsFrom_5 21 rfl rfl)
theorem dX1_rowsFrom_140 : decode cX1_rowsFrom 140 = .ok (.iload_n 1, 1) := dk_27 (dk_at dksX1_rowsFrom_6 0 rfl rfl)
theorem dX1_rowsFrom_141 : decode cX1_rowsFrom 141 = .ok (.iaload, 1) := dk_46 (dk_at dksX1_rowsFrom_6 1 rfl rfl)
theorem dX1_rowsFrom_142 : decode cX1_rowsFrom 142 = .ok (.if_icmp .ge 6, 3) := dk_162 0 6 (dk_at dksX1_rowsFrom_6 2 rfl rfl)
theorem dX1_rowsFrom_145 : decode cX1_rowsFrom 145 = .ok (.goto 60, 3) := dk_167 0 60 (dk_at dksX1_rowsFrom_6 5 rfl rfl)
theorem dX1_rowsFrom_148 : decode cX1_rowsFrom 148 = .ok (.aload_n 0, 1) := dk_42 (dk_at dksX1_rowsFrom_6 8 rfl rfl)
theorem dX1_rowsFrom_149 : decode cX1_rowsFrom 149 = .ok (.getfield 106, 3) := dk_180 0 106 (dk_at dksX1_rowsFrom_6 9 rfl rfl)
theorem dX1_rowsFrom_152 : decode cX1_rowsFrom 152 = .ok (.iload_n 3, 1) := dk_29 (dk_at dksX1_rowsFrom_6 12 rfl rfl)
theorem dX1_rowsFrom_153 : decode cX1_rowsFrom 153 = .ok (.iload 6, 2) := dk_21 6 (dk_at dksX1_rowsFrom_6 13 rfl rfl)
theorem dX1_rowsFrom_155 : decode cX1_rowsFrom 155 = .ok (.iastore, 1) := dk_79 (dk_at dksX1_rowsFrom_6 15 rfl rfl)
theorem dX1_rowsFrom_156 : decode cX1_rowsFrom 156 = .ok (.iconst 0, 1) := dk_3 (dk_at dksX1_rowsFrom_6 16 rfl rfl)
theorem dX1_rowsFrom_157 : decode cX1_rowsFrom 157 = .ok (.istore 8, 2) := dk_54 8 (dk_at dksX1_rowsFrom_6 17 rfl rfl)
theorem dX1_rowsFrom_159 : decode cX1_rowsFrom 159 = .ok (.iload 8, 2) := dk_21 8 (dk_at dksX1_rowsFrom_6 19 rfl rfl)
theorem dX1_rowsFrom_161 : decode cX1_rowsFrom 161 = .ok (.aload_n 0, 1) := dk_42 (dk_at dksX1_rowsFrom_6 21 rfl rfl)
theorem dX1_rowsFrom_162 : decode cX1_rowsFrom 162 = .ok (.getfield 70, 3) := dk_180 0 70 (dk_at dksX1_rowsFrom_7 0 rfl rfl)
theorem dX1_rowsFrom_165 : decode cX1_rowsFrom 165 = .ok (.getfield 182, 3) := dk_180 0 182 (dk_at dksX1_rowsFrom_7 3 rfl rfl)
theorem dX1_rowsFrom_168 : decode cX1_rowsFrom 168 = .ok (.getfield 186, 3) := dk_180 0 186 (dk_at dksX1_rowsFrom_7 6 rfl rfl)
theorem dX1_rowsFrom_171 : decode cX1_rowsFrom 171 = .ok (.if_icmp .ge 34, 3) := dk_162 0 34 (dk_at dksX1_rowsFrom_7 9 rfl rfl)
theorem dX1_rowsFrom_174 : decode cX1_rowsFrom 174 = .ok (.aload_n 0, 1) := dk_42 (dk_at dksX1_rowsFrom_7 12 rfl rfl)
theorem dX1_rowsFrom_175 : decode cX1_rowsFrom 175 = .ok (.getfield 103, 3) := dk_180 0 103 (dk_at dksX1_rowsFrom_7 13 rfl rfl)
theorem dX1_rowsFrom_178 : decode cX1_rowsFrom 178 = .ok (.iload_n 3, 1) := dk_29 (dk_at dksX1_rowsFrom_7 16 rfl rfl)
theorem dX1_rowsFrom_179 : decode cX1_rowsFrom 179 = .ok (.iload 8, 2) := dk_21 8 (dk_at dksX1_rowsFrom_7 17 rfl rfl)
theorem dX1_rowsFrom_181 : decode cX1_rowsFrom 181 = .ok (.iastore, 1) := dk_79 (dk_at dksX1_rowsFrom_7 19 rfl rfl)
theorem dX1_rowsFrom_182 : decode cX1_rowsFrom 182 = .ok (.iload 5, 2) := dk_21 5 (dk_at dksX1_rowsFrom_7 20 rfl rfl)
theorem dX1_rowsFrom_184 : decode cX1_rowsFrom 184 = .ok (.aload_n 0, 1) := dk_42 (dk_at dksX1_rowsFrom_7 22 rfl rfl)
theorem dX1_rowsFrom_185 : decode cX1_rowsFrom 185 = .ok (.iload_n 1, 1) := dk_27 (dk_at dksX1_rowsFrom_7 23 rfl rfl)
theorem dX1_rowsFrom_186 : decode cX1_rowsFrom 186 = .ok (.iload 7, 2) := dk_21 7 (dk_at dksX1_rowsFrom_8 0 rfl rfl)
theorem dX1_rowsFrom_188 : decode cX1_rowsFrom 188 = .ok (.iload_n 3, 1) := dk_29 (dk_at dksX1_rowsFrom_8 2 rfl rfl)
theorem dX1_rowsFrom_189 : decode cX1_rowsFrom 189 = .ok (.iconst 1, 1) := dk_4 (dk_at dksX1_rowsFrom_8 3 rfl rfl)
theorem dX1_rowsFrom_190 : decode cX1_rowsFrom 190 = .ok (.iadd, 1) := dk_96 (dk_at dksX1_rowsFrom_8 4 rfl rfl)
theorem dX1_rowsFrom_191 : decode cX1_rowsFrom 191 = .ok (.iload 4, 2) := dk_21 4 (dk_at dksX1_rowsFrom_8 5 rfl rfl)
theorem dX1_rowsFrom_193 : decode cX1_rowsFrom 193 = .ok (.invokevirtual 418, 3) := dk_182 1 162 (dk_at dksX1_rowsFrom_8 7 rfl rfl)
theorem dX1_rowsFrom_196 : decode cX1_rowsFrom 196 = .ok (.iadd, 1) := dk_96 (dk_at dksX1_rowsFrom_8 10 rfl rfl)
theorem dX1_rowsFrom_197 : decode cX1_rowsFrom 197 = .ok (.istore 5, 2) := dk_54 5 (dk_at dksX1_rowsFrom_8 11 rfl rfl)
theorem dX1_rowsFrom_199 : decode cX1_rowsFrom 199 = .ok (.iinc 8 1, 3) := dk_132 8 1 (dk_at dksX1_rowsFrom_8 13 rfl rfl)
theorem dX1_rowsFrom_202 : decode cX1_rowsFrom 202 = .ok (.goto (-43), 3) := dk_167 255 213 (dk_at dksX1_rowsFrom_8 16 rfl rfl)
theorem dX1_rowsFrom_205 : decode cX1_rowsFrom 205 = .ok (.iinc 6 1, 3) := dk_132 6 1 (dk_at dksX1_rowsFrom_8 19 rfl rfl)
theorem dX1_rowsFrom_208 : decode cX1_rowsFrom 208 = .ok (.goto (-127), 3) := dk_167 255 129 (dk_at dksX1_rowsFrom_9 0 rfl rfl)
theorem dX1_rowsFrom_211 : decode cX1_rowsFrom 211 = .ok (.iload 5, 2) := dk_21 5 (dk_at dksX1_rowsFrom_9 3 rfl rfl)
theorem dX1_rowsFrom_213 : decode cX1_rowsFrom 213 = .ok (.ireturn, 1) := dk_172 (dk_at dksX1_rowsFrom_9 5 rfl rfl)
abbrev cX1_looks : ByteArray := prog_1_method_53_code
def yX1_looks : MethodName := ⟨RX1, "looks", "(III)Z"⟩
def dkwX1_looks_7 : List UInt8 := [46, 160, 0, 7, 4, 167, 0, 4, 3, 172]
abbrev dktX1_looks_7 : List UInt8 := dkwX1_looks_7 ++ []
def dkwX1_looks_6 : List UInt8 := [159, 0, 5, 3, 172, 132, 4, 1, 132, 5, 255, 167, 255, 128, 21, 4, 42, 180, 0, 70, 180, 1, 13, 27]
abbrev dktX1_looks_6 : List UInt8 := dkwX1_looks_6 ++ dktX1_looks_7
def dkwX1_looks_5 : List UInt8 := [21, 5, 46, 160, 0, 23, 42, 180, 0, 70, 180, 1, 30, 16, 9, 27, 104, 21, 4, 96, 46, 21, 6]
abbrev dktX1_looks_5 : List UInt8 := dkwX1_looks_5 ++ dktX1_looks_6
def dkwX1_looks_4 : List UInt8 := [46, 159, 0, 48, 42, 180, 0, 70, 180, 1, 28, 16, 9, 27, 104, 21, 4, 96, 46, 42, 180, 0, 103]
abbrev dktX1_looks_4 : List UInt8 := dkwX1_looks_4 ++ dktX1_looks_5
def dkwX1_looks_3 : List UInt8 := [132, 7, 1, 167, 255, 221, 21, 6, 157, 0, 6, 167, 0, 67, 21, 4, 42, 180, 0, 70, 180, 1, 13, 27]
abbrev dktX1_looks_3 : List UInt8 := dkwX1_looks_3 ++ dktX1_looks_4
def dkwX1_looks_2 : List UInt8 := [180, 0, 70, 180, 0, 182, 180, 0, 236, 42, 180, 0, 106, 21, 7, 46, 50, 180, 0, 245, 100, 54, 6]
abbrev dktX1_looks_2 : List UInt8 := dkwX1_looks_2 ++ dktX1_looks_3
def dkwX1_looks_1 : List UInt8 := [21, 5, 155, 0, 129, 16, 9, 54, 6, 21, 5, 4, 96, 54, 7, 21, 7, 29, 162, 0, 35, 21, 6, 42]
abbrev dktX1_looks_1 : List UInt8 := dkwX1_looks_1 ++ dktX1_looks_2
def dkwX1_looks_0 : List UInt8 := [28, 42, 180, 0, 70, 180, 0, 231, 27, 46, 159, 0, 5, 3, 172, 3, 54, 4, 29, 4, 100, 54, 5]
abbrev dktX1_looks_0 : List UInt8 := dkwX1_looks_0 ++ dktX1_looks_1
theorem dksX1_looks_0 : cX1_looks.data.toList.drop 0 = dktX1_looks_0 := by decide +kernel
theorem dksX1_looks_1 : cX1_looks.data.toList.drop 23 = dktX1_looks_1 := dk_seg dksX1_looks_0 23 rfl rfl
theorem dksX1_looks_2 : cX1_looks.data.toList.drop 47 = dktX1_looks_2 := dk_seg dksX1_looks_1 24 rfl rfl
theorem dksX1_looks_3 : cX1_looks.data.toList.drop 70 = dktX1_looks_3 := dk_seg dksX1_looks_2 23 rfl rfl
theorem dksX1_looks_4 : cX1_looks.data.toList.drop 94 = dktX1_looks_4 := dk_seg dksX1_looks_3 24 rfl rfl
theorem dksX1_looks_5 : cX1_looks.data.toList.drop 117 = dktX1_looks_5 := dk_seg dksX1_looks_4 23 rfl rfl
theorem dksX1_looks_6 : cX1_looks.data.toList.drop 140 = dktX1_looks_6 := dk_seg dksX1_looks_5 23 rfl rfl
theorem dksX1_looks_7 : cX1_looks.data.toList.drop 164 = dktX1_looks_7 := dk_seg dksX1_looks_6 24 rfl rfl
theorem dX1_looks_0 : decode cX1_looks 0 = .ok (.iload_n 2, 1) := dk_28 (dk_at dksX1_looks_0 0 rfl rfl)
theorem dX1_looks_1 : decode cX1_looks 1 = .ok (.aload_n 0, 1) := dk_42 (dk_at dksX1_looks_0 1 rfl rfl)
theorem dX1_looks_2 : decode cX1_looks 2 = .ok (.getfield 70, 3) := dk_180 0 70 (dk_at dksX1_looks_0 2 rfl rfl)
theorem dX1_looks_5 : decode cX1_looks 5 = .ok (.getfield 231, 3) := dk_180 0 231 (dk_at dksX1_looks_0 5 rfl rfl)
theorem dX1_looks_8 : decode cX1_looks 8 = .ok (.iload_n 1, 1) := dk_27 (dk_at dksX1_looks_0 8 rfl rfl)
theorem dX1_looks_9 : decode cX1_looks 9 = .ok (.iaload, 1) := dk_46 (dk_at dksX1_looks_0 9 rfl rfl)
theorem dX1_looks_10 : decode cX1_looks 10 = .ok (.if_icmp .eq 5, 3) := dk_159 0 5 (dk_at dksX1_looks_0 10 rfl rfl)
theorem dX1_looks_13 : decode cX1_looks 13 = .ok (.iconst 0, 1) := dk_3 (dk_at dksX1_looks_0 13 rfl rfl)
theorem dX1_looks_14 : decode cX1_looks 14 = .ok (.ireturn, 1) := dk_172 (dk_at dksX1_looks_0 14 rfl rfl)
theorem dX1_looks_15 : decode cX1_looks 15 = .ok (.iconst 0, 1) := dk_3 (dk_at dksX1_looks_0 15 rfl rfl)
theorem dX1_looks_16 : decode cX1_looks 16 = .ok (.istore 4, 2) := dk_54 4 (dk_at dksX1_looks_0 16 rfl rfl)
theorem dX1_looks_18 : decode cX1_looks 18 = .ok (.iload_n 3, 1) := dk_29 (dk_at dksX1_looks_0 18 rfl rfl)
theorem dX1_looks_19 : decode cX1_looks 19 = .ok (.iconst 1, 1) := dk_4 (dk_at dksX1_looks_0 19 rfl rfl)
theorem dX1_looks_20 : decode cX1_looks 20 = .ok (.isub, 1) := dk_100 (dk_at dksX1_looks_0 20 rfl rfl)
theorem dX1_looks_21 : decode cX1_looks 21 = .ok (.istore 5, 2) := dk_54 5 (dk_at dksX1_looks_0 21 rfl rfl)
theorem dX1_looks_23 : decode cX1_looks 23 = .ok (.iload 5, 2) := dk_21 5 (dk_at dksX1_looks_1 0 rfl rfl)
theorem dX1_looks_25 : decode cX1_looks 25 = .ok (.ifCond .lt 129, 3) := dk_155 0 129 (dk_at dksX1_looks_1 2 rfl rfl)
theorem dX1_looks_28 : decode cX1_looks 28 = .ok (.bipush 9, 2) := dk_16 9 (dk_at dksX1_looks_1 5 rfl rfl)
theorem dX1_looks_30 : decode cX1_looks 30 = .ok (.istore 6, 2) := dk_54 6 (dk_at dksX1_looks_1 7 rfl rfl)
theorem dX1_looks_32 : decode cX1_looks 32 = .ok (.iload 5, 2) := dk_21 5 (dk_at dksX1_looks_1 9 rfl rfl)
theorem dX1_looks_34 : decode cX1_looks 34 = .ok (.iconst 1, 1) := dk_4 (dk_at dksX1_looks_1 11 rfl rfl)
theorem dX1_looks_35 : decode cX1_looks 35 = .ok (.iadd, 1) := dk_96 (dk_at dksX1_looks_1 12 rfl rfl)
theorem dX1_looks_36 : decode cX1_looks 36 = .ok (.istore 7, 2) := dk_54 7 (dk_at dksX1_looks_1 13 rfl rfl)
theorem dX1_looks_38 : decode cX1_looks 38 = .ok (.iload 7, 2) := dk_21 7 (dk_at dksX1_looks_1 15 rfl rfl)
theorem dX1_looks_40 : decode cX1_looks 40 = .ok (.iload_n 3, 1) := dk_29 (dk_at dksX1_looks_1 17 rfl rfl)
theorem dX1_looks_41 : decode cX1_looks 41 = .ok (.if_icmp .ge 35, 3) := dk_162 0 35 (dk_at dksX1_looks_1 18 rfl rfl)
theorem dX1_looks_44 : decode cX1_looks 44 = .ok (.iload 6, 2) := dk_21 6 (dk_at dksX1_looks_1 21 rfl rfl)
theorem dX1_looks_46 : decode cX1_looks 46 = .ok (.aload_n 0, 1) := dk_42 (dk_at dksX1_looks_1 23 rfl rfl)
theorem dX1_looks_47 : decode cX1_looks 47 = .ok (.getfield 70, 3) := dk_180 0 70 (dk_at dksX1_looks_2 0 rfl rfl)
theorem dX1_looks_50 : decode cX1_looks 50 = .ok (.getfield 182, 3) := dk_180 0 182 (dk_at dksX1_looks_2 3 rfl rfl)
theorem dX1_looks_53 : decode cX1_looks 53 = .ok (.getfield 236, 3) := dk_180 0 236 (dk_at dksX1_looks_2 6 rfl rfl)
theorem dX1_looks_56 : decode cX1_looks 56 = .ok (.aload_n 0, 1) := dk_42 (dk_at dksX1_looks_2 9 rfl rfl)
theorem dX1_looks_57 : decode cX1_looks 57 = .ok (.getfield 106, 3) := dk_180 0 106 (dk_at dksX1_looks_2 10 rfl rfl)
theorem dX1_looks_60 : decode cX1_looks 60 = .ok (.iload 7, 2) := dk_21 7 (dk_at dksX1_looks_2 13 rfl rfl)
theorem dX1_looks_62 : decode cX1_looks 62 = .ok (.iaload, 1) := dk_46 (dk_at dksX1_looks_2 15 rfl rfl)
theorem dX1_looks_63 : decode cX1_looks 63 = .ok (.aaload, 1) := dk_50 (dk_at dksX1_looks_2 16 rfl rfl)
theorem dX1_looks_64 : decode cX1_looks 64 = .ok (.getfield 245, 3) := dk_180 0 245 (dk_at dksX1_looks_2 17 rfl rfl)
theorem dX1_looks_67 : decode cX1_looks 67 = .ok (.isub, 1) := dk_100 (dk_at dksX1_looks_2 20 rfl rfl)
theorem dX1_looks_68 : decode cX1_looks 68 = .ok (.istore 6, 2) := dk_54 6 (dk_at dksX1_looks_2 21 rfl rfl)
theorem dX1_looks_70 : decode cX1_looks 70 = .ok (.iinc 7 1, 3) := dk_132 7 1 (dk_at dksX1_looks_3 0 rfl rfl)
theorem dX1_looks_73 : decode cX1_looks 73 = .ok (.goto (-35), 3) := dk_167 255 221 (dk_at dksX1_looks_3 3 rfl rfl)
theorem dX1_looks_76 : decode cX1_looks 76 = .ok (.iload 6, 2) := dk_21 6 (dk_at dksX1_looks_3 6 rfl rfl)
theorem dX1_looks_78 : decode cX1_looks 78 = .ok (.ifCond .gt 6, 3) := dk_157 0 6 (dk_at dksX1_looks_3 8 rfl rfl)
theorem dX1_looks_81 : decode cX1_looks 81 = .ok (.goto 67, 3) := dk_167 0 67 (dk_at dksX1_looks_3 11 rfl rfl)
theorem dX1_looks_84 : decode cX1_looks 84 = .ok (.iload 4, 2) := dk_21 4 (dk_at dksX1_looks_3 14 rfl rfl)
theorem dX1_looks_86 : decode cX1_looks 86 = .ok (.aload_n 0, 1) := dk_42 (dk_at dksX1_looks_3 16 rfl rfl)
theorem dX1_looks_87 : decode cX1_looks 87 = .ok (.getfield 70, 3) := dk_180 0 70 (dk_at dksX1_looks_3 17 rfl rfl)
theorem dX1_looks_90 : decode cX1_looks 90 = .ok (.getfield 269, 3) := dk_180 1 13 (dk_at dksX1_looks_3 20 rfl rfl)
theorem dX1_looks_93 : decode cX1_looks 93 = .ok (.iload_n 1, 1) := dk_27 (dk_at dksX1_looks_3 23 rfl rfl)
theorem dX1_looks_94 : decode cX1_looks 94 = .ok (.iaload, 1) := dk_46 (dk_at dksX1_looks_4 0 rfl rfl)
theorem dX1_looks_95 : decode cX1_looks 95 = .ok (.if_icmp .eq 48, 3) := dk_159 0 48 (dk_at dksX1_looks_4 1 rfl rfl)
theorem dX1_looks_98 : decode cX1_looks 98 = .ok (.aload_n 0, 1) := dk_42 (dk_at dksX1_looks_4 4 rfl rfl)
theorem dX1_looks_99 : decode cX1_looks 99 = .ok (.getfield 70, 3) := dk_180 0 70 (dk_at dksX1_looks_4 5 rfl rfl)
theorem dX1_looks_102 : decode cX1_looks 102 = .ok (.getfield 284, 3) := dk_180 1 28 (dk_at dksX1_looks_4 8 rfl rfl)
theorem dX1_looks_105 : decode cX1_looks 105 = .ok (.bipush 9, 2) := dk_16 9 (dk_at dksX1_looks_4 11 rfl rfl)
theorem dX1_looks_107 : decode cX1_looks 107 = .ok (.iload_n 1, 1) := dk_27 (dk_at dksX1_looks_4 13 rfl rfl)
theorem dX1_looks_108 : decode cX1_looks 108 = .ok (.imul, 1) := dk_104 (dk_at dksX1_looks_4 14 rfl rfl)
theorem dX1_looks_109 : decode cX1_looks 109 = .ok (.iload 4, 2) := dk_21 4 (dk_at dksX1_looks_4 15 rfl rfl)
theorem dX1_looks_111 : decode cX1_looks 111 = .ok (.iadd, 1) := dk_96 (dk_at dksX1_looks_4 17 rfl rfl)
theorem dX1_looks_112 : decode cX1_looks 112 = .ok (.iaload, 1) := dk_46 (dk_at dksX1_looks_4 18 rfl rfl)
theorem dX1_looks_113 : decode cX1_looks 113 = .ok (.aload_n 0, 1) := dk_42 (dk_at dksX1_looks_4 19 rfl rfl)
theorem dX1_looks_114 : decode cX1_looks 114 = .ok (.getfield 103, 3) := dk_180 0 103 (dk_at dksX1_looks_4 20 rfl rfl)
theorem dX1_looks_117 : decode cX1_looks 117 = .ok (.iload 5, 2) := dk_21 5 (dk_at dksX1_looks_5 0 rfl rfl)
theorem dX1_looks_119 : decode cX1_looks 119 = .ok (.iaload, 1) := dk_46 (dk_at dksX1_looks_5 2 rfl rfl)
theorem dX1_looks_120 : decode cX1_looks 120 = .ok (.if_icmp .ne 23, 3) := dk_160 0 23 (dk_at dksX1_looks_5 3 rfl rfl)
theorem dX1_looks_123 : decode cX1_looks 123 = .ok (.aload_n 0, 1) := dk_42 (dk_at dksX1_looks_5 6 rfl rfl)
theorem dX1_looks_124 : decode cX1_looks 124 = .ok (.getfield 70, 3) := dk_180 0 70 (dk_at dksX1_looks_5 7 rfl rfl)
theorem dX1_looks_127 : decode cX1_looks 127 = .ok (.getfield 286, 3) := dk_180 1 30 (dk_at dksX1_looks_5 10 rfl rfl)
theorem dX1_looks_130 : decode cX1_looks 130 = .ok (.bipush 9, 2) := dk_16 9 (dk_at dksX1_looks_5 13 rfl rfl)
theorem dX1_looks_132 : decode cX1_looks 132 = .ok (.iload_n 1, 1) := dk_27 (dk_at dksX1_looks_5 15 rfl rfl)
theorem dX1_looks_133 : decode cX1_looks 133 = .ok (.imul, 1) := dk_104 (dk_at dksX1_looks_5 16 rfl rfl)
theorem dX1_looks_134 : decode cX1_looks 134 = .ok (.iload 4, 2) := dk_21 4 (dk_at dksX1_looks_5 17 rfl rfl)
theorem dX1_looks_136 : decode cX1_looks 136 = .ok (.iadd, 1) := dk_96 (dk_at dksX1_looks_5 19 rfl rfl)
theorem dX1_looks_137 : decode cX1_looks 137 = .ok (.iaload, 1) := dk_46 (dk_at dksX1_looks_5 20 rfl rfl)
theorem dX1_looks_138 : decode cX1_looks 138 = .ok (.iload 6, 2) := dk_21 6 (dk_at dksX1_looks_5 21 rfl rfl)
theorem dX1_looks_140 : decode cX1_looks 140 = .ok (.if_icmp .eq 5, 3) := dk_159 0 5 (dk_at dksX1_looks_6 0 rfl rfl)
theorem dX1_looks_143 : decode cX1_looks 143 = .ok (.iconst 0, 1) := dk_3 (dk_at dksX1_looks_6 3 rfl rfl)
theorem dX1_looks_144 : decode cX1_looks 144 = .ok (.ireturn, 1) := dk_172 (dk_at dksX1_looks_6 4 rfl rfl)
theorem dX1_looks_145 : decode cX1_looks 145 = .ok (.iinc 4 1, 3) := dk_132 4 1 (dk_at dksX1_looks_6 5 rfl rfl)
theorem dX1_looks_148 : decode cX1_looks 148 = .ok (.iinc 5 (-1), 3) := dk_132 5 255 (dk_at dksX1_looks_6 8 rfl rfl)
theorem dX1_looks_151 : decode cX1_looks 151 = .ok (.goto (-128), 3) := dk_167 255 128 (dk_at dksX1_looks_6 11 rfl rfl)
theorem dX1_looks_154 : decode cX1_looks 154 = .ok (.iload 4, 2) := dk_21 4 (dk_at dksX1_looks_6 14 rfl rfl)
theorem dX1_looks_156 : decode cX1_looks 156 = .ok (.aload_n 0, 1) := dk_42 (dk_at dksX1_looks_6 16 rfl rfl)
theorem dX1_looks_157 : decode cX1_looks 157 = .ok (.getfield 70, 3) := dk_180 0 70 (dk_at dksX1_looks_6 17 rfl rfl)
theorem dX1_looks_160 : decode cX1_looks 160 = .ok (.getfield 269, 3) := dk_180 1 13 (dk_at dksX1_looks_6 20 rfl rfl)
theorem dX1_looks_163 : decode cX1_looks 163 = .ok (.iload_n 1, 1) := dk_27 (dk_at dksX1_looks_6 23 rfl rfl)
theorem dX1_looks_164 : decode cX1_looks 164 = .ok (.iaload, 1) := dk_46 (dk_at dksX1_looks_7 0 rfl rfl)
theorem dX1_looks_165 : decode cX1_looks 165 = .ok (.if_icmp .ne 7, 3) := dk_160 0 7 (dk_at dksX1_looks_7 1 rfl rfl)
theorem dX1_looks_168 : decode cX1_looks 168 = .ok (.iconst 1, 1) := dk_4 (dk_at dksX1_looks_7 4 rfl rfl)
theorem dX1_looks_169 : decode cX1_looks 169 = .ok (.goto 4, 3) := dk_167 0 4 (dk_at dksX1_looks_7 5 rfl rfl)
theorem dX1_looks_172 : decode cX1_looks 172 = .ok (.iconst 0, 1) := dk_3 (dk_at dksX1_looks_7 8 rfl rfl)
theorem dX1_looks_173 : decode cX1_looks 173 = .ok (.ireturn, 1) := dk_172 (dk_at dksX1_looks_7 9 rfl rfl)
abbrev cX1_could : ByteArray := prog_1_method_56_code
def yX1_could : MethodName := ⟨RX1, "could", "(II)I"⟩
def dkwX1_could_1 : List UInt8 := [167, 0, 22, 28, 154, 0, 12, 42, 180, 0, 109, 27, 46, 167, 0, 9, 42, 180, 0, 112, 27, 46, 172]
abbrev dktX1_could_1 : List UInt8 := dkwX1_could_1 ++ []
def dkwX1_could_0 : List UInt8 := [27, 3, 42, 180, 0, 115, 4, 100, 184, 0, 189, 153, 0, 12, 28, 3, 4, 184, 0, 189, 154, 0, 7, 2]
abbrev dktX1_could_0 : List UInt8 := dkwX1_could_0 ++ dktX1_could_1
theorem dksX1_could_0 : cX1_could.data.toList.drop 0 = dktX1_could_0 := by decide +kernel
theorem dksX1_could_1 : cX1_could.data.toList.drop 24 = dktX1_could_1 := dk_seg dksX1_could_0 24 rfl rfl
theorem dX1_could_0 : decode cX1_could 0 = .ok (.iload_n 1, 1) := dk_27 (dk_at dksX1_could_0 0 rfl rfl)
theorem dX1_could_1 : decode cX1_could 1 = .ok (.iconst 0, 1) := dk_3 (dk_at dksX1_could_0 1 rfl rfl)
theorem dX1_could_2 : decode cX1_could 2 = .ok (.aload_n 0, 1) := dk_42 (dk_at dksX1_could_0 2 rfl rfl)
theorem dX1_could_3 : decode cX1_could 3 = .ok (.getfield 115, 3) := dk_180 0 115 (dk_at dksX1_could_0 3 rfl rfl)
theorem dX1_could_6 : decode cX1_could 6 = .ok (.iconst 1, 1) := dk_4 (dk_at dksX1_could_0 6 rfl rfl)
theorem dX1_could_7 : decode cX1_could 7 = .ok (.isub, 1) := dk_100 (dk_at dksX1_could_0 7 rfl rfl)
theorem dX1_could_8 : decode cX1_could 8 = .ok (.invokestatic 189, 3) := dk_184 0 189 (dk_at dksX1_could_0 8 rfl rfl)
theorem dX1_could_11 : decode cX1_could 11 = .ok (.ifCond .eq 12, 3) := dk_153 0 12 (dk_at dksX1_could_0 11 rfl rfl)
theorem dX1_could_14 : decode cX1_could 14 = .ok (.iload_n 2, 1) := dk_28 (dk_at dksX1_could_0 14 rfl rfl)
theorem dX1_could_15 : decode cX1_could 15 = .ok (.iconst 0, 1) := dk_3 (dk_at dksX1_could_0 15 rfl rfl)
theorem dX1_could_16 : decode cX1_could 16 = .ok (.iconst 1, 1) := dk_4 (dk_at dksX1_could_0 16 rfl rfl)
theorem dX1_could_17 : decode cX1_could 17 = .ok (.invokestatic 189, 3) := dk_184 0 189 (dk_at dksX1_could_0 17 rfl rfl)
theorem dX1_could_20 : decode cX1_could 20 = .ok (.ifCond .ne 7, 3) := dk_154 0 7 (dk_at dksX1_could_0 20 rfl rfl)
theorem dX1_could_23 : decode cX1_could 23 = .ok (.iconst (-1), 1) := dk_2 (dk_at dksX1_could_0 23 rfl rfl)
theorem dX1_could_24 : decode cX1_could 24 = .ok (.goto 22, 3) := dk_167 0 22 (dk_at dksX1_could_1 0 rfl rfl)
theorem dX1_could_27 : decode cX1_could 27 = .ok (.iload_n 2, 1) := dk_28 (dk_at dksX1_could_1 3 rfl rfl)
theorem dX1_could_28 : decode cX1_could 28 = .ok (.ifCond .ne 12, 3) := dk_154 0 12 (dk_at dksX1_could_1 4 rfl rfl)
theorem dX1_could_31 : decode cX1_could 31 = .ok (.aload_n 0, 1) := dk_42 (dk_at dksX1_could_1 7 rfl rfl)
theorem dX1_could_32 : decode cX1_could 32 = .ok (.getfield 109, 3) := dk_180 0 109 (dk_at dksX1_could_1 8 rfl rfl)
theorem dX1_could_35 : decode cX1_could 35 = .ok (.iload_n 1, 1) := dk_27 (dk_at dksX1_could_1 11 rfl rfl)
theorem dX1_could_36 : decode cX1_could 36 = .ok (.iaload, 1) := dk_46 (dk_at dksX1_could_1 12 rfl rfl)
theorem dX1_could_37 : decode cX1_could 37 = .ok (.goto 9, 3) := dk_167 0 9 (dk_at dksX1_could_1 13 rfl rfl)
theorem dX1_could_40 : decode cX1_could 40 = .ok (.aload_n 0, 1) := dk_42 (dk_at dksX1_could_1 16 rfl rfl)
theorem dX1_could_41 : decode cX1_could 41 = .ok (.getfield 112, 3) := dk_180 0 112 (dk_at dksX1_could_1 17 rfl rfl)
theorem dX1_could_44 : decode cX1_could 44 = .ok (.iload_n 1, 1) := dk_27 (dk_at dksX1_could_1 20 rfl rfl)
theorem dX1_could_45 : decode cX1_could 45 = .ok (.iaload, 1) := dk_46 (dk_at dksX1_could_1 21 rfl rfl)
theorem dX1_could_46 : decode cX1_could 46 = .ok (.ireturn, 1) := dk_172 (dk_at dksX1_could_1 22 rfl rfl)
abbrev cX1_market : ByteArray := prog_1_method_58_code
def yX1_market : MethodName := ⟨RX1, "market", "(II)I"⟩
def dkwX1_market_10 : List UInt8 := [42, 180, 0, 97, 3, 16, 40, 184, 1, 179, 21, 4, 172]
abbrev dktX1_market_10 : List UInt8 := dkwX1_market_10 ++ []
def dkwX1_market_9 : List UInt8 := [21, 9, 182, 1, 123, 132, 4, 1, 132, 5, 1, 167, 255, 109, 42, 29, 181, 1, 107, 42, 180, 0, 100, 3]
abbrev dktX1_market_9 : List UInt8 := dkwX1_market_9 ++ dktX1_market_10
def dkwX1_market_8 : List UInt8 := [182, 1, 117, 153, 0, 28, 42, 182, 1, 120, 154, 0, 6, 167, 0, 18, 42, 21, 6, 21, 7, 21, 8]
abbrev dktX1_market_8 : List UInt8 := dkwX1_market_8 ++ dktX1_market_9
def dkwX1_market_7 : List UInt8 := [21, 6, 21, 7, 21, 8, 21, 9, 182, 1, 113, 153, 0, 43, 42, 21, 6, 21, 7, 21, 8, 21, 9]
abbrev dktX1_market_7 : List UInt8 := dkwX1_market_7 ++ dktX1_market_8
def dkwX1_market_6 : List UInt8 := [180, 0, 182, 180, 0, 203, 182, 1, 185, 54, 8, 4, 42, 17, 0, 200, 182, 1, 185, 96, 54, 9, 42]
abbrev dktX1_market_6 : List UInt8 := dkwX1_market_6 ++ dktX1_market_7
def dkwX1_market_5 : List UInt8 := [21, 6, 4, 96, 42, 180, 0, 70, 180, 0, 182, 180, 0, 186, 112, 54, 7, 42, 42, 180, 0, 70]
abbrev dktX1_market_5 : List UInt8 := dkwX1_market_5 ++ dktX1_market_6
def dkwX1_market_4 : List UInt8 := [42, 42, 180, 0, 70, 180, 0, 182, 180, 0, 186, 182, 1, 185, 54, 7, 21, 7, 21, 6, 160, 0, 20]
abbrev dktX1_market_4 : List UInt8 := dkwX1_market_4 ++ dktX1_market_5
def dkwX1_market_3 : List UInt8 := [54, 5, 21, 5, 27, 162, 0, 147, 42, 42, 180, 0, 70, 180, 0, 182, 180, 0, 186, 182, 1, 185, 54, 6]
abbrev dktX1_market_3 : List UInt8 := dkwX1_market_3 ++ dktX1_market_4
def dkwX1_market_2 : List UInt8 := [180, 0, 97, 3, 42, 180, 0, 100, 3, 16, 40, 184, 1, 179, 42, 28, 181, 1, 175, 3, 54, 4, 3]
abbrev dktX1_market_2 : List UInt8 := dkwX1_market_2 ++ dktX1_market_3
def dkwX1_market_1 : List UInt8 := [180, 0, 70, 180, 0, 182, 180, 0, 203, 154, 0, 5, 2, 172, 42, 182, 1, 8, 42, 180, 1, 107, 62, 42]
abbrev dktX1_market_1 : List UInt8 := dkwX1_market_1 ++ dktX1_market_2
def dkwX1_market_0 : List UInt8 := [27, 4, 16, 50, 184, 0, 189, 153, 0, 29, 42, 180, 0, 70, 180, 0, 182, 180, 0, 186, 153, 0, 16, 42]
abbrev dktX1_market_0 : List UInt8 := dkwX1_market_0 ++ dktX1_market_1
theorem dksX1_market_0 : cX1_market.data.toList.drop 0 = dktX1_market_0 := by decide +kernel
theorem dksX1_market_1 : cX1_market.data.toList.drop 24 = dktX1_market_1 := dk_seg dksX1_market_0 24 rfl rfl
theorem dksX1_market_2 : cX1_market.data.toList.drop 48 = dktX1_market_2 := dk_seg dksX1_market_1 24 rfl rfl
theorem dksX1_market_3 : cX1_market.data.toList.drop 71 = dktX1_market_3 := dk_seg dksX1_market_2 23 rfl rfl
theorem dksX1_market_4 : cX1_market.data.toList.drop 95 = dktX1_market_4 := dk_seg dksX1_market_3 24 rfl rfl
theorem dksX1_market_5 : cX1_market.data.toList.drop 118 = dktX1_market_5 := dk_seg dksX1_market_4 23 rfl rfl
theorem dksX1_market_6 : cX1_market.data.toList.drop 140 = dktX1_market_6 := dk_seg dksX1_market_5 22 rfl rfl
theorem dksX1_market_7 : cX1_market.data.toList.drop 163 = dktX1_market_7 := dk_seg dksX1_market_6 23 rfl rfl
theorem dksX1_market_8 : cX1_market.data.toList.drop 186 = dktX1_market_8 := dk_seg dksX1_market_7 23 rfl rfl
theorem dksX1_market_9 : cX1_market.data.toList.drop 209 = dktX1_market_9 := dk_seg dksX1_market_8 23 rfl rfl
theorem dksX1_market_10 : cX1_market.data.toList.drop 233 = dktX1_market_10 := dk_seg dksX1_market_9 24 rfl rfl
theorem dX1_market_0 : decode cX1_market 0 = .ok (.iload_n 1, 1) := dk_27 (dk_at dksX1_market_0 0 rfl rfl)
theorem dX1_market_1 : decode cX1_market 1 = .ok (.iconst 1, 1) := dk_4 (dk_at dksX1_market_0 1 rfl rfl)
theorem dX1_market_2 : decode cX1_market 2 = .ok (.bipush 50, 2) := dk_16 50 (dk_at dksX1_market_0 2 rfl rfl)
theorem dX1_market_4 : decode cX1_market 4 = .ok (.invokestatic 189, 3) := dk_184 0 189 (dk_at dksX1_market_0 4 rfl rfl)
theorem dX1_market_7 : decode cX1_market 7 = .ok (.ifCond .eq 29, 3) := dk_153 0 29 (dk_at dksX1_market_0 7 rfl rfl)
theorem dX1_market_10 : decode cX1_market 10 = .ok (.aload_n 0, 1) := dk_42 (dk_at dksX1_market_0 10 rfl rfl)
theorem dX1_market_11 : decode cX1_market 11 = .ok (.getfield 70, 3) := dk_180 0 70 (dk_at dksX1_market_0 11 rfl rfl)
theorem dX1_market_14 : decode cX1_market 14 = .ok (.getfield 182, 3) := dk_180 0 182 (dk_at dksX1_market_0 14 rfl rfl)
theorem dX1_market_17 : decode cX1_market 17 = .ok (.getfield 186, 3) := dk_180 0 186 (dk_at dksX1_market_0 17 rfl rfl)
theorem dX1_market_20 : decode cX1_market 20 = .ok (.ifCond .eq 16, 3) := dk_153 0 16 (dk_at dksX1_market_0 20 rfl rfl)
theorem dX1_market_23 : decode cX1_market 23 = .ok (.aload_n 0, 1) := dk_42 (dk_at dksX1_market_0 23 rfl rfl)
theorem dX1_market_24 : decode cX1_market 24 = .ok (.getfield 70, 3) := dk_180 0 70 (dk_at dksX1_market_1 0 rfl rfl)
theorem dX1_market_27 : decode cX1_market 27 = .ok (.getfield 182, 3) := dk_180 0 182 (dk_at dksX1_market_1 3 rfl rfl)
theorem dX1_market_30 : decode cX1_market 30 = .ok (.getfield 203, 3) := dk_180 0 203 (dk_at dksX1_market_1 6 rfl rfl)
theorem dX1_market_33 : decode cX1_market 33 = .ok (.ifCond .ne 5, 3) := dk_154 0 5 (dk_at dksX1_market_1 9 rfl rfl)
theorem dX1_market_36 : decode cX1_market 36 = .ok (.iconst (-1), 1) := dk_2 (dk_at dksX1_market_1 12 rfl rfl)
theorem dX1_market_37 : decode cX1_market 37 = .ok (.ireturn, 1) := dk_172 (dk_at dksX1_market_1 13 rfl rfl)
theorem dX1_market_38 : decode cX1_market 38 = .ok (.aload_n 0, 1) := dk_42 (dk_at dksX1_market_1 14 rfl rfl)
theorem dX1_market_39 : decode cX1_market 39 = .ok (.invokevirtual 264, 3) := dk_182 1 8 (dk_at dksX1_market_1 15 rfl rfl)
theorem dX1_market_42 : decode cX1_market 42 = .ok (.aload_n 0, 1) := dk_42 (dk_at dksX1_market_1 18 rfl rfl)
theorem dX1_market_43 : decode cX1_market 43 = .ok (.getfield 363, 3) := dk_180 1 107 (dk_at dksX1_market_1 19 rfl rfl)
theorem dX1_market_46 : decode cX1_market 46 = .ok (.istore_n 3, 1) := dk_62 (dk_at dksX1_market_1 22 rfl rfl)
theorem dX1_market_47 : decode cX1_market 47 = .ok (.aload_n 0, 1) := dk_42 (dk_at dksX1_market_1 23 rfl rfl)
theorem dX1_market_48 : decode cX1_market 48 = .ok (.getfield 97, 3) := dk_180 0 97 (dk_at dksX1_market_2 0 rfl rfl)
theorem dX1_market_51 : decode cX1_market 51 = .ok (.iconst 0, 1) := dk_3 (dk_at dksX1_market_2 3 rfl rfl)
theorem dX1_market_52 : decode cX1_market 52 = .ok (.aload_n 0, 1) := dk_42 (dk_at dksX1_market_2 4 rfl rfl)
theorem dX1_market_53 : decode cX1_market 53 = .ok (.getfield 100, 3) := dk_180 0 100 (dk_at dksX1_market_2 5 rfl rfl)
theorem dX1_market_56 : decode cX1_market 56 = .ok (.iconst 0, 1) := dk_3 (dk_at dksX1_market_2 8 rfl rfl)
theorem dX1_market_57 : decode cX1_market 57 = .ok (.bipush 40, 2) := dk_16 40 (dk_at dksX1_market_2 9 rfl rfl)
theorem dX1_market_59 : decode cX1_market 59 = .ok (.invokestatic 435, 3) := dk_184 1 179 (dk_at dksX1_market_2 11 rfl rfl)
theorem dX1_market_62 : decode cX1_market 62 = .ok (.aload_n 0, 1) := dk_42 (dk_at dksX1_market_2 14 rfl rfl)
theorem dX1_market_63 : decode cX1_market 63 = .ok (.iload_n 2, 1) := dk_28 (dk_at dksX1_market_2 15 rfl rfl)
theorem dX1_market_64 : decode cX1_market 64 = .ok (.putfield 431, 3) := dk_181 1 175 (dk_at dksX1_market_2 16 rfl rfl)
theorem dX1_market_67 : decode cX1_market 67 = .ok (.iconst 0, 1) := dk_3 (dk_at dksX1_market_2 19 rfl rfl)
theorem dX1_market_68 : decode cX1_market 68 = .ok (.istore 4, 2) := dk_54 4 (dk_at dksX1_market_2 20 rfl rfl)
theorem dX1_market_70 : decode cX1_market 70 = .ok (.iconst 0, 1) := dk_3 (dk_at dksX1_market_2 22 rfl rfl)
theorem dX1_market_71 : decode cX1_market 71 = .ok (.istore 5, 2) := dk_54 5 (dk_at dksX1_market_3 0 rfl rfl)
theorem dX1_market_73 : decode cX1_market 73 = .ok (.iload 5, 2) := dk_21 5 (dk_at dksX1_market_3 2 rfl rfl)
theorem dX1_market_75 : decode cX1_market 75 = .ok (.iload_n 1, 1) := dk_27 (dk_at dksX1_market_3 4 rfl rfl)
theorem dX1_market_76 : decode cX1_market 76 = .ok (.if_icmp .ge 147, 3) := dk_162 0 147 (dk_at dksX1_market_3 5 rfl rfl)
theorem dX1_market_79 : decode cX1_market 79 = .ok (.aload_n 0, 1) := dk_42 (dk_at dksX1_market_3 8 rfl rfl)
theorem dX1_market_80 : decode cX1_market 80 = .ok (.aload_n 0, 1) := dk_42 (dk_at dksX1_market_3 9 rfl rfl)
theorem dX1_market_81 : decode cX1_market 81 = .ok (.getfield 70, 3) := dk_180 0 70 (dk_at dksX1_market_3 10 rfl rfl)
theorem dX1_market_84 : decode cX1_market 84 = .ok (.getfield 182, 3) := dk_180 0 182 (dk_at dksX1_market_3 13 rfl rfl)
theorem dX1_market_87 : decode cX1_market 87 = .ok (.getfield 186, 3) := dk_180 0 186 (dk_at dksX1_market_3 16 rfl rfl)
theorem dX1_market_90 : decode cX1_market 90 = .ok (.invokevirtual 441, 3) := dk_182 1 185 (dk_at dksX1_market_3 19 rfl rfl)
theorem dX1_market_93 : decode cX1_market 93 = .ok (.istore 6, 2) := dk_54 6 (dk_at dksX1_market_3 22 rfl rfl)
theorem dX1_market_95 : decode cX1_market 95 = .ok (.aload_n 0, 1) := dk_42 (dk_at dksX1_market_4 0 rfl rfl)
theorem dX1_market_96 : decode cX1_market 96 = .ok (.aload_n 0, 1) := dk_42 (dk_at dksX1_market_4 1 rfl rfl)
theorem dX1_market_97 : decode cX1_market 97 = .ok (.getfield 70, 3) := dk_180 0 70 (dk_at dksX1_market_4 2 rfl rfl)
theorem dX1_market_100 : decode cX1_market 100 = .ok (.getfield 182, 3) := dk_180 0 182 (dk_at dksX1_market_4 5 rfl rfl)
theorem dX1_market_103 : decode cX1_market 103 = .ok (.getfield 186, 3) := dk_180 0 186 (dk_at dksX1_market_4 8 rfl rfl)
theorem dX1_market_106 : decode cX1_market 106 = .ok (.invokevirtual 441, 3) := dk_182 1 185 (dk_at dksX1_market_4 11 rfl rfl)
theorem dX1_market_109 : decode cX1_market 109 = .ok (.istore 7, 2) := dk_54 7 (dk_at dksX1_market_4 14 rfl rfl)
theorem dX1_market_111 : decode cX1_market 111 = .ok (.iload 7, 2) := dk_21 7 (dk_at dksX1_market_4 16 rfl rfl)
theorem dX1_market_113 : decode cX1_market 113 = .ok (.iload 6, 2) := dk_21 6 (dk_at dksX1_market_4 18 rfl rfl)
theorem dX1_market_115 : decode cX1_market 115 = .ok (.if_icmp .ne 20, 3) := dk_160 0 20 (dk_at dksX1_market_4 20 rfl rfl)
theorem dX1_market_118 : decode cX1_market 118 = .ok (.iload 6, 2) := dk_21 6 (dk_at dksX1_market_5 0 rfl rfl)
theorem dX1_market_120 : decode cX1_market 120 = .ok (.iconst 1, 1) := dk_4 (dk_at dksX1_market_5 2 rfl rfl)
theorem dX1_market_121 : decode cX1_market 121 = .ok (.iadd, 1) := dk_96 (dk_at dksX1_market_5 3 rfl rfl)
theorem dX1_market_122 : decode cX1_market 122 = .ok (.aload_n 0, 1) := dk_42 (dk_at dksX1_market_5 4 rfl rfl)
theorem dX1_market_123 : decode cX1_market 123 = .ok (.getfield 70, 3) := dk_180 0 70 (dk_at dksX1_market_5 5 rfl rfl)
theorem dX1_market_126 : decode cX1_market 126 = .ok (.getfield 182, 3) := dk_180 0 182 (dk_at dksX1_market_5 8 rfl rfl)
theorem dX1_market_129 : decode cX1_market 129 = .ok (.getfield 186, 3) := dk_180 0 186 (dk_at dksX1_market_5 11 rfl rfl)
theorem dX1_market_132 : decode cX1_market 132 = .ok (.irem, 1) := dk_112 (dk_at dksX1_market_5 14 rfl rfl)
theorem dX1_market_133 : decode cX1_market 133 = .ok (.istore 7, 2) := dk_54 7 (dk_at dksX1_market_5 15 rfl rfl)
theorem dX1_market_135 : decode cX1_market 135 = .ok (.aload_n 0, 1) := dk_42 (dk_at dksX1_market_5 17 rfl rfl)
theorem dX1_market_136 : decode cX1_market 136 = .ok (.aload_n 0, 1) := dk_42 (dk_at dksX1_market_5 18 rfl rfl)
theorem dX1_market_137 : decode cX1_market 137 = .ok (.getfield 70, 3) := dk_180 0 70 (dk_at dksX1_market_5 19 rfl rfl)
theorem dX1_market_140 : decode cX1_market 140 = .ok (.getfield 182, 3) := dk_180 0 182 (dk_at dksX1_market_6 0 rfl rfl)
theorem dX1_market_143 : decode cX1_market 143 = .ok (.getfield 203, 3) := dk_180 0 203 (dk_at dksX1_market_6 3 rfl rfl)
theorem dX1_market_146 : decode cX1_market 146 = .ok (.invokevirtual 441, 3) := dk_182 1 185 (dk_at dksX1_market_6 6 rfl rfl)
theorem dX1_market_149 : decode cX1_market 149 = .ok (.istore 8, 2) := dk_54 8 (dk_at dksX1_market_6 9 rfl rfl)
theorem dX1_market_151 : decode cX1_market 151 = .ok (.iconst 1, 1) := dk_4 (dk_at dksX1_market_6 11 rfl rfl)
theorem dX1_market_152 : decode cX1_market 152 = .ok (.aload_n 0, 1) := dk_42 (dk_at dksX1_market_6 12 rfl rfl)
theorem dX1_market_153 : decode cX1_market 153 = .ok (.sipush 200, 3) := dk_17 0 200 (dk_at dksX1_market_6 13 rfl rfl)
theorem dX1_market_156 : decode cX1_market 156 = .ok (.invokevirtual 441, 3) := dk_182 1 185 (dk_at dksX1_market_6 16 rfl rfl)
theorem dX1_market_159 : decode cX1_market 159 = .ok (.iadd, 1) := dk_96 (dk_at dksX1_market_6 19 rfl rfl)
theorem dX1_market_160 : decode cX1_market 160 = .ok (.istore 9, 2) := dk_54 9 (dk_at dksX1_market_6 20 rfl rfl)
theorem dX1_market_162 : decode cX1_market 162 = .ok (.aload_n 0, 1) := dk_42 (dk_at dksX1_market_6 22 rfl rfl)
theorem dX1_market_163 : decode cX1_market 163 = .ok (.iload 6, 2) := dk_21 6 (dk_at dksX1_market_7 0 rfl rfl)
theorem dX1_market_165 : decode cX1_market 165 = .ok (.iload 7, 2) := dk_21 7 (dk_at dksX1_market_7 2 rfl rfl)
theorem dX1_market_167 : decode cX1_market 167 = .ok (.iload 8, 2) := dk_21 8 (dk_at dksX1_market_7 4 rfl rfl)
theorem dX1_market_169 : decode cX1_market 169 = .ok (.iload 9, 2) := dk_21 9 (dk_at dksX1_market_7 6 rfl rfl)
theorem dX1_market_171 : decode cX1_market 171 = .ok (.invokevirtual 369, 3) := dk_182 1 113 (dk_at dksX1_market_7 8 rfl rfl)
theorem dX1_market_174 : decode cX1_market 174 = .ok (.ifCond .eq 43, 3) := dk_153 0 43 (dk_at dksX1_market_7 11 rfl rfl)
theorem dX1_market_177 : decode cX1_market 177 = .ok (.aload_n 0, 1) := dk_42 (dk_at dksX1_market_7 14 rfl rfl)
theorem dX1_market_178 : decode cX1_market 178 = .ok (.iload 6, 2) := dk_21 6 (dk_at dksX1_market_7 15 rfl rfl)
theorem dX1_market_180 : decode cX1_market 180 = .ok (.iload 7, 2) := dk_21 7 (dk_at dksX1_market_7 17 rfl rfl)
theorem dX1_market_182 : decode cX1_market 182 = .ok (.iload 8, 2) := dk_21 8 (dk_at dksX1_market_7 19 rfl rfl)
theorem dX1_market_184 : decode cX1_market 184 = .ok (.iload 9, 2) := dk_21 9 (dk_at dksX1_market_7 21 rfl rfl)
theorem dX1_market_186 : decode cX1_market 186 = .ok (.invokevirtual 373, 3) := dk_182 1 117 (dk_at dksX1_market_8 0 rfl rfl)
theorem dX1_market_189 : decode cX1_market 189 = .ok (.ifCond .eq 28, 3) := dk_153 0 28 (dk_at dksX1_market_8 3 rfl rfl)
theorem dX1_market_192 : decode cX1_market 192 = .ok (.aload_n 0, 1) := dk_42 (dk_at dksX1_market_8 6 rfl rfl)
theorem dX1_market_193 : decode cX1_market 193 = .ok (.invokevirtual 376, 3) := dk_182 1 120 (dk_at dksX1_market_8 7 rfl rfl)
theorem dX1_market_196 : decode cX1_market 196 = .ok (.ifCond .ne 6, 3) := dk_154 0 6 (dk_at dksX1_market_8 10 rfl rfl)
theorem dX1_market_199 : decode cX1_market 199 = .ok (.goto 18, 3) := dk_167 0 18 (dk_at dksX1_market_8 13 rfl rfl)
theorem dX1_market_202 : decode cX1_market 202 = .ok (.aload_n 0, 1) := dk_42 (dk_at dksX1_market_8 16 rfl rfl)
theorem dX1_market_203 : decode cX1_market 203 = .ok (.iload 6, 2) := dk_21 6 (dk_at dksX1_market_8 17 rfl rfl)
theorem dX1_market_205 : decode cX1_market 205 = .ok (.iload 7, 2) := dk_21 7 (dk_at dksX1_market_8 19 rfl rfl)
theorem dX1_market_207 : decode cX1_market 207 = .ok (.iload 8, 2) := dk_21 8 (dk_at dksX1_market_8 21 rfl rfl)
theorem dX1_market_209 : decode cX1_market 209 = .ok (.iload 9, 2) := dk_21 9 (dk_at dksX1_market_9 0 rfl rfl)
theorem dX1_market_211 : decode cX1_market 211 = .ok (.invokevirtual 379, 3) := dk_182 1 123 (dk_at dksX1_market_9 2 rfl rfl)
theorem dX1_market_214 : decode cX1_market 214 = .ok (.iinc 4 1, 3) := dk_132 4 1 (dk_at dksX1_market_9 5 rfl rfl)
theorem dX1_market_217 : decode cX1_market 217 = .ok (.iinc 5 1, 3) := dk_132 5 1 (dk_at dksX1_market_9 8 rfl rfl)
theorem dX1_market_220 : decode cX1_market 220 = .ok (.goto (-147), 3) := dk_167 255 109 (dk_at dksX1_market_9 11 rfl rfl)
theorem dX1_market_223 : decode cX1_market 223 = .ok (.aload_n 0, 1) := dk_42 (dk_at dksX1_market_9 14 rfl rfl)
theorem dX1_market_224 : decode cX1_market 224 = .ok (.iload_n 3, 1) := dk_29 (dk_at dksX1_market_9 15 rfl rfl)
theorem dX1_market_225 : decode cX1_market 225 = .ok (.putfield 363, 3) := dk_181 1 107 (dk_at dksX1_market_9 16 rfl rfl)
theorem dX1_market_228 : decode cX1_market 228 = .ok (.aload_n 0, 1) := dk_42 (dk_at dksX1_market_9 19 rfl rfl)
theorem dX1_market_229 : decode cX1_market 229 = .ok (.getfield 100, 3) := dk_180 0 100 (dk_at dksX1_market_9 20 rfl rfl)
theorem dX1_market_232 : decode cX1_market 232 = .ok (.iconst 0, 1) := dk_3 (dk_at dksX1_market_9 23 rfl rfl)
theorem dX1_market_233 : decode cX1_market 233 = .ok (.aload_n 0, 1) := dk_42 (dk_at dksX1_market_10 0 rfl rfl)
theorem dX1_market_234 : decode cX1_market 234 = .ok (.getfield 97, 3) := dk_180 0 97 (dk_at dksX1_market_10 1 rfl rfl)
theorem dX1_market_237 : decode cX1_market 237 = .ok (.iconst 0, 1) := dk_3 (dk_at dksX1_market_10 4 rfl rfl)
theorem dX1_market_238 : decode cX1_market 238 = .ok (.bipush 40, 2) := dk_16 40 (dk_at dksX1_market_10 5 rfl rfl)
theorem dX1_market_240 : decode cX1_market 240 = .ok (.invokestatic 435, 3) := dk_184 1 179 (dk_at dksX1_market_10 7 rfl rfl)
theorem dX1_market_243 : decode cX1_market 243 = .ok (.iload 4, 2) := dk_21 4 (dk_at dksX1_market_10 10 rfl rfl)
theorem dX1_market_245 : decode cX1_market 245 = .ok (.ireturn, 1) := dk_172 (dk_at dksX1_market_10 12 rfl rfl)
abbrev cX1_draw : ByteArray := prog_1_method_57_code
def yX1_draw : MethodName := ⟨RX1, "draw", "(I)I"⟩
def dkwX1_draw_1 : List UInt8 := [112, 172]
abbrev dktX1_draw_1 : List UInt8 := dkwX1_draw_1 ++ []
def dkwX1_draw_0 : List UInt8 := [42, 42, 180, 1, 175, 19, 1, 178, 104, 17, 48, 57, 96, 181, 1, 175, 42, 180, 1, 175, 16, 8, 124, 27]
abbrev dktX1_draw_0 : List UInt8 := dkwX1_draw_0 ++ dktX1_draw_1
theorem dksX1_draw_0 : cX1_draw.data.toList.drop 0 = dktX1_draw_0 := by decide +kernel
theorem dksX1_draw_1 : cX1_draw.data.toList.drop 24 = dktX1_draw_1 := dk_seg dksX1_draw_0 24 rfl rfl
theorem dX1_draw_0 : decode cX1_draw 0 = .ok (.aload_n 0, 1) := dk_42 (dk_at dksX1_draw_0 0 rfl rfl)
theorem dX1_draw_1 : decode cX1_draw 1 = .ok (.aload_n 0, 1) := dk_42 (dk_at dksX1_draw_0 1 rfl rfl)
theorem dX1_draw_2 : decode cX1_draw 2 = .ok (.getfield 431, 3) := dk_180 1 175 (dk_at dksX1_draw_0 2 rfl rfl)
theorem dX1_draw_5 : decode cX1_draw 5 = .ok (.ldc_w 434, 3) := dk_19 1 178 (dk_at dksX1_draw_0 5 rfl rfl)
theorem dX1_draw_8 : decode cX1_draw 8 = .ok (.imul, 1) := dk_104 (dk_at dksX1_draw_0 8 rfl rfl)
theorem dX1_draw_9 : decode cX1_draw 9 = .ok (.sipush 12345, 3) := dk_17 48 57 (dk_at dksX1_draw_0 9 rfl rfl)
theorem dX1_draw_12 : decode cX1_draw 12 = .ok (.iadd, 1) := dk_96 (dk_at dksX1_draw_0 12 rfl rfl)
theorem dX1_draw_13 : decode cX1_draw 13 = .ok (.putfield 431, 3) := dk_181 1 175 (dk_at dksX1_draw_0 13 rfl rfl)
theorem dX1_draw_16 : decode cX1_draw 16 = .ok (.aload_n 0, 1) := dk_42 (dk_at dksX1_draw_0 16 rfl rfl)
theorem dX1_draw_17 : decode cX1_draw 17 = .ok (.getfield 431, 3) := dk_180 1 175 (dk_at dksX1_draw_0 17 rfl rfl)
theorem dX1_draw_20 : decode cX1_draw 20 = .ok (.bipush 8, 2) := dk_16 8 (dk_at dksX1_draw_0 20 rfl rfl)
theorem dX1_draw_22 : decode cX1_draw 22 = .ok (.iushr, 1) := dk_124 (dk_at dksX1_draw_0 22 rfl rfl)
theorem dX1_draw_23 : decode cX1_draw 23 = .ok (.iload_n 1, 1) := dk_27 (dk_at dksX1_draw_0 23 rfl rfl)
theorem dX1_draw_24 : decode cX1_draw 24 = .ok (.irem, 1) := dk_112 (dk_at dksX1_draw_1 0 rfl rfl)
theorem dX1_draw_25 : decode cX1_draw 25 = .ok (.ireturn, 1) := dk_172 (dk_at dksX1_draw_1 1 rfl rfl)
abbrev cX1_sentence : ByteArray := prog_1_method_59_code
def yX1_sentence : MethodName := ⟨RX1, "sentence", "()I"⟩
def dkwX1_sentence_1 : List UInt8 := [180, 1, 191, 172, 76, 42, 43, 180, 0, 172, 181, 0, 151, 2, 43, 180, 0, 175, 100, 172]
abbrev dktX1_sentence_1 : List UInt8 := dkwX1_sentence_1 ++ []
def dkwX1_sentence_0 : List UInt8 := [42, 182, 0, 148, 42, 3, 181, 0, 151, 42, 42, 180, 0, 122, 182, 1, 188, 181, 0, 168, 42, 180, 0, 122]
abbrev dktX1_sentence_0 : List UInt8 := dkwX1_sentence_0 ++ dktX1_sentence_1
theorem dksX1_sentence_0 : cX1_sentence.data.toList.drop 0 = dktX1_sentence_0 := by decide +kernel
theorem dksX1_sentence_1 : cX1_sentence.data.toList.drop 24 = dktX1_sentence_1 := dk_seg dksX1_sentence_0 24 rfl rfl
theorem dX1_sentence_0 : decode cX1_sentence 0 = .ok (.aload_n 0, 1) := dk_42 (dk_at dksX1_sentence_0 0 rfl rfl)
theorem dX1_sentence_1 : decode cX1_sentence 1 = .ok (.invokevirtual 148, 3) := dk_182 0 148 (dk_at dksX1_sentence_0 1 rfl rfl)
theorem dX1_sentence_4 : decode cX1_sentence 4 = .ok (.aload_n 0, 1) := dk_42 (dk_at dksX1_sentence_0 4 rfl rfl)
theorem dX1_sentence_5 : decode cX1_sentence 5 = .ok (.iconst 0, 1) := dk_3 (dk_at dksX1_sentence_0 5 rfl rfl)
theorem dX1_sentence_6 : decode cX1_sentence 6 = .ok (.putfield 151, 3) := dk_181 0 151 (dk_at dksX1_sentence_0 6 rfl rfl)
theorem dX1_sentence_9 : decode cX1_sentence 9 = .ok (.aload_n 0, 1) := dk_42 (dk_at dksX1_sentence_0 9 rfl rfl)
theorem dX1_sentence_10 : decode cX1_sentence 10 = .ok (.aload_n 0, 1) := dk_42 (dk_at dksX1_sentence_0 10 rfl rfl)
theorem dX1_sentence_11 : decode cX1_sentence 11 = .ok (.getfield 122, 3) := dk_180 0 122 (dk_at dksX1_sentence_0 11 rfl rfl)
theorem dX1_sentence_14 : decode cX1_sentence 14 = .ok (.invokevirtual 444, 3) := dk_182 1 188 (dk_at dksX1_sentence_0 14 rfl rfl)
theorem dX1_sentence_17 : decode cX1_sentence 17 = .ok (.putfield 168, 3) := dk_181 0 168 (dk_at dksX1_sentence_0 17 rfl rfl)
theorem dX1_sentence_20 : decode cX1_sentence 20 = .ok (.aload_n 0, 1) := dk_42 (dk_at dksX1_sentence_0 20 rfl rfl)
theorem dX1_sentence_21 : decode cX1_sentence 21 = .ok (.getfield 122, 3) := dk_180 0 122 (dk_at dksX1_sentence_0 21 rfl rfl)
theorem dX1_sentence_24 : decode cX1_sentence 24 = .ok (.getfield 447, 3) := dk_180 1 191 (dk_at dksX1_sentence_1 0 rfl rfl)
theorem dX1_sentence_27 : decode cX1_sentence 27 = .ok (.ireturn, 1) := dk_172 (dk_at dksX1_sentence_1 3 rfl rfl)
theorem dX1_sentence_28 : decode cX1_sentence 28 = .ok (.astore_n 1, 1) := dk_76 (dk_at dksX1_sentence_1 4 rfl rfl)
theorem dX1_sentence_29 : decode cX1_sentence 29 = .ok (.aload_n 0, 1) := dk_42 (dk_at dksX1_sentence_1 5 rfl rfl)
theorem dX1_sentence_30 : decode cX1_sentence 30 = .ok (.aload_n 1, 1) := dk_43 (dk_at dksX1_sentence_1 6 rfl rfl)
theorem dX1_sentence_31 : decode cX1_sentence 31 = .ok (.getfield 172, 3) := dk_180 0 172 (dk_at dksX1_sentence_1 7 rfl rfl)
theorem dX1_sentence_34 : decode cX1_sentence 34 = .ok (.putfield 151, 3) := dk_181 0 151 (dk_at dksX1_sentence_1 10 rfl rfl)
theorem dX1_sentence_37 : decode cX1_sentence 37 = .ok (.iconst (-1), 1) := dk_2 (dk_at dksX1_sentence_1 13 rfl rfl)
theorem dX1_sentence_38 : decode cX1_sentence 38 = .ok (.aload_n 1, 1) := dk_43 (dk_at dksX1_sentence_1 14 rfl rfl)
theorem dX1_sentence_39 : decode cX1_sentence 39 = .ok (.getfield 175, 3) := dk_180 0 175 (dk_at dksX1_sentence_1 15 rfl rfl)
theorem dX1_sentence_42 : decode cX1_sentence 42 = .ok (.isub, 1) := dk_100 (dk_at dksX1_sentence_1 18 rfl rfl)
theorem dX1_sentence_43 : decode cX1_sentence 43 = .ok (.ireturn, 1) := dk_172 (dk_at dksX1_sentence_1 19 rfl rfl)
abbrev cX1_said : ByteArray := prog_1_method_60_code
def yX1_said : MethodName := ⟨RX1, "said", "(I)I"⟩
def dkwX1_said_3 : List UInt8 := [167, 0, 4, 2, 172]
abbrev dktX1_said_3 : List UInt8 := dkwX1_said_3 ++ []
def dkwX1_said_2 : List UInt8 := [28, 27, 160, 0, 5, 29, 172, 132, 2, 1, 132, 3, 1, 167, 255, 214, 27, 2, 160, 0, 7, 28]
abbrev dktX1_said_2 : List UInt8 := dkwX1_said_2 ++ dktX1_said_3
def dkwX1_said_1 : List UInt8 := [180, 0, 206, 162, 0, 37, 42, 180, 0, 168, 42, 180, 0, 70, 29, 182, 1, 194, 154, 0, 6, 167, 0, 13]
abbrev dktX1_said_1 : List UInt8 := dkwX1_said_1 ++ dktX1_said_2
def dkwX1_said_0 : List UInt8 := [42, 180, 0, 168, 198, 0, 8, 27, 2, 162, 0, 5, 2, 172, 3, 61, 3, 62, 29, 42, 180, 0, 70]
abbrev dktX1_said_0 : List UInt8 := dkwX1_said_0 ++ dktX1_said_1
theorem dksX1_said_0 : cX1_said.data.toList.drop 0 = dktX1_said_0 := by decide +kernel
theorem dksX1_said_1 : cX1_said.data.toList.drop 23 = dktX1_said_1 := dk_seg dksX1_said_0 23 rfl rfl
theorem dksX1_said_2 : cX1_said.data.toList.drop 47 = dktX1_said_2 := dk_seg dksX1_said_1 24 rfl rfl
theorem dksX1_said_3 : cX1_said.data.toList.drop 69 = dktX1_said_3 := dk_seg dksX1_said_2 22 rfl rfl
theorem dX1_said_0 : decode cX1_said 0 = .ok (.aload_n 0, 1) := dk_42 (dk_at dksX1_said_0 0 rfl rfl)
theorem dX1_said_1 : decode cX1_said 1 = .ok (.getfield 168, 3) := dk_180 0 168 (dk_at dksX1_said_0 1 rfl rfl)
theorem dX1_said_4 : decode cX1_said 4 = .ok (.ifnull 8, 3) := dk_198 0 8 (dk_at dksX1_said_0 4 rfl rfl)
theorem dX1_said_7 : decode cX1_said 7 = .ok (.iload_n 1, 1) := dk_27 (dk_at dksX1_said_0 7 rfl rfl)
theorem dX1_said_8 : decode cX1_said 8 = .ok (.iconst (-1), 1) := dk_2 (dk_at dksX1_said_0 8 rfl rfl)
theorem dX1_said_9 : decode cX1_said 9 = .ok (.if_icmp .ge 5, 3) := dk_162 0 5 (dk_at dksX1_said_0 9 rfl rfl)
theorem dX1_said_12 : decode cX1_said 12 = .ok (.iconst (-1), 1) := dk_2 (dk_at dksX1_said_0 12 rfl rfl)
theorem dX1_said_13 : decode cX1_said 13 = .ok (.ireturn, 1) := dk_172 (dk_at dksX1_said_0 13 rfl rfl)
theorem dX1_said_14 : decode cX1_said 14 = .ok (.iconst 0, 1) := dk_3 (dk_at dksX1_said_0 14 rfl rfl)
theorem dX1_said_15 : decode cX1_said 15 = .ok (.istore_n 2, 1) := dk_61 (dk_at dksX1_said_0 15 rfl rfl)
theorem dX1_said_16 : decode cX1_said 16 = .ok (.iconst 0, 1) := dk_3 (dk_at dksX1_said_0 16 rfl rfl)
theorem dX1_said_17 : decode cX1_said 17 = .ok (.istore_n 3, 1) := dk_62 (dk_at dksX1_said_0 17 rfl rfl)
theorem dX1_said_18 : decode cX1_said 18 = .ok (.iload_n 3, 1) := dk_29 (dk_at dksX1_said_0 18 rfl rfl)
theorem dX1_said_19 : decode cX1_said 19 = .ok (.aload_n 0, 1) := dk_42 (dk_at dksX1_said_0 19 rfl rfl)
theorem dX1_said_20 : decode cX1_said 20 = .ok (.getfield 70, 3) := dk_180 0 70 (dk_at dksX1_said_0 20 rfl rfl)
theorem dX1_said_23 : decode cX1_said 23 = .ok (.getfield 206, 3) := dk_180 0 206 (dk_at dksX1_said_1 0 rfl rfl)
theorem dX1_said_26 : decode cX1_said 26 = .ok (.if_icmp .ge 37, 3) := dk_162 0 37 (dk_at dksX1_said_1 3 rfl rfl)
theorem dX1_said_29 : decode cX1_said 29 = .ok (.aload_n 0, 1) := dk_42 (dk_at dksX1_said_1 6 rfl rfl)
theorem dX1_said_30 : decode cX1_said 30 = .ok (.getfield 168, 3) := dk_180 0 168 (dk_at dksX1_said_1 7 rfl rfl)
theorem dX1_said_33 : decode cX1_said 33 = .ok (.aload_n 0, 1) := dk_42 (dk_at dksX1_said_1 10 rfl rfl)
theorem dX1_said_34 : decode cX1_said 34 = .ok (.getfield 70, 3) := dk_180 0 70 (dk_at dksX1_said_1 11 rfl rfl)
theorem dX1_said_37 : decode cX1_said 37 = .ok (.iload_n 3, 1) := dk_29 (dk_at dksX1_said_1 14 rfl rfl)
theorem dX1_said_38 : decode cX1_said 38 = .ok (.invokevirtual 450, 3) := dk_182 1 194 (dk_at dksX1_said_1 15 rfl rfl)
theorem dX1_said_41 : decode cX1_said 41 = .ok (.ifCond .ne 6, 3) := dk_154 0 6 (dk_at dksX1_said_1 18 rfl rfl)
theorem dX1_said_44 : decode cX1_said 44 = .ok (.goto 13, 3) := dk_167 0 13 (dk_at dksX1_said_1 21 rfl rfl)
theorem dX1_said_47 : decode cX1_said 47 = .ok (.iload_n 2, 1) := dk_28 (dk_at dksX1_said_2 0 rfl rfl)
theorem dX1_said_48 : decode cX1_said 48 = .ok (.iload_n 1, 1) := dk_27 (dk_at dksX1_said_2 1 rfl rfl)
theorem dX1_said_49 : decode cX1_said 49 = .ok (.if_icmp .ne 5, 3) := dk_160 0 5 (dk_at dksX1_said_2 2 rfl rfl)
theorem dX1_said_52 : decode cX1_said 52 = .ok (.iload_n 3, 1) := dk_29 (dk_at dksX1_said_2 5 rfl rfl)
theorem dX1_said_53 : decode cX1_said 53 = .ok (.ireturn, 1) := dk_172 (dk_at dksX1_said_2 6 rfl rfl)
theorem dX1_said_54 : decode cX1_said 54 = .ok (.iinc 2 1, 3) := dk_132 2 1 (dk_at dksX1_said_2 7 rfl rfl)
theorem dX1_said_57 : decode cX1_said 57 = .ok (.iinc 3 1, 3) := dk_132 3 1 (dk_at dksX1_said_2 10 rfl rfl)
theorem dX1_said_60 : decode cX1_said 60 = .ok (.goto (-42), 3) := dk_167 255 214 (dk_at dksX1_said_2 13 rfl rfl)
theorem dX1_said_63 : decode cX1_said 63 = .ok (.iload_n 1, 1) := dk_27 (dk_at dksX1_said_2 16 rfl rfl)
theorem dX1_said_64 : decode cX1_said 64 = .ok (.iconst (-1), 1) := dk_2 (dk_at dksX1_said_2 17 rfl rfl)
theorem dX1_said_65 : decode cX1_said 65 = .ok (.if_icmp .ne 7, 3) := dk_160 0 7 (dk_at dksX1_said_2 18 rfl rfl)
theorem dX1_said_68 : decode cX1_said 68 = .ok (.iload_n 2, 1) := dk_28 (dk_at dksX1_said_2 21 rfl rfl)
theorem dX1_said_69 : decode cX1_said 69 = .ok (.goto 4, 3) := dk_167 0 4 (dk_at dksX1_said_3 0 rfl rfl)
theorem dX1_said_72 : decode cX1_said 72 = .ok (.iconst (-1), 1) := dk_2 (dk_at dksX1_said_3 3 rfl rfl)
theorem dX1_said_73 : decode cX1_said 73 = .ok (.ireturn, 1) := dk_172 (dk_at dksX1_said_3 4 rfl rfl)
abbrev cX1_image : ByteArray := prog_1_method_61_code
def yX1_image : MethodName := ⟨RX1, "image", "(I)Z"⟩
def dkwX1_image_2 : List UInt8 := [180, 0, 131, 27, 42, 180, 0, 168, 83, 4, 172]
abbrev dktX1_image_2 : List UInt8 := dkwX1_image_2 ++ []
def dkwX1_image_1 : List UInt8 := [27, 187, 0, 67, 89, 183, 0, 69, 83, 42, 180, 0, 126, 27, 50, 42, 180, 0, 70, 182, 0, 178, 42]
abbrev dktX1_image_1 : List UInt8 := dkwX1_image_1 ++ dktX1_image_2
def dkwX1_image_0 : List UInt8 := [27, 3, 4, 184, 0, 189, 154, 0, 5, 3, 172, 42, 180, 0, 126, 27, 50, 199, 0, 16, 42, 180, 0, 126]
abbrev dktX1_image_0 : List UInt8 := dkwX1_image_0 ++ dktX1_image_1
theorem dksX1_image_0 : cX1_image.data.toList.drop 0 = dktX1_image_0 := by decide +kernel
theorem dksX1_image_1 : cX1_image.data.toList.drop 24 = dktX1_image_1 := dk_seg dksX1_image_0 24 rfl rfl
theorem dksX1_image_2 : cX1_image.data.toList.drop 47 = dktX1_image_2 := dk_seg dksX1_image_1 23 rfl rfl
theorem dX1_image_0 : decode cX1_image 0 = .ok (.iload_n 1, 1) := dk_27 (dk_at dksX1_image_0 0 rfl rfl)
theorem dX1_image_1 : decode cX1_image 1 = .ok (.iconst 0, 1) := dk_3 (dk_at dksX1_image_0 1 rfl rfl)
theorem dX1_image_2 : decode cX1_image 2 = .ok (.iconst 1, 1) := dk_4 (dk_at dksX1_image_0 2 rfl rfl)
theorem dX1_image_3 : decode cX1_image 3 = .ok (.invokestatic 189, 3) := dk_184 0 189 (dk_at dksX1_image_0 3 rfl rfl)
theorem dX1_image_6 : decode cX1_image 6 = .ok (.ifCond .ne 5, 3) := dk_154 0 5 (dk_at dksX1_image_0 6 rfl rfl)
theorem dX1_image_9 : decode cX1_image 9 = .ok (.iconst 0, 1) := dk_3 (dk_at dksX1_image_0 9 rfl rfl)
theorem dX1_image_10 : decode cX1_image 10 = .ok (.ireturn, 1) := dk_172 (dk_at dksX1_image_0 10 rfl rfl)
theorem dX1_image_11 : decode cX1_image 11 = .ok (.aload_n 0, 1) := dk_42 (dk_at dksX1_image_0 11 rfl rfl)
theorem dX1_image_12 : decode cX1_image 12 = .ok (.getfield 126, 3) := dk_180 0 126 (dk_at dksX1_image_0 12 rfl rfl)
theorem dX1_image_15 : decode cX1_image 15 = .ok (.iload_n 1, 1) := dk_27 (dk_at dksX1_image_0 15 rfl rfl)
theorem dX1_image_16 : decode cX1_image 16 = .ok (.aaload, 1) := dk_50 (dk_at dksX1_image_0 16 rfl rfl)
theorem dX1_image_17 : decode cX1_image 17 = .ok (.ifnonnull 16, 3) := dk_199 0 16 (dk_at dksX1_image_0 17 rfl rfl)
theorem dX1_image_20 : decode cX1_image 20 = .ok (.aload_n 0, 1) := dk_42 (dk_at dksX1_image_0 20 rfl rfl)
theorem dX1_image_21 : decode cX1_image 21 = .ok (.getfield 126, 3) := dk_180 0 126 (dk_at dksX1_image_0 21 rfl rfl)
theorem dX1_image_24 : decode cX1_image 24 = .ok (.iload_n 1, 1) := dk_27 (dk_at dksX1_image_1 0 rfl rfl)
theorem dX1_image_25 : decode cX1_image 25 = .ok (.new 67, 3) := dk_187 0 67 (dk_at dksX1_image_1 1 rfl rfl)
theorem dX1_image_28 : decode cX1_image 28 = .ok (.dup, 1) := dk_89 (dk_at dksX1_image_1 4 rfl rfl)
theorem dX1_image_29 : decode cX1_image 29 = .ok (.invokespecial 69, 3) := dk_183 0 69 (dk_at dksX1_image_1 5 rfl rfl)
theorem dX1_image_32 : decode cX1_image 32 = .ok (.aastore, 1) := dk_83 (dk_at dksX1_image_1 8 rfl rfl)
theorem dX1_image_33 : decode cX1_image 33 = .ok (.aload_n 0, 1) := dk_42 (dk_at dksX1_image_1 9 rfl rfl)
theorem dX1_image_34 : decode cX1_image 34 = .ok (.getfield 126, 3) := dk_180 0 126 (dk_at dksX1_image_1 10 rfl rfl)
theorem dX1_image_37 : decode cX1_image 37 = .ok (.iload_n 1, 1) := dk_27 (dk_at dksX1_image_1 13 rfl rfl)
theorem dX1_image_38 : decode cX1_image 38 = .ok (.aaload, 1) := dk_50 (dk_at dksX1_image_1 14 rfl rfl)
theorem dX1_image_39 : decode cX1_image 39 = .ok (.aload_n 0, 1) := dk_42 (dk_at dksX1_image_1 15 rfl rfl)
theorem dX1_image_40 : decode cX1_image 40 = .ok (.getfield 70, 3) := dk_180 0 70 (dk_at dksX1_image_1 16 rfl rfl)
theorem dX1_image_43 : decode cX1_image 43 = .ok (.invokevirtual 178, 3) := dk_182 0 178 (dk_at dksX1_image_1 19 rfl rfl)
theorem dX1_image_46 : decode cX1_image 46 = .ok (.aload_n 0, 1) := dk_42 (dk_at dksX1_image_1 22 rfl rfl)
theorem dX1_image_47 : decode cX1_image 47 = .ok (.getfield 131, 3) := dk_180 0 131 (dk_at dksX1_image_2 0 rfl rfl)
theorem dX1_image_50 : decode cX1_image 50 = .ok (.iload_n 1, 1) := dk_27 (dk_at dksX1_image_2 3 rfl rfl)
theorem dX1_image_51 : decode cX1_image 51 = .ok (.aload_n 0, 1) := dk_42 (dk_at dksX1_image_2 4 rfl rfl)
theorem dX1_image_52 : decode cX1_image 52 = .ok (.getfield 168, 3) := dk_180 0 168 (dk_at dksX1_image_2 5 rfl rfl)
theorem dX1_image_55 : decode cX1_image 55 = .ok (.aastore, 1) := dk_83 (dk_at dksX1_image_2 8 rfl rfl)
theorem dX1_image_56 : decode cX1_image 56 = .ok (.iconst 1, 1) := dk_4 (dk_at dksX1_image_2 9 rfl rfl)
theorem dX1_image_57 : decode cX1_image 57 = .ok (.ireturn, 1) := dk_172 (dk_at dksX1_image_2 10 rfl rfl)
abbrev cX1_restore : ByteArray := prog_1_method_62_code
def yX1_restore : MethodName := ⟨RX1, "restore", "(I)Z"⟩
def dkwX1_restore_2 : List UInt8 := [4, 172]
abbrev dktX1_restore_2 : List UInt8 := dkwX1_restore_2 ++ []
def dkwX1_restore_1 : List UInt8 := [42, 180, 0, 126, 27, 50, 182, 0, 178, 42, 42, 180, 0, 131, 27, 50, 181, 0, 168, 42, 3, 181, 0, 165]
abbrev dktX1_restore_1 : List UInt8 := dkwX1_restore_1 ++ dktX1_restore_2
def dkwX1_restore_0 : List UInt8 := [27, 3, 4, 184, 0, 189, 153, 0, 12, 42, 180, 0, 126, 27, 50, 199, 0, 5, 3, 172, 42, 180, 0, 70]
abbrev dktX1_restore_0 : List UInt8 := dkwX1_restore_0 ++ dktX1_restore_1
theorem dksX1_restore_0 : cX1_restore.data.toList.drop 0 = dktX1_restore_0 := by decide +kernel
theorem dksX1_restore_1 : cX1_restore.data.toList.drop 24 = dktX1_restore_1 := dk_seg dksX1_restore_0 24 rfl rfl
theorem dksX1_restore_2 : cX1_restore.data.toList.drop 48 = dktX1_restore_2 := dk_seg dksX1_restore_1 24 rfl rfl
theorem dX1_restore_0 : decode cX1_restore 0 = .ok (.iload_n 1, 1) := dk_27 (dk_at dksX1_restore_0 0 rfl rfl)
theorem dX1_restore_1 : decode cX1_restore 1 = .ok (.iconst 0, 1) := dk_3 (dk_at dksX1_restore_0 1 rfl rfl)
theorem dX1_restore_2 : decode cX1_restore 2 = .ok (.iconst 1, 1) := dk_4 (dk_at dksX1_restore_0 2 rfl rfl)
theorem dX1_restore_3 : decode cX1_restore 3 = .ok (.invokestatic 189, 3) := dk_184 0 189 (dk_at dksX1_restore_0 3 rfl rfl)
theorem dX1_restore_6 : decode cX1_restore 6 = .ok (.ifCond .eq 12, 3) := dk_153 0 12 (dk_at dksX1_restore_0 6 rfl rfl)
theorem dX1_restore_9 : decode cX1_restore 9 = .ok (.aload_n 0, 1) := dk_42 (dk_at dksX1_restore_0 9 rfl rfl)
theorem dX1_restore_10 : decode cX1_restore 10 = .ok (.getfield 126, 3) := dk_180 0 126 (dk_at dksX1_restore_0 10 rfl rfl)
theorem dX1_restore_13 : decode cX1_restore 13 = .ok (.iload_n 1, 1) := dk_27 (dk_at dksX1_restore_0 13 rfl rfl)
theorem dX1_restore_14 : decode cX1_restore 14 = .ok (.aaload, 1) := dk_50 (dk_at dksX1_restore_0 14 rfl rfl)
theorem dX1_restore_15 : decode cX1_restore 15 = .ok (.ifnonnull 5, 3) := dk_199 0 5 (dk_at dksX1_restore_0 15 rfl rfl)
theorem dX1_restore_18 : decode cX1_restore 18 = .ok (.iconst 0, 1) := dk_3 (dk_at dksX1_restore_0 18 rfl rfl)
theorem dX1_restore_19 : decode cX1_restore 19 = .ok (.ireturn, 1) := dk_172 (dk_at dksX1_restore_0 19 rfl rfl)
theorem dX1_restore_20 : decode cX1_restore 20 = .ok (.aload_n 0, 1) := dk_42 (dk_at dksX1_restore_0 20 rfl rfl)
theorem dX1_restore_21 : decode cX1_restore 21 = .ok (.getfield 70, 3) := dk_180 0 70 (dk_at dksX1_restore_0 21 rfl rfl)
theorem dX1_restore_24 : decode cX1_restore 24 = .ok (.aload_n 0, 1) := dk_42 (dk_at dksX1_restore_1 0 rfl rfl)
theorem dX1_restore_25 : decode cX1_restore 25 = .ok (.getfield 126, 3) := dk_180 0 126 (dk_at dksX1_restore_1 1 rfl rfl)
theorem dX1_restore_28 : decode cX1_restore 28 = .ok (.iload_n 1, 1) := dk_27 (dk_at dksX1_restore_1 4 rfl rfl)
theorem dX1_restore_29 : decode cX1_restore 29 = .ok (.aaload, 1) := dk_50 (dk_at dksX1_restore_1 5 rfl rfl)
theorem dX1_restore_30 : decode cX1_restore 30 = .ok (.invokevirtual 178, 3) := dk_182 0 178 (dk_at dksX1_restore_1 6 rfl rfl)
theorem dX1_restore_33 : decode cX1_restore 33 = .ok (.aload_n 0, 1) := dk_42 (dk_at dksX1_restore_1 9 rfl rfl)
theorem dX1_restore_34 : decode cX1_restore 34 = .ok (.aload_n 0, 1) := dk_42 (dk_at dksX1_restore_1 10 rfl rfl)
theorem dX1_restore_35 : decode cX1_restore 35 = .ok (.getfield 131, 3) := dk_180 0 131 (dk_at dksX1_restore_1 11 rfl rfl)
theorem dX1_restore_38 : decode cX1_restore 38 = .ok (.iload_n 1, 1) := dk_27 (dk_at dksX1_restore_1 14 rfl rfl)
theorem dX1_restore_39 : decode cX1_restore 39 = .ok (.aaload, 1) := dk_50 (dk_at dksX1_restore_1 15 rfl rfl)
theorem dX1_restore_40 : decode cX1_restore 40 = .ok (.putfield 168, 3) := dk_181 0 168 (dk_at dksX1_restore_1 16 rfl rfl)
theorem dX1_restore_43 : decode cX1_restore 43 = .ok (.aload_n 0, 1) := dk_42 (dk_at dksX1_restore_1 19 rfl rfl)
theorem dX1_restore_44 : decode cX1_restore 44 = .ok (.iconst 0, 1) := dk_3 (dk_at dksX1_restore_1 20 rfl rfl)
theorem dX1_restore_45 : decode cX1_restore 45 = .ok (.putfield 165, 3) := dk_181 0 165 (dk_at dksX1_restore_1 21 rfl rfl)
theorem dX1_restore_48 : decode cX1_restore 48 = .ok (.iconst 1, 1) := dk_4 (dk_at dksX1_restore_2 0 rfl rfl)
theorem dX1_restore_49 : decode cX1_restore 49 = .ok (.ireturn, 1) := dk_172 (dk_at dksX1_restore_2 1 rfl rfl)
abbrev cX1_count : ByteArray := prog_1_method_63_code
def yX1_count : MethodName := ⟨RX1, "count", "(I)I"⟩
def dkwX1_count_7 : List UInt8 := [172, 2, 172]
abbrev dktX1_count_7 : List UInt8 := dkwX1_count_7 ++ []
def dkwX1_count_6 : List UInt8 := [180, 1, 64, 172, 42, 180, 0, 70, 180, 1, 126, 172, 42, 180, 0, 70, 180, 1, 129, 172, 42, 180, 0, 135]
abbrev dktX1_count_6 : List UInt8 := dkwX1_count_6 ++ dktX1_count_7
def dkwX1_count_5 : List UInt8 := [180, 0, 70, 180, 0, 182, 180, 1, 173, 172, 42, 180, 0, 70, 180, 0, 206, 172, 42, 180, 0, 70]
abbrev dktX1_count_5 : List UInt8 := dkwX1_count_5 ++ dktX1_count_6
def dkwX1_count_4 : List UInt8 := [180, 0, 70, 180, 0, 182, 180, 1, 203, 172, 42, 180, 0, 70, 180, 0, 182, 180, 1, 160, 172, 42]
abbrev dktX1_count_4 : List UInt8 := dkwX1_count_4 ++ dktX1_count_5
def dkwX1_count_3 : List UInt8 := [180, 0, 70, 180, 0, 182, 180, 1, 198, 172, 42, 180, 0, 70, 180, 0, 182, 180, 1, 201, 172, 42]
abbrev dktX1_count_3 : List UInt8 := dkwX1_count_3 ++ dktX1_count_4
def dkwX1_count_2 : List UInt8 := [42, 180, 0, 70, 180, 0, 182, 180, 0, 186, 172, 42, 180, 0, 70, 180, 0, 182, 180, 0, 203, 172, 42]
abbrev dktX1_count_2 : List UInt8 := dkwX1_count_2 ++ dktX1_count_3
def dkwX1_count_1 : List UInt8 := [170, 0, 0, 0, 0, 0, 177, 0, 0, 0, 0, 0, 0, 0, 11, 0, 0, 0, 63, 0, 0, 0, 74, 0, 0, 0, 85, 0, 0, 0, 96, 0, 0, 0, 107, 0, 0, 0, 118, 0, 0, 0, 129, 0, 0, 0, 140, 0, 0, 0, 148, 0, 0, 0, 156, 0, 0, 0, 164, 0, 0, 0, 172]
abbrev dktX1_count_1 : List UInt8 := dkwX1_count_1 ++ dktX1_count_2
def dkwX1_count_0 : List UInt8 := [27]
abbrev dktX1_count_0 : List UInt8 := dkwX1_count_0 ++ dktX1_count_1
theorem dksX1_count_0 : cX1_count.data.toList.drop 0 = dktX1_count_0 := by decide +kernel
theorem dksX1_count_1 : cX1_count.data.toList.drop 1 = dktX1_count_1 := dk_seg dksX1_count_0 1 rfl rfl
theorem dksX1_count_2 : cX1_count.data.toList.drop 64 = dktX1_count_2 := dk_seg dksX1_count_1 63 rfl rfl
theorem dksX1_count_3 : cX1_count.data.toList.drop 87 = dktX1_count_3 := dk_seg dksX1_count_2 23 rfl rfl
theorem dksX1_count_4 : cX1_count.data.toList.drop 109 = dktX1_count_4 := dk_seg dksX1_count_3 22 rfl rfl
theorem dksX1_count_5 : cX1_count.data.toList.drop 131 = dktX1_count_5 := dk_seg dksX1_count_4 22 rfl rfl
theorem dksX1_count_6 : cX1_count.data.toList.drop 153 = dktX1_count_6 := dk_seg dksX1_count_5 22 rfl rfl
theorem dksX1_count_7 : cX1_count.data.toList.drop 177 = dktX1_count_7 := dk_seg dksX1_count_6 24 rfl rfl
theorem dX1_count_0 : decode cX1_count 0 = .ok (.iload_n 1, 1) := dk_27 (dk_at dksX1_count_0 0 rfl rfl)
theorem dX1_count_1 : decode cX1_count 1 = .ok (.tableswitch 177 0 11 #[63, 74, 85, 96, 107, 118, 129, 140, 148, 156, 164, 172], 63) := by decide +kernel
theorem dX1_count_64 : decode cX1_count 64 = .ok (.aload_n 0, 1) := dk_42 (dk_at dksX1_count_2 0 rfl rfl)
theorem dX1_count_65 : decode cX1_count 65 = .ok (.getfield 70, 3) := dk_180 0 70 (dk_at dksX1_count_2 1 rfl rfl)
theorem dX1_count_68 : decode cX1_count 68 = .ok (.getfield 182, 3) := dk_180 0 182 (dk_at dksX1_count_2 4 rfl rfl)
theorem dX1_count_71 : decode cX1_count 71 = .ok (.getfield 186, 3) := dk_180 0 186 (dk_at dksX1_count_2 7 rfl rfl)
theorem dX1_count_74 : decode cX1_count 74 = .ok (.ireturn, 1) := dk_172 (dk_at dksX1_count_2 10 rfl rfl)
theorem dX1_count_75 : decode cX1_count 75 = .ok (.aload_n 0, 1) := dk_42 (dk_at dksX1_count_2 11 rfl rfl)
theorem dX1_count_76 : decode cX1_count 76 = .ok (.getfield 70, 3) := dk_180 0 70 (dk_at dksX1_count_2 12 rfl rfl)
theorem dX1_count_79 : decode cX1_count 79 = .ok (.getfield 182, 3) := dk_180 0 182 (dk_at dksX1_count_2 15 rfl rfl)
theorem dX1_count_82 : decode cX1_count 82 = .ok (.getfield 203, 3) := dk_180 0 203 (dk_at dksX1_count_2 18 rfl rfl)
theorem dX1_count_85 : decode cX1_count 85 = .ok (.ireturn, 1) := dk_172 (dk_at dksX1_count_2 21 rfl rfl)
theorem dX1_count_86 : decode cX1_count 86 = .ok (.aload_n 0, 1) := dk_42 (dk_at dksX1_count_2 22 rfl rfl)
theorem dX1_count_87 : decode cX1_count 87 = .ok (.getfield 70, 3) := dk_180 0 70 (dk_at dksX1_count_3 0 rfl rfl)
theorem dX1_count_90 : decode cX1_count 90 = .ok (.getfield 182, 3) := dk_180 0 182 (dk_at dksX1_count_3 3 rfl rfl)
theorem dX1_count_93 : decode cX1_count 93 = .ok (.getfield 454, 3) := dk_180 1 198 (dk_at dksX1_count_3 6 rfl rfl)
theorem dX1_count_96 : decode cX1_count 96 = .ok (.ireturn, 1) := dk_172 (dk_at dksX1_count_3 9 rfl rfl)
theorem dX1_count_97 : decode cX1_count 97 = .ok (.aload_n 0, 1) := dk_42 (dk_at dksX1_count_3 10 rfl rfl)
theorem dX1_count_98 : decode cX1_count 98 = .ok (.getfield 70, 3) := dk_180 0 70 (dk_at dksX1_count_3 11 rfl rfl)
theorem dX1_count_101 : decode cX1_count 101 = .ok (.getfield 182, 3) := dk_180 0 182 (dk_at dksX1_count_3 14 rfl rfl)
theorem dX1_count_104 : decode cX1_count 104 = .ok (.getfield 457, 3) := dk_180 1 201 (dk_at dksX1_count_3 17 rfl rfl)
theorem dX1_count_107 : decode cX1_count 107 = .ok (.ireturn, 1) := dk_172 (dk_at dksX1_count_3 20 rfl rfl)
theorem dX1_count_108 : decode cX1_count 108 = .ok (.aload_n 0, 1) := dk_42 (dk_at dksX1_count_3 21 rfl rfl)
theorem dX1_count_109 : decode cX1_count 109 = .ok (.getfield 70, 3) := dk_180 0 70 (dk_at dksX1_count_4 0 rfl rfl)
theorem dX1_count_112 : decode cX1_count 112 = .ok (.getfield 182, 3) := dk_180 0 182 (dk_at dksX1_count_4 3 rfl rfl)
theorem dX1_count_115 : decode cX1_count 115 = .ok (.getfield 459, 3) := dk_180 1 203 (dk_at dksX1_count_4 6 rfl rfl)
theorem dX1_count_118 : decode cX1_count 118 = .ok (.ireturn, 1) := dk_172 (dk_at dksX1_count_4 9 rfl rfl)
theorem dX1_count_119 : decode cX1_count 119 = .ok (.aload_n 0, 1) := dk_42 (dk_at dksX1_count_4 10 rfl rfl)
theorem dX1_count_120 : decode cX1_count 120 = .ok (.getfield 70, 3) := dk_180 0 70 (dk_at dksX1_count_4 11 rfl rfl)
theorem dX1_count_123 : decode cX1_count 123 = .ok (.getfield 182, 3) := dk_180 0 182 (dk_at dksX1_count_4 14 rfl rfl)
theorem dX1_count_126 : decode cX1_count 126 = .ok (.getfield 416, 3) := dk_180 1 160 (dk_at dksX1_count_4 17 rfl rfl)
theorem dX1_count_129 : decode cX1_count 129 = .ok (.ireturn, 1) := dk_172 (dk_at dksX1_count_4 20 rfl rfl)
theorem dX1_count_130 : decode cX1_count 130 = .ok (.aload_n 0, 1) := dk_42 (dk_at dksX1_count_4 21 rfl rfl)
theorem dX1_count_131 : decode cX1_count 131 = .ok (.getfield 70, 3) := dk_180 0 70 (dk_at dksX1_count_5 0 rfl rfl)
theorem dX1_count_134 : decode cX1_count 134 = .ok (.getfield 182, 3) := dk_180 0 182 (dk_at dksX1_count_5 3 rfl rfl)
theorem dX1_count_137 : decode cX1_count 137 = .ok (.getfield 429, 3) := dk_180 1 173 (dk_at dksX1_count_5 6 rfl rfl)
theorem dX1_count_140 : decode cX1_count 140 = .ok (.ireturn, 1) := dk_172 (dk_at dksX1_count_5 9 rfl rfl)
theorem dX1_count_141 : decode cX1_count 141 = .ok (.aload_n 0, 1) := dk_42 (dk_at dksX1_count_5 10 rfl rfl)
theorem dX1_count_142 : decode cX1_count 142 = .ok (.getfield 70, 3) := dk_180 0 70 (dk_at dksX1_count_5 11 rfl rfl)
theorem dX1_count_145 : decode cX1_count 145 = .ok (.getfield 206, 3) := dk_180 0 206 (dk_at dksX1_count_5 14 rfl rfl)
theorem dX1_count_148 : decode cX1_count 148 = .ok (.ireturn, 1) := dk_172 (dk_at dksX1_count_5 17 rfl rfl)
theorem dX1_count_149 : decode cX1_count 149 = .ok (.aload_n 0, 1) := dk_42 (dk_at dksX1_count_5 18 rfl rfl)
theorem dX1_count_150 : decode cX1_count 150 = .ok (.getfield 70, 3) := dk_180 0 70 (dk_at dksX1_count_5 19 rfl rfl)
theorem dX1_count_153 : decode cX1_count 153 = .ok (.getfield 320, 3) := dk_180 1 64 (dk_at dksX1_count_6 0 rfl rfl)
theorem dX1_count_156 : decode cX1_count 156 = .ok (.ireturn, 1) := dk_172 (dk_at dksX1_count_6 3 rfl rfl)
theorem dX1_count_157 : decode cX1_count 157 = .ok (.aload_n 0, 1) := dk_42 (dk_at dksX1_count_6 4 rfl rfl)
theorem dX1_count_158 : decode cX1_count 158 = .ok (.getfield 70, 3) := dk_180 0 70 (dk_at dksX1_count_6 5 rfl rfl)
theorem dX1_count_161 : decode cX1_count 161 = .ok (.getfield 382, 3) := dk_180 1 126 (dk_at dksX1_count_6 8 rfl rfl)
theorem dX1_count_164 : decode cX1_count 164 = .ok (.ireturn, 1) := dk_172 (dk_at dksX1_count_6 11 rfl rfl)
theorem dX1_count_165 : decode cX1_count 165 = .ok (.aload_n 0, 1) := dk_42 (dk_at dksX1_count_6 12 rfl rfl)
theorem dX1_count_166 : decode cX1_count 166 = .ok (.getfield 70, 3) := dk_180 0 70 (dk_at dksX1_count_6 13 rfl rfl)
theorem dX1_count_169 : decode cX1_count 169 = .ok (.getfield 385, 3) := dk_180 1 129 (dk_at dksX1_count_6 16 rfl rfl)
theorem dX1_count_172 : decode cX1_count 172 = .ok (.ireturn, 1) := dk_172 (dk_at dksX1_count_6 19 rfl rfl)
theorem dX1_count_173 : decode cX1_count 173 = .ok (.aload_n 0, 1) := dk_42 (dk_at dksX1_count_6 20 rfl rfl)
theorem dX1_count_174 : decode cX1_count 174 = .ok (.getfield 135, 3) := dk_180 0 135 (dk_at dksX1_count_6 21 rfl rfl)
theorem dX1_count_177 : decode cX1_count 177 = .ok (.ireturn, 1) := dk_172 (dk_at dksX1_count_7 0 rfl rfl)
theorem dX1_count_178 : decode cX1_count 178 = .ok (.iconst (-1), 1) := dk_2 (dk_at dksX1_count_7 1 rfl rfl)
theorem dX1_count_179 : decode cX1_count 179 = .ok (.ireturn, 1) := dk_172 (dk_at dksX1_count_7 2 rfl rfl)
abbrev cX1_who : ByteArray := prog_1_method_18_code
def yX1_who : MethodName := ⟨RX1, "who", "(II)I"⟩
def dkwX1_who_8 : List UInt8 := [132, 4, 1, 167, 255, 175, 29, 172]
abbrev dktX1_who_8 : List UInt8 := dkwX1_who_8 ++ []
def dkwX1_who_7 : List UInt8 := [167, 0, 22, 28, 6, 160, 0, 7, 4, 167, 0, 13, 42, 180, 0, 70, 180, 0, 231, 21, 4, 46, 96, 62]
abbrev dktX1_who_7 : List UInt8 := dkwX1_who_7 ++ dktX1_who_8
def dkwX1_who_6 : List UInt8 := [167, 0, 44, 3, 167, 0, 40, 42, 180, 0, 70, 180, 0, 228, 21, 4, 46, 27, 159, 0, 7, 3]
abbrev dktX1_who_6 : List UInt8 := dkwX1_who_6 ++ dktX1_who_7
def dkwX1_who_5 : List UInt8 := [162, 0, 75, 29, 28, 8, 160, 0, 24, 42, 180, 0, 70, 21, 4, 182, 0, 224, 27, 160, 0, 7, 4]
abbrev dktX1_who_5 : List UInt8 := dkwX1_who_5 ++ dktX1_who_6
def dkwX1_who_4 : List UInt8 := [153, 0, 7, 4, 167, 0, 4, 3, 172, 3, 62, 3, 54, 4, 21, 4, 42, 180, 0, 70, 180, 0, 206]
abbrev dktX1_who_4 : List UInt8 := dkwX1_who_4 ++ dktX1_who_5
def dkwX1_who_3 : List UInt8 := [27, 50, 180, 0, 222, 153, 0, 24, 167, 0, 17, 42, 180, 0, 70, 180, 0, 197, 27, 184, 0, 199]
abbrev dktX1_who_3 : List UInt8 := dkwX1_who_3 ++ dktX1_who_4
def dkwX1_who_2 : List UInt8 := [180, 0, 217, 153, 0, 50, 167, 0, 43, 28, 4, 160, 0, 24, 42, 180, 0, 70, 180, 0, 182, 180, 0, 213]
abbrev dktX1_who_2 : List UInt8 := dkwX1_who_2 ++ dktX1_who_3
def dkwX1_who_1 : List UInt8 := [184, 0, 209, 28, 6, 162, 0, 74, 28, 154, 0, 24, 42, 180, 0, 70, 180, 0, 182, 180, 0, 213, 27, 50]
abbrev dktX1_who_1 : List UInt8 := dkwX1_who_1 ++ dktX1_who_2
def dkwX1_who_0 : List UInt8 := [42, 27, 182, 0, 193, 153, 0, 16, 28, 3, 8, 184, 0, 189, 153, 0, 7, 4, 167, 0, 4, 3]
abbrev dktX1_who_0 : List UInt8 := dkwX1_who_0 ++ dktX1_who_1
theorem dksX1_who_0 : cX1_who.data.toList.drop 0 = dktX1_who_0 := by decide +kernel
theorem dksX1_who_1 : cX1_who.data.toList.drop 22 = dktX1_who_1 := dk_seg dksX1_who_0 22 rfl rfl
theorem dksX1_who_2 : cX1_who.data.toList.drop 46 = dktX1_who_2 := dk_seg dksX1_who_1 24 rfl rfl
theorem dksX1_who_3 : cX1_who.data.toList.drop 70 = dktX1_who_3 := dk_seg dksX1_who_2 24 rfl rfl
theorem dksX1_who_4 : cX1_who.data.toList.drop 92 = dktX1_who_4 := dk_seg dksX1_who_3 22 rfl rfl
theorem dksX1_who_5 : cX1_who.data.toList.drop 115 = dktX1_who_5 := dk_seg dksX1_who_4 23 rfl rfl
theorem dksX1_who_6 : cX1_who.data.toList.drop 138 = dktX1_who_6 := dk_seg dksX1_who_5 23 rfl rfl
theorem dksX1_who_7 : cX1_who.data.toList.drop 160 = dktX1_who_7 := dk_seg dksX1_who_6 22 rfl rfl
theorem dksX1_who_8 : cX1_who.data.toList.drop 184 = dktX1_who_8 := dk_seg dksX1_who_7 24 rfl rfl
theorem dX1_who_0 : decode cX1_who 0 = .ok (.aload_n 0, 1) := dk_42 (dk_at dksX1_who_0 0 rfl rfl)
theorem dX1_who_1 : decode cX1_who 1 = .ok (.iload_n 1, 1) := dk_27 (dk_at dksX1_who_0 1 rfl rfl)
theorem dX1_who_2 : decode cX1_who 2 = .ok (.invokevirtual 193, 3) := dk_182 0 193 (dk_at dksX1_who_0 2 rfl rfl)
theorem dX1_who_5 : decode cX1_who 5 = .ok (.ifCond .eq 16, 3) := dk_153 0 16 (dk_at dksX1_who_0 5 rfl rfl)
theorem dX1_who_8 : decode cX1_who 8 = .ok (.iload_n 2, 1) := dk_28 (dk_at dksX1_who_0 8 rfl rfl)
theorem dX1_who_9 : decode cX1_who 9 = .ok (.iconst 0, 1) := dk_3 (dk_at dksX1_who_0 9 rfl rfl)
theorem dX1_who_10 : decode cX1_who 10 = .ok (.iconst 5, 1) := dk_8 (dk_at dksX1_who_0 10 rfl rfl)
theorem dX1_who_11 : decode cX1_who 11 = .ok (.invokestatic 189, 3) := dk_184 0 189 (dk_at dksX1_who_0 11 rfl rfl)
theorem dX1_who_14 : decode cX1_who 14 = .ok (.ifCond .eq 7, 3) := dk_153 0 7 (dk_at dksX1_who_0 14 rfl rfl)
theorem dX1_who_17 : decode cX1_who 17 = .ok (.iconst 1, 1) := dk_4 (dk_at dksX1_who_0 17 rfl rfl)
theorem dX1_who_18 : decode cX1_who 18 = .ok (.goto 4, 3) := dk_167 0 4 (dk_at dksX1_who_0 18 rfl rfl)
theorem dX1_who_21 : decode cX1_who 21 = .ok (.iconst 0, 1) := dk_3 (dk_at dksX1_who_0 21 rfl rfl)
theorem dX1_who_22 : decode cX1_who 22 = .ok (.invokestatic 209, 3) := dk_184 0 209 (dk_at dksX1_who_1 0 rfl rfl)
theorem dX1_who_25 : decode cX1_who 25 = .ok (.iload_n 2, 1) := dk_28 (dk_at dksX1_who_1 3 rfl rfl)
theorem dX1_who_26 : decode cX1_who 26 = .ok (.iconst 3, 1) := dk_6 (dk_at dksX1_who_1 4 rfl rfl)
theorem dX1_who_27 : decode cX1_who 27 = .ok (.if_icmp .ge 74, 3) := dk_162 0 74 (dk_at dksX1_who_1 5 rfl rfl)
theorem dX1_who_30 : decode cX1_who 30 = .ok (.iload_n 2, 1) := dk_28 (dk_at dksX1_who_1 8 rfl rfl)
theorem dX1_who_31 : decode cX1_who 31 = .ok (.ifCond .ne 24, 3) := dk_154 0 24 (dk_at dksX1_who_1 9 rfl rfl)
theorem dX1_who_34 : decode cX1_who 34 = .ok (.aload_n 0, 1) := dk_42 (dk_at dksX1_who_1 12 rfl rfl)
theorem dX1_who_35 : decode cX1_who 35 = .ok (.getfield 70, 3) := dk_180 0 70 (dk_at dksX1_who_1 13 rfl rfl)
theorem dX1_who_38 : decode cX1_who 38 = .ok (.getfield 182, 3) := dk_180 0 182 (dk_at dksX1_who_1 16 rfl rfl)
theorem dX1_who_41 : decode cX1_who 41 = .ok (.getfield 213, 3) := dk_180 0 213 (dk_at dksX1_who_1 19 rfl rfl)
theorem dX1_who_44 : decode cX1_who 44 = .ok (.iload_n 1, 1) := dk_27 (dk_at dksX1_who_1 22 rfl rfl)
theorem dX1_who_45 : decode cX1_who 45 = .ok (.aaload, 1) := dk_50 (dk_at dksX1_who_1 23 rfl rfl)
theorem dX1_who_46 : decode cX1_who 46 = .ok (.getfield 217, 3) := dk_180 0 217 (dk_at dksX1_who_2 0 rfl rfl)
theorem dX1_who_49 : decode cX1_who 49 = .ok (.ifCond .eq 50, 3) := dk_153 0 50 (dk_at dksX1_who_2 3 rfl rfl)
theorem dX1_who_52 : decode cX1_who 52 = .ok (.goto 43, 3) := dk_167 0 43 (dk_at dksX1_who_2 6 rfl rfl)
theorem dX1_who_55 : decode cX1_who 55 = .ok (.iload_n 2, 1) := dk_28 (dk_at dksX1_who_2 9 rfl rfl)
theorem dX1_who_56 : decode cX1_who 56 = .ok (.iconst 1, 1) := dk_4 (dk_at dksX1_who_2 10 rfl rfl)
theorem dX1_who_57 : decode cX1_who 57 = .ok (.if_icmp .ne 24, 3) := dk_160 0 24 (dk_at dksX1_who_2 11 rfl rfl)
theorem dX1_who_60 : decode cX1_who 60 = .ok (.aload_n 0, 1) := dk_42 (dk_at dksX1_who_2 14 rfl rfl)
theorem dX1_who_61 : decode cX1_who 61 = .ok (.getfield 70, 3) := dk_180 0 70 (dk_at dksX1_who_2 15 rfl rfl)
theorem dX1_who_64 : decode cX1_who 64 = .ok (.getfield 182, 3) := dk_180 0 182 (dk_at dksX1_who_2 18 rfl rfl)
theorem dX1_who_67 : decode cX1_who 67 = .ok (.getfield 213, 3) := dk_180 0 213 (dk_at dksX1_who_2 21 rfl rfl)
theorem dX1_who_70 : decode cX1_who 70 = .ok (.iload_n 1, 1) := dk_27 (dk_at dksX1_who_3 0 rfl rfl)
theorem dX1_who_71 : decode cX1_who 71 = .ok (.aaload, 1) := dk_50 (dk_at dksX1_who_3 1 rfl rfl)
theorem dX1_who_72 : decode cX1_who 72 = .ok (.getfield 222, 3) := dk_180 0 222 (dk_at dksX1_who_3 2 rfl rfl)
theorem dX1_who_75 : decode cX1_who 75 = .ok (.ifCond .eq 24, 3) := dk_153 0 24 (dk_at dksX1_who_3 5 rfl rfl)
theorem dX1_who_78 : decode cX1_who 78 = .ok (.goto 17, 3) := dk_167 0 17 (dk_at dksX1_who_3 8 rfl rfl)
theorem dX1_who_81 : decode cX1_who 81 = .ok (.aload_n 0, 1) := dk_42 (dk_at dksX1_who_3 11 rfl rfl)
theorem dX1_who_82 : decode cX1_who 82 = .ok (.getfield 70, 3) := dk_180 0 70 (dk_at dksX1_who_3 12 rfl rfl)
theorem dX1_who_85 : decode cX1_who 85 = .ok (.getfield 197, 3) := dk_180 0 197 (dk_at dksX1_who_3 15 rfl rfl)
theorem dX1_who_88 : decode cX1_who 88 = .ok (.iload_n 1, 1) := dk_27 (dk_at dksX1_who_3 18 rfl rfl)
theorem dX1_who_89 : decode cX1_who 89 = .ok (.invokestatic 199, 3) := dk_184 0 199 (dk_at dksX1_who_3 19 rfl rfl)
theorem dX1_who_92 : decode cX1_who 92 = .ok (.ifCond .eq 7, 3) := dk_153 0 7 (dk_at dksX1_who_4 0 rfl rfl)
theorem dX1_who_95 : decode cX1_who 95 = .ok (.iconst 1, 1) := dk_4 (dk_at dksX1_who_4 3 rfl rfl)
theorem dX1_who_96 : decode cX1_who 96 = .ok (.goto 4, 3) := dk_167 0 4 (dk_at dksX1_who_4 4 rfl rfl)
theorem dX1_who_99 : decode cX1_who 99 = .ok (.iconst 0, 1) := dk_3 (dk_at dksX1_who_4 7 rfl rfl)
theorem dX1_who_100 : decode cX1_who 100 = .ok (.ireturn, 1) := dk_172 (dk_at dksX1_who_4 8 rfl rfl)
theorem dX1_who_101 : decode cX1_who 101 = .ok (.iconst 0, 1) := dk_3 (dk_at dksX1_who_4 9 rfl rfl)
theorem dX1_who_102 : decode cX1_who 102 = .ok (.istore_n 3, 1) := dk_62 (dk_at dksX1_who_4 10 rfl rfl)
theorem dX1_who_103 : decode cX1_who 103 = .ok (.iconst 0, 1) := dk_3 (dk_at dksX1_who_4 11 rfl rfl)
theorem dX1_who_104 : decode cX1_who 104 = .ok (.istore 4, 2) := dk_54 4 (dk_at dksX1_who_4 12 rfl rfl)
theorem dX1_who_106 : decode cX1_who 106 = .ok (.iload 4, 2) := dk_21 4 (dk_at dksX1_who_4 14 rfl rfl)
theorem dX1_who_108 : decode cX1_who 108 = .ok (.aload_n 0, 1) := dk_42 (dk_at dksX1_who_4 16 rfl rfl)
theorem dX1_who_109 : decode cX1_who 109 = .ok (.getfield 70, 3) := dk_180 0 70 (dk_at dksX1_who_4 17 rfl rfl)
theorem dX1_who_112 : decode cX1_who 112 = .ok (.getfield 206, 3) := dk_180 0 206 (dk_at dksX1_who_4 20 rfl rfl)
theorem dX1_who_115 : decode cX1_who 115 = .ok (.if_icmp .ge 75, 3) := dk_162 0 75 (dk_at dksX1_who_5 0 rfl rfl)
theorem dX1_who_118 : decode cX1_who 118 = .ok (.iload_n 3, 1) := dk_29 (dk_at dksX1_who_5 3 rfl rfl)
theorem dX1_who_119 : decode cX1_who 119 = .ok (.iload_n 2, 1) := dk_28 (dk_at dksX1_who_5 4 rfl rfl)
theorem dX1_who_120 : decode cX1_who 120 = .ok (.iconst 5, 1) := dk_8 (dk_at dksX1_who_5 5 rfl rfl)
theorem dX1_who_121 : decode cX1_who 121 = .ok (.if_icmp .ne 24, 3) := dk_160 0 24 (dk_at dksX1_who_5 6 rfl rfl)
theorem dX1_who_124 : decode cX1_who 124 = .ok (.aload_n 0, 1) := dk_42 (dk_at dksX1_who_5 9 rfl rfl)
theorem dX1_who_125 : decode cX1_who 125 = .ok (.getfield 70, 3) := dk_180 0 70 (dk_at dksX1_who_5 10 rfl rfl)
theorem dX1_who_128 : decode cX1_who 128 = .ok (.iload 4, 2) := dk_21 4 (dk_at dksX1_who_5 13 rfl rfl)
theorem dX1_who_130 : decode cX1_who 130 = .ok (.invokevirtual 224, 3) := dk_182 0 224 (dk_at dksX1_who_5 15 rfl rfl)
theorem dX1_who_133 : decode cX1_who 133 = .ok (.iload_n 1, 1) := dk_27 (dk_at dksX1_who_5 18 rfl rfl)
theorem dX1_who_134 : decode cX1_who 134 = .ok (.if_icmp .ne 7, 3) := dk_160 0 7 (dk_at dksX1_who_5 19 rfl rfl)
theorem dX1_who_137 : decode cX1_who 137 = .ok (.iconst 1, 1) := dk_4 (dk_at dksX1_who_5 22 rfl rfl)
theorem dX1_who_138 : decode cX1_who 138 = .ok (.goto 44, 3) := dk_167 0 44 (dk_at dksX1_who_6 0 rfl rfl)
theorem dX1_who_141 : decode cX1_who 141 = .ok (.iconst 0, 1) := dk_3 (dk_at dksX1_who_6 3 rfl rfl)
theorem dX1_who_142 : decode cX1_who 142 = .ok (.goto 40, 3) := dk_167 0 40 (dk_at dksX1_who_6 4 rfl rfl)
theorem dX1_who_145 : decode cX1_who 145 = .ok (.aload_n 0, 1) := dk_42 (dk_at dksX1_who_6 7 rfl rfl)
theorem dX1_who_146 : decode cX1_who 146 = .ok (.getfield 70, 3) := dk_180 0 70 (dk_at dksX1_who_6 8 rfl rfl)
theorem dX1_who_149 : decode cX1_who 149 = .ok (.getfield 228, 3) := dk_180 0 228 (dk_at dksX1_who_6 11 rfl rfl)
theorem dX1_who_152 : decode cX1_who 152 = .ok (.iload 4, 2) := dk_21 4 (dk_at dksX1_who_6 14 rfl rfl)
theorem dX1_who_154 : decode cX1_who 154 = .ok (.iaload, 1) := dk_46 (dk_at dksX1_who_6 16 rfl rfl)
theorem dX1_who_155 : decode cX1_who 155 = .ok (.iload_n 1, 1) := dk_27 (dk_at dksX1_who_6 17 rfl rfl)
theorem dX1_who_156 : decode cX1_who 156 = .ok (.if_icmp .eq 7, 3) := dk_159 0 7 (dk_at dksX1_who_6 18 rfl rfl)
theorem dX1_who_159 : decode cX1_who 159 = .ok (.iconst 0, 1) := dk_3 (dk_at dksX1_who_6 21 rfl rfl)
theorem dX1_who_160 : decode cX1_who 160 = .ok (.goto 22, 3) := dk_167 0 22 (dk_at dksX1_who_7 0 rfl rfl)
theorem dX1_who_163 : decode cX1_who 163 = .ok (.iload_n 2, 1) := dk_28 (dk_at dksX1_who_7 3 rfl rfl)
theorem dX1_who_164 : decode cX1_who 164 = .ok (.iconst 3, 1) := dk_6 (dk_at dksX1_who_7 4 rfl rfl)
theorem dX1_who_165 : decode cX1_who 165 = .ok (.if_icmp .ne 7, 3) := dk_160 0 7 (dk_at dksX1_who_7 5 rfl rfl)
theorem dX1_who_168 : decode cX1_who 168 = .ok (.iconst 1, 1) := dk_4 (dk_at dksX1_who_7 8 rfl rfl)
theorem dX1_who_169 : decode cX1_who 169 = .ok (.goto 13, 3) := dk_167 0 13 (dk_at dksX1_who_7 9 rfl rfl)
theorem dX1_who_172 : decode cX1_who 172 = .ok (.aload_n 0, 1) := dk_42 (dk_at dksX1_who_7 12 rfl rfl)
theorem dX1_who_173 : decode cX1_who 173 = .ok (.getfield 70, 3) := dk_180 0 70 (dk_at dksX1_who_7 13 rfl rfl)
theorem dX1_who_176 : decode cX1_who 176 = .ok (.getfield 231, 3) := dk_180 0 231 (dk_at dksX1_who_7 16 rfl rfl)
theorem dX1_who_179 : decode cX1_who 179 = .ok (.iload 4, 2) := dk_21 4 (dk_at dksX1_who_7 19 rfl rfl)
theorem dX1_who_181 : decode cX1_who 181 = .ok (.iaload, 1) := dk_46 (dk_at dksX1_who_7 21 rfl rfl)
theorem dX1_who_182 : decode cX1_who 182 = .ok (.iadd, 1) := dk_96 (dk_at dksX1_who_7 22 rfl rfl)
theorem dX1_who_183 : decode cX1_who 183 = .ok (.istore_n 3, 1) := dk_62 (dk_at dksX1_who_7 23 rfl rfl)
theorem dX1_who_184 : decode cX1_who 184 = .ok (.iinc 4 1, 3) := dk_132 4 1 (dk_at dksX1_who_8 0 rfl rfl)
theorem dX1_who_187 : decode cX1_who 187 = .ok (.goto (-81), 3) := dk_167 255 175 (dk_at dksX1_who_8 3 rfl rfl)
theorem dX1_who_190 : decode cX1_who 190 = .ok (.iload_n 3, 1) := dk_29 (dk_at dksX1_who_8 6 rfl rfl)
theorem dX1_who_191 : decode cX1_who 191 = .ok (.ireturn, 1) := dk_172 (dk_at dksX1_who_8 7 rfl rfl)
abbrev cX1_must : ByteArray := prog_1_method_8_code
def yX1_must : MethodName := ⟨RX1, "must", "(Z)V"⟩
def dkwX1_must_0 : List UInt8 := [26, 154, 0, 11, 187, 0, 145, 89, 183, 0, 147, 191, 177]
abbrev dktX1_must_0 : List UInt8 := dkwX1_must_0 ++ []
theorem dksX1_must_0 : cX1_must.data.toList.drop 0 = dktX1_must_0 := by decide +kernel
theorem dX1_must_0 : decode cX1_must 0 = .ok (.iload_n 0, 1) := dk_26 (dk_at dksX1_must_0 0 rfl rfl)
theorem dX1_must_1 : decode cX1_must 1 = .ok (.ifCond .ne 11, 3) := dk_154 0 11 (dk_at dksX1_must_0 1 rfl rfl)
theorem dX1_must_4 : decode cX1_must 4 = .ok (.new 145, 3) := dk_187 0 145 (dk_at dksX1_must_0 4 rfl rfl)
theorem dX1_must_7 : decode cX1_must 7 = .ok (.dup, 1) := dk_89 (dk_at dksX1_must_0 7 rfl rfl)
theorem dX1_must_8 : decode cX1_must 8 = .ok (.invokespecial 147, 3) := dk_183 0 147 (dk_at dksX1_must_0 8 rfl rfl)
theorem dX1_must_11 : decode cX1_must 11 = .ok (.athrow, 1) := dk_191 (dk_at dksX1_must_0 11 rfl rfl)
theorem dX1_must_12 : decode cX1_must 12 = .ok (.return_, 1) := dk_177 (dk_at dksX1_must_0 12 rfl rfl)
abbrev cX1_mint : ByteArray := prog_1_method_19_code
def yX1_mint : MethodName := ⟨RX1, "mint", "(II)I"⟩
def dkwX1_mint_5 : List UInt8 := [21, 4, 46, 27, 160, 0, 7, 4, 167, 0, 4, 3, 96, 62, 132, 4, 1, 167, 255, 219, 29, 172]
abbrev dktX1_mint_5 : List UInt8 := dkwX1_mint_5 ++ []
def dkwX1_mint_4 : List UInt8 := [62, 3, 54, 4, 21, 4, 42, 180, 0, 70, 180, 0, 251, 162, 0, 31, 29, 42, 180, 0, 70, 180, 0, 254]
abbrev dktX1_mint_4 : List UInt8 := dkwX1_mint_4 ++ dktX1_mint_5
def dkwX1_mint_3 : List UInt8 := [160, 0, 23, 42, 180, 0, 70, 180, 0, 248, 27, 184, 0, 199, 153, 0, 7, 4, 167, 0, 4, 3, 172, 3]
abbrev dktX1_mint_3 : List UInt8 := dkwX1_mint_3 ++ dktX1_mint_4
def dkwX1_mint_2 : List UInt8 := [180, 0, 240, 167, 0, 18, 42, 180, 0, 70, 180, 0, 182, 180, 0, 236, 27, 50, 180, 0, 245, 172, 28, 5]
abbrev dktX1_mint_2 : List UInt8 := dkwX1_mint_2 ++ dktX1_mint_3
def dkwX1_mint_1 : List UInt8 := [184, 0, 209, 28, 5, 162, 0, 41, 28, 154, 0, 21, 42, 180, 0, 70, 180, 0, 182, 180, 0, 236, 27, 50]
abbrev dktX1_mint_1 : List UInt8 := dkwX1_mint_1 ++ dktX1_mint_2
def dkwX1_mint_0 : List UInt8 := [42, 27, 182, 0, 233, 153, 0, 16, 28, 3, 6, 184, 0, 189, 153, 0, 7, 4, 167, 0, 4, 3]
abbrev dktX1_mint_0 : List UInt8 := dkwX1_mint_0 ++ dktX1_mint_1
theorem dksX1_mint_0 : cX1_mint.data.toList.drop 0 = dktX1_mint_0 := by decide +kernel
theorem dksX1_mint_1 : cX1_mint.data.toList.drop 22 = dktX1_mint_1 := dk_seg dksX1_mint_0 22 rfl rfl
theorem dksX1_mint_2 : cX1_mint.data.toList.drop 46 = dktX1_mint_2 := dk_seg dksX1_mint_1 24 rfl rfl
theorem dksX1_mint_3 : cX1_mint.data.toList.drop 70 = dktX1_mint_3 := dk_seg dksX1_mint_2 24 rfl rfl
theorem dksX1_mint_4 : cX1_mint.data.toList.drop 94 = dktX1_mint_4 := dk_seg dksX1_mint_3 24 rfl rfl
theorem dksX1_mint_5 : cX1_mint.data.toList.drop 118 = dktX1_mint_5 := dk_seg dksX1_mint_4 24 rfl rfl
theorem dX1_mint_0 : decode cX1_mint 0 = .ok (.aload_n 0, 1) := dk_42 (dk_at dksX1_mint_0 0 rfl rfl)
theorem dX1_mint_1 : decode cX1_mint 1 = .ok (.iload_n 1, 1) := dk_27 (dk_at dksX1_mint_0 1 rfl rfl)
theorem dX1_mint_2 : decode cX1_mint 2 = .ok (.invokevirtual 233, 3) := dk_182 0 233 (dk_at dksX1_mint_0 2 rfl rfl)
theorem dX1_mint_5 : decode cX1_mint 5 = .ok (.ifCond .eq 16, 3) := dk_153 0 16 (dk_at dksX1_mint_0 5 rfl rfl)
theorem dX1_mint_8 : decode cX1_mint 8 = .ok (.iload_n 2, 1) := dk_28 (dk_at dksX1_mint_0 8 rfl rfl)
theorem dX1_mint_9 : decode cX1_mint 9 = .ok (.iconst 0, 1) := dk_3 (dk_at dksX1_mint_0 9 rfl rfl)
theorem dX1_mint_10 : decode cX1_mint 10 = .ok (.iconst 3, 1) := dk_6 (dk_at dksX1_mint_0 10 rfl rfl)
theorem dX1_mint_11 : decode cX1_mint 11 = .ok (.invokestatic 189, 3) := dk_184 0 189 (dk_at dksX1_mint_0 11 rfl rfl)
theorem dX1_mint_14 : decode cX1_mint 14 = .ok (.ifCond .eq 7, 3) := dk_153 0 7 (dk_at dksX1_mint_0 14 rfl rfl)
theorem dX1_mint_17 : decode cX1_mint 17 = .ok (.iconst 1, 1) := dk_4 (dk_at dksX1_mint_0 17 rfl rfl)
theorem dX1_mint_18 : decode cX1_mint 18 = .ok (.goto 4, 3) := dk_167 0 4 (dk_at dksX1_mint_0 18 rfl rfl)
theorem dX1_mint_21 : decode cX1_mint 21 = .ok (.iconst 0, 1) := dk_3 (dk_at dksX1_mint_0 21 rfl rfl)
theorem dX1_mint_22 : decode cX1_mint 22 = .ok (.invokestatic 209, 3) := dk_184 0 209 (dk_at dksX1_mint_1 0 rfl rfl)
theorem dX1_mint_25 : decode cX1_mint 25 = .ok (.iload_n 2, 1) := dk_28 (dk_at dksX1_mint_1 3 rfl rfl)
theorem dX1_mint_26 : decode cX1_mint 26 = .ok (.iconst 2, 1) := dk_5 (dk_at dksX1_mint_1 4 rfl rfl)
theorem dX1_mint_27 : decode cX1_mint 27 = .ok (.if_icmp .ge 41, 3) := dk_162 0 41 (dk_at dksX1_mint_1 5 rfl rfl)
theorem dX1_mint_30 : decode cX1_mint 30 = .ok (.iload_n 2, 1) := dk_28 (dk_at dksX1_mint_1 8 rfl rfl)
theorem dX1_mint_31 : decode cX1_mint 31 = .ok (.ifCond .ne 21, 3) := dk_154 0 21 (dk_at dksX1_mint_1 9 rfl rfl)
theorem dX1_mint_34 : decode cX1_mint 34 = .ok (.aload_n 0, 1) := dk_42 (dk_at dksX1_mint_1 12 rfl rfl)
theorem dX1_mint_35 : decode cX1_mint 35 = .ok (.getfield 70, 3) := dk_180 0 70 (dk_at dksX1_mint_1 13 rfl rfl)
theorem dX1_mint_38 : decode cX1_mint 38 = .ok (.getfield 182, 3) := dk_180 0 182 (dk_at dksX1_mint_1 16 rfl rfl)
theorem dX1_mint_41 : decode cX1_mint 41 = .ok (.getfield 236, 3) := dk_180 0 236 (dk_at dksX1_mint_1 19 rfl rfl)
theorem dX1_mint_44 : decode cX1_mint 44 = .ok (.iload_n 1, 1) := dk_27 (dk_at dksX1_mint_1 22 rfl rfl)
theorem dX1_mint_45 : decode cX1_mint 45 = .ok (.aaload, 1) := dk_50 (dk_at dksX1_mint_1 23 rfl rfl)
theorem dX1_mint_46 : decode cX1_mint 46 = .ok (.getfield 240, 3) := dk_180 0 240 (dk_at dksX1_mint_2 0 rfl rfl)
theorem dX1_mint_49 : decode cX1_mint 49 = .ok (.goto 18, 3) := dk_167 0 18 (dk_at dksX1_mint_2 3 rfl rfl)
theorem dX1_mint_52 : decode cX1_mint 52 = .ok (.aload_n 0, 1) := dk_42 (dk_at dksX1_mint_2 6 rfl rfl)
theorem dX1_mint_53 : decode cX1_mint 53 = .ok (.getfield 70, 3) := dk_180 0 70 (dk_at dksX1_mint_2 7 rfl rfl)
theorem dX1_mint_56 : decode cX1_mint 56 = .ok (.getfield 182, 3) := dk_180 0 182 (dk_at dksX1_mint_2 10 rfl rfl)
theorem dX1_mint_59 : decode cX1_mint 59 = .ok (.getfield 236, 3) := dk_180 0 236 (dk_at dksX1_mint_2 13 rfl rfl)
theorem dX1_mint_62 : decode cX1_mint 62 = .ok (.iload_n 1, 1) := dk_27 (dk_at dksX1_mint_2 16 rfl rfl)
theorem dX1_mint_63 : decode cX1_mint 63 = .ok (.aaload, 1) := dk_50 (dk_at dksX1_mint_2 17 rfl rfl)
theorem dX1_mint_64 : decode cX1_mint 64 = .ok (.getfield 245, 3) := dk_180 0 245 (dk_at dksX1_mint_2 18 rfl rfl)
theorem dX1_mint_67 : decode cX1_mint 67 = .ok (.ireturn, 1) := dk_172 (dk_at dksX1_mint_2 21 rfl rfl)
theorem dX1_mint_68 : decode cX1_mint 68 = .ok (.iload_n 2, 1) := dk_28 (dk_at dksX1_mint_2 22 rfl rfl)
theorem dX1_mint_69 : decode cX1_mint 69 = .ok (.iconst 2, 1) := dk_5 (dk_at dksX1_mint_2 23 rfl rfl)
theorem dX1_mint_70 : decode cX1_mint 70 = .ok (.if_icmp .ne 23, 3) := dk_160 0 23 (dk_at dksX1_mint_3 0 rfl rfl)
theorem dX1_mint_73 : decode cX1_mint 73 = .ok (.aload_n 0, 1) := dk_42 (dk_at dksX1_mint_3 3 rfl rfl)
theorem dX1_mint_74 : decode cX1_mint 74 = .ok (.getfield 70, 3) := dk_180 0 70 (dk_at dksX1_mint_3 4 rfl rfl)
theorem dX1_mint_77 : decode cX1_mint 77 = .ok (.getfield 248, 3) := dk_180 0 248 (dk_at dksX1_mint_3 7 rfl rfl)
theorem dX1_mint_80 : decode cX1_mint 80 = .ok (.iload_n 1, 1) := dk_27 (dk_at dksX1_mint_3 10 rfl rfl)
theorem dX1_mint_81 : decode cX1_mint 81 = .ok (.invokestatic 199, 3) := dk_184 0 199 (dk_at dksX1_mint_3 11 rfl rfl)
theorem dX1_mint_84 : decode cX1_mint 84 = .ok (.ifCond .eq 7, 3) := dk_153 0 7 (dk_at dksX1_mint_3 14 rfl rfl)
theorem dX1_mint_87 : decode cX1_mint 87 = .ok (.iconst 1, 1) := dk_4 (dk_at dksX1_mint_3 17 rfl rfl)
theorem dX1_mint_88 : decode cX1_mint 88 = .ok (.goto 4, 3) := dk_167 0 4 (dk_at dksX1_mint_3 18 rfl rfl)
theorem dX1_mint_91 : decode cX1_mint 91 = .ok (.iconst 0, 1) := dk_3 (dk_at dksX1_mint_3 21 rfl rfl)
theorem dX1_mint_92 : decode cX1_mint 92 = .ok (.ireturn, 1) := dk_172 (dk_at dksX1_mint_3 22 rfl rfl)
theorem dX1_mint_93 : decode cX1_mint 93 = .ok (.iconst 0, 1) := dk_3 (dk_at dksX1_mint_3 23 rfl rfl)
theorem dX1_mint_94 : decode cX1_mint 94 = .ok (.istore_n 3, 1) := dk_62 (dk_at dksX1_mint_4 0 rfl rfl)
theorem dX1_mint_95 : decode cX1_mint 95 = .ok (.iconst 0, 1) := dk_3 (dk_at dksX1_mint_4 1 rfl rfl)
theorem dX1_mint_96 : decode cX1_mint 96 = .ok (.istore 4, 2) := dk_54 4 (dk_at dksX1_mint_4 2 rfl rfl)
theorem dX1_mint_98 : decode cX1_mint 98 = .ok (.iload 4, 2) := dk_21 4 (dk_at dksX1_mint_4 4 rfl rfl)
theorem dX1_mint_100 : decode cX1_mint 100 = .ok (.aload_n 0, 1) := dk_42 (dk_at dksX1_mint_4 6 rfl rfl)
theorem dX1_mint_101 : decode cX1_mint 101 = .ok (.getfield 70, 3) := dk_180 0 70 (dk_at dksX1_mint_4 7 rfl rfl)
theorem dX1_mint_104 : decode cX1_mint 104 = .ok (.getfield 251, 3) := dk_180 0 251 (dk_at dksX1_mint_4 10 rfl rfl)
theorem dX1_mint_107 : decode cX1_mint 107 = .ok (.if_icmp .ge 31, 3) := dk_162 0 31 (dk_at dksX1_mint_4 13 rfl rfl)
theorem dX1_mint_110 : decode cX1_mint 110 = .ok (.iload_n 3, 1) := dk_29 (dk_at dksX1_mint_4 16 rfl rfl)
theorem dX1_mint_111 : decode cX1_mint 111 = .ok (.aload_n 0, 1) := dk_42 (dk_at dksX1_mint_4 17 rfl rfl)
theorem dX1_mint_112 : decode cX1_mint 112 = .ok (.getfield 70, 3) := dk_180 0 70 (dk_at dksX1_mint_4 18 rfl rfl)
theorem dX1_mint_115 : decode cX1_mint 115 = .ok (.getfield 254, 3) := dk_180 0 254 (dk_at dksX1_mint_4 21 rfl rfl)
theorem dX1_mint_118 : decode cX1_mint 118 = .ok (.iload 4, 2) := dk_21 4 (dk_at dksX1_mint_5 0 rfl rfl)
theorem dX1_mint_120 : decode cX1_mint 120 = .ok (.iaload, 1) := dk_46 (dk_at dksX1_mint_5 2 rfl rfl)
theorem dX1_mint_121 : decode cX1_mint 121 = .ok (.iload_n 1, 1) := dk_27 (dk_at dksX1_mint_5 3 rfl rfl)
theorem dX1_mint_122 : decode cX1_mint 122 = .ok (.if_icmp .ne 7, 3) := dk_160 0 7 (dk_at dksX1_mint_5 4 rfl rfl)
theorem dX1_mint_125 : decode cX1_mint 125 = .ok (.iconst 1, 1) := dk_4 (dk_at dksX1_mint_5 7 rfl rfl)
theorem dX1_mint_126 : decode cX1_mint 126 = .ok (.goto 4, 3) := dk_167 0 4 (dk_at dksX1_mint_5 8 rfl rfl)
theorem dX1_mint_129 : decode cX1_mint 129 = .ok (.iconst 0, 1) := dk_3 (dk_at dksX1_mint_5 11 rfl rfl)
theorem dX1_mint_130 : decode cX1_mint 130 = .ok (.iadd, 1) := dk_96 (dk_at dksX1_mint_5 12 rfl rfl)
theorem dX1_mint_131 : decode cX1_mint 131 = .ok (.istore_n 3, 1) := dk_62 (dk_at dksX1_mint_5 13 rfl rfl)
theorem dX1_mint_132 : decode cX1_mint 132 = .ok (.iinc 4 1, 3) := dk_132 4 1 (dk_at dksX1_mint_5 14 rfl rfl)
theorem dX1_mint_135 : decode cX1_mint 135 = .ok (.goto (-37), 3) := dk_167 255 219 (dk_at dksX1_mint_5 17 rfl rfl)
theorem dX1_mint_138 : decode cX1_mint 138 = .ok (.iload_n 3, 1) := dk_29 (dk_at dksX1_mint_5 20 rfl rfl)
theorem dX1_mint_139 : decode cX1_mint 139 = .ok (.ireturn, 1) := dk_172 (dk_at dksX1_mint_5 21 rfl rfl)
abbrev cX1_of : ByteArray := prog_1_method_21_code
def yX1_of : MethodName := ⟨RX1, "of", "(II)I"⟩
def dkwX1_of_5 : List UInt8 := [153, 0, 7, 4, 167, 0, 4, 3, 172]
abbrev dktX1_of_5 : List UInt8 := dkwX1_of_5 ++ []
def dkwX1_of_4 : List UInt8 := [180, 1, 13, 27, 46, 172, 42, 180, 0, 70, 180, 1, 11, 27, 46, 172, 42, 180, 0, 70, 27, 182, 1, 25]
abbrev dktX1_of_4 : List UInt8 := dkwX1_of_4 ++ dktX1_of_5
def dkwX1_of_3 : List UInt8 := [42, 180, 0, 70, 180, 0, 231, 27, 46, 172, 42, 180, 0, 70, 180, 0, 228, 27, 46, 172, 42, 180, 0, 70]
abbrev dktX1_of_3 : List UInt8 := dkwX1_of_3 ++ dktX1_of_4
def dkwX1_of_2 : List UInt8 := [170, 0, 0, 0, 0, 70, 0, 0, 0, 0, 0, 0, 0, 3, 0, 0, 0, 30, 0, 0, 0, 40, 0, 0, 0, 50, 0, 0, 0, 60]
abbrev dktX1_of_2 : List UInt8 := dkwX1_of_2 ++ dktX1_of_3
def dkwX1_of_1 : List UInt8 := [184, 0, 209, 28]
abbrev dktX1_of_1 : List UInt8 := dkwX1_of_1 ++ dktX1_of_2
def dkwX1_of_0 : List UInt8 := [42, 27, 182, 1, 22, 153, 0, 16, 28, 3, 7, 184, 0, 189, 153, 0, 7, 4, 167, 0, 4, 3]
abbrev dktX1_of_0 : List UInt8 := dkwX1_of_0 ++ dktX1_of_1
theorem dksX1_of_0 : cX1_of.data.toList.drop 0 = dktX1_of_0 := by decide +kernel
theorem dksX1_of_1 : cX1_of.data.toList.drop 22 = dktX1_of_1 := dk_seg dksX1_of_0 22 rfl rfl
theorem dksX1_of_2 : cX1_of.data.toList.drop 26 = dktX1_of_2 := dk_seg dksX1_of_1 4 rfl rfl
theorem dksX1_of_3 : cX1_of.data.toList.drop 56 = dktX1_of_3 := dk_seg dksX1_of_2 30 rfl rfl
theorem dksX1_of_4 : cX1_of.data.toList.drop 80 = dktX1_of_4 := dk_seg dksX1_of_3 24 rfl rfl
theorem dksX1_of_5 : cX1_of.data.toList.drop 104 = dktX1_of_5 := dk_seg dksX1_of_4 24 rfl rfl
theorem dX1_of_0 : decode cX1_of 0 = .ok (.aload_n 0, 1) := dk_42 (dk_at dksX1_of_0 0 rfl rfl)
theorem dX1_of_1 : decode cX1_of 1 = .ok (.iload_n 1, 1) := dk_27 (dk_at dksX1_of_0 1 rfl rfl)
theorem dX1_of_2 : decode cX1_of 2 = .ok (.invokevirtual 278, 3) := dk_182 1 22 (dk_at dksX1_of_0 2 rfl rfl)
theorem dX1_of_5 : decode cX1_of 5 = .ok (.ifCond .eq 16, 3) := dk_153 0 16 (dk_at dksX1_of_0 5 rfl rfl)
theorem dX1_of_8 : decode cX1_of 8 = .ok (.iload_n 2, 1) := dk_28 (dk_at dksX1_of_0 8 rfl rfl)
theorem dX1_of_9 : decode cX1_of 9 = .ok (.iconst 0, 1) := dk_3 (dk_at dksX1_of_0 9 rfl rfl)
theorem dX1_of_10 : decode cX1_of 10 = .ok (.iconst 4, 1) := dk_7 (dk_at dksX1_of_0 10 rfl rfl)
theorem dX1_of_11 : decode cX1_of 11 = .ok (.invokestatic 189, 3) := dk_184 0 189 (dk_at dksX1_of_0 11 rfl rfl)
theorem dX1_of_14 : decode cX1_of 14 = .ok (.ifCond .eq 7, 3) := dk_153 0 7 (dk_at dksX1_of_0 14 rfl rfl)
theorem dX1_of_17 : decode cX1_of 17 = .ok (.iconst 1, 1) := dk_4 (dk_at dksX1_of_0 17 rfl rfl)
theorem dX1_of_18 : decode cX1_of 18 = .ok (.goto 4, 3) := dk_167 0 4 (dk_at dksX1_of_0 18 rfl rfl)
theorem dX1_of_21 : decode cX1_of 21 = .ok (.iconst 0, 1) := dk_3 (dk_at dksX1_of_0 21 rfl rfl)
theorem dX1_of_22 : decode cX1_of 22 = .ok (.invokestatic 209, 3) := dk_184 0 209 (dk_at dksX1_of_1 0 rfl rfl)
theorem dX1_of_25 : decode cX1_of 25 = .ok (.iload_n 2, 1) := dk_28 (dk_at dksX1_of_1 3 rfl rfl)
theorem dX1_of_26 : decode cX1_of 26 = .ok (.tableswitch 70 0 3 #[30, 40, 50, 60], 30) := by decide +kernel
theorem dX1_of_56 : decode cX1_of 56 = .ok (.aload_n 0, 1) := dk_42 (dk_at dksX1_of_3 0 rfl rfl)
theorem dX1_of_57 : decode cX1_of 57 = .ok (.getfield 70, 3) := dk_180 0 70 (dk_at dksX1_of_3 1 rfl rfl)
theorem dX1_of_60 : decode cX1_of 60 = .ok (.getfield 231, 3) := dk_180 0 231 (dk_at dksX1_of_3 4 rfl rfl)
theorem dX1_of_63 : decode cX1_of 63 = .ok (.iload_n 1, 1) := dk_27 (dk_at dksX1_of_3 7 rfl rfl)
theorem dX1_of_64 : decode cX1_of 64 = .ok (.iaload, 1) := dk_46 (dk_at dksX1_of_3 8 rfl rfl)
theorem dX1_of_65 : decode cX1_of 65 = .ok (.ireturn, 1) := dk_172 (dk_at dksX1_of_3 9 rfl rfl)
theorem dX1_of_66 : decode cX1_of 66 = .ok (.aload_n 0, 1) := dk_42 (dk_at dksX1_of_3 10 rfl rfl)
theorem dX1_of_67 : decode cX1_of 67 = .ok (.getfield 70, 3) := dk_180 0 70 (dk_at dksX1_of_3 11 rfl rfl)
theorem dX1_of_70 : decode cX1_of 70 = .ok (.getfield 228, 3) := dk_180 0 228 (dk_at dksX1_of_3 14 rfl rfl)
theorem dX1_of_73 : decode cX1_of 73 = .ok (.iload_n 1, 1) := dk_27 (dk_at dksX1_of_3 17 rfl rfl)
theorem dX1_of_74 : decode cX1_of 74 = .ok (.iaload, 1) := dk_46 (dk_at dksX1_of_3 18 rfl rfl)
theorem dX1_of_75 : decode cX1_of 75 = .ok (.ireturn, 1) := dk_172 (dk_at dksX1_of_3 19 rfl rfl)
theorem dX1_of_76 : decode cX1_of 76 = .ok (.aload_n 0, 1) := dk_42 (dk_at dksX1_of_3 20 rfl rfl)
theorem dX1_of_77 : decode cX1_of 77 = .ok (.getfield 70, 3) := dk_180 0 70 (dk_at dksX1_of_3 21 rfl rfl)
theorem dX1_of_80 : decode cX1_of 80 = .ok (.getfield 269, 3) := dk_180 1 13 (dk_at dksX1_of_4 0 rfl rfl)
theorem dX1_of_83 : decode cX1_of 83 = .ok (.iload_n 1, 1) := dk_27 (dk_at dksX1_of_4 3 rfl rfl)
theorem dX1_of_84 : decode cX1_of 84 = .ok (.iaload, 1) := dk_46 (dk_at dksX1_of_4 4 rfl rfl)
theorem dX1_of_85 : decode cX1_of 85 = .ok (.ireturn, 1) := dk_172 (dk_at dksX1_of_4 5 rfl rfl)
theorem dX1_of_86 : decode cX1_of 86 = .ok (.aload_n 0, 1) := dk_42 (dk_at dksX1_of_4 6 rfl rfl)
theorem dX1_of_87 : decode cX1_of 87 = .ok (.getfield 70, 3) := dk_180 0 70 (dk_at dksX1_of_4 7 rfl rfl)
theorem dX1_of_90 : decode cX1_of 90 = .ok (.getfield 267, 3) := dk_180 1 11 (dk_at dksX1_of_4 10 rfl rfl)
theorem dX1_of_93 : decode cX1_of 93 = .ok (.iload_n 1, 1) := dk_27 (dk_at dksX1_of_4 13 rfl rfl)
theorem dX1_of_94 : decode cX1_of 94 = .ok (.iaload, 1) := dk_46 (dk_at dksX1_of_4 14 rfl rfl)
theorem dX1_of_95 : decode cX1_of 95 = .ok (.ireturn, 1) := dk_172 (dk_at dksX1_of_4 15 rfl rfl)
theorem dX1_of_96 : decode cX1_of 96 = .ok (.aload_n 0, 1) := dk_42 (dk_at dksX1_of_4 16 rfl rfl)
theorem dX1_of_97 : decode cX1_of 97 = .ok (.getfield 70, 3) := dk_180 0 70 (dk_at dksX1_of_4 17 rfl rfl)
theorem dX1_of_100 : decode cX1_of 100 = .ok (.iload_n 1, 1) := dk_27 (dk_at dksX1_of_4 20 rfl rfl)
theorem dX1_of_101 : decode cX1_of 101 = .ok (.invokevirtual 281, 3) := dk_182 1 25 (dk_at dksX1_of_4 21 rfl rfl)
theorem dX1_of_104 : decode cX1_of 104 = .ok (.ifCond .eq 7, 3) := dk_153 0 7 (dk_at dksX1_of_5 0 rfl rfl)
theorem dX1_of_107 : decode cX1_of 107 = .ok (.iconst 1, 1) := dk_4 (dk_at dksX1_of_5 3 rfl rfl)
theorem dX1_of_108 : decode cX1_of 108 = .ok (.goto 4, 3) := dk_167 0 4 (dk_at dksX1_of_5 4 rfl rfl)
theorem dX1_of_111 : decode cX1_of 111 = .ok (.iconst 0, 1) := dk_3 (dk_at dksX1_of_5 7 rfl rfl)
theorem dX1_of_112 : decode cX1_of 112 = .ok (.ireturn, 1) := dk_172 (dk_at dksX1_of_5 8 rfl rfl)
abbrev cX1_sold : ByteArray := prog_1_method_31_code
def yX1_sold : MethodName := ⟨RX1, "sold", "(II)I"⟩
def dkwX1_sold_5 : List UInt8 := [46, 172, 42, 180, 0, 70, 180, 1, 67, 27, 46, 172, 42, 180, 0, 70, 180, 1, 70, 27, 46, 172]
abbrev dktX1_sold_5 : List UInt8 := dkwX1_sold_5 ++ []
def dkwX1_sold_4 : List UInt8 := [180, 1, 55, 27, 46, 172, 42, 180, 0, 70, 180, 1, 58, 27, 46, 172, 42, 180, 0, 70, 180, 1, 61, 27]
abbrev dktX1_sold_4 : List UInt8 := dkwX1_sold_4 ++ dktX1_sold_5
def dkwX1_sold_3 : List UInt8 := [42, 180, 0, 70, 180, 1, 49, 27, 46, 172, 42, 180, 0, 70, 180, 1, 52, 27, 46, 172, 42, 180, 0, 70]
abbrev dktX1_sold_3 : List UInt8 := dkwX1_sold_3 ++ dktX1_sold_4
def dkwX1_sold_2 : List UInt8 := [170, 0, 0, 0, 0, 0, 0, 100, 0, 0, 0, 0, 0, 0, 0, 5, 0, 0, 0, 40, 0, 0, 0, 50, 0, 0, 0, 60, 0, 0, 0, 70, 0, 0, 0, 80, 0, 0, 0, 90]
abbrev dktX1_sold_2 : List UInt8 := dkwX1_sold_2 ++ dktX1_sold_3
def dkwX1_sold_1 : List UInt8 := [153, 0, 7, 4, 167, 0, 4, 3, 184, 0, 209, 28]
abbrev dktX1_sold_1 : List UInt8 := dkwX1_sold_1 ++ dktX1_sold_2
def dkwX1_sold_0 : List UInt8 := [27, 3, 42, 180, 0, 70, 180, 1, 46, 4, 100, 184, 0, 189, 153, 0, 17, 28, 3, 16, 6, 184, 0, 189]
abbrev dktX1_sold_0 : List UInt8 := dkwX1_sold_0 ++ dktX1_sold_1
theorem dksX1_sold_0 : cX1_sold.data.toList.drop 0 = dktX1_sold_0 := by decide +kernel
theorem dksX1_sold_1 : cX1_sold.data.toList.drop 24 = dktX1_sold_1 := dk_seg dksX1_sold_0 24 rfl rfl
theorem dksX1_sold_2 : cX1_sold.data.toList.drop 36 = dktX1_sold_2 := dk_seg dksX1_sold_1 12 rfl rfl
theorem dksX1_sold_3 : cX1_sold.data.toList.drop 76 = dktX1_sold_3 := dk_seg dksX1_sold_2 40 rfl rfl
theorem dksX1_sold_4 : cX1_sold.data.toList.drop 100 = dktX1_sold_4 := dk_seg dksX1_sold_3 24 rfl rfl
theorem dksX1_sold_5 : cX1_sold.data.toList.drop 124 = dktX1_sold_5 := dk_seg dksX1_sold_4 24 rfl rfl
theorem dX1_sold_0 : decode cX1_sold 0 = .ok (.iload_n 1, 1) := dk_27 (dk_at dksX1_sold_0 0 rfl rfl)
theorem dX1_sold_1 : decode cX1_sold 1 = .ok (.iconst 0, 1) := dk_3 (dk_at dksX1_sold_0 1 rfl rfl)
theorem dX1_sold_2 : decode cX1_sold 2 = .ok (.aload_n 0, 1) := dk_42 (dk_at dksX1_sold_0 2 rfl rfl)
theorem dX1_sold_3 : decode cX1_sold 3 = .ok (.getfield 70, 3) := dk_180 0 70 (dk_at dksX1_sold_0 3 rfl rfl)
theorem dX1_sold_6 : decode cX1_sold 6 = .ok (.getfield 302, 3) := dk_180 1 46 (dk_at dksX1_sold_0 6 rfl rfl)
theorem dX1_sold_9 : decode cX1_sold 9 = .ok (.iconst 1, 1) := dk_4 (dk_at dksX1_sold_0 9 rfl rfl)
theorem dX1_sold_10 : decode cX1_sold 10 = .ok (.isub, 1) := dk_100 (dk_at dksX1_sold_0 10 rfl rfl)
theorem dX1_sold_11 : decode cX1_sold 11 = .ok (.invokestatic 189, 3) := dk_184 0 189 (dk_at dksX1_sold_0 11 rfl rfl)
theorem dX1_sold_14 : decode cX1_sold 14 = .ok (.ifCond .eq 17, 3) := dk_153 0 17 (dk_at dksX1_sold_0 14 rfl rfl)
theorem dX1_sold_17 : decode cX1_sold 17 = .ok (.iload_n 2, 1) := dk_28 (dk_at dksX1_sold_0 17 rfl rfl)
theorem dX1_sold_18 : decode cX1_sold 18 = .ok (.iconst 0, 1) := dk_3 (dk_at dksX1_sold_0 18 rfl rfl)
theorem dX1_sold_19 : decode cX1_sold 19 = .ok (.bipush 6, 2) := dk_16 6 (dk_at dksX1_sold_0 19 rfl rfl)
theorem dX1_sold_21 : decode cX1_sold 21 = .ok (.invokestatic 189, 3) := dk_184 0 189 (dk_at dksX1_sold_0 21 rfl rfl)
theorem dX1_sold_24 : decode cX1_sold 24 = .ok (.ifCond .eq 7, 3) := dk_153 0 7 (dk_at dksX1_sold_1 0 rfl rfl)
theorem dX1_sold_27 : decode cX1_sold 27 = .ok (.iconst 1, 1) := dk_4 (dk_at dksX1_sold_1 3 rfl rfl)
theorem dX1_sold_28 : decode cX1_sold 28 = .ok (.goto 4, 3) := dk_167 0 4 (dk_at dksX1_sold_1 4 rfl rfl)
theorem dX1_sold_31 : decode cX1_sold 31 = .ok (.iconst 0, 1) := dk_3 (dk_at dksX1_sold_1 7 rfl rfl)
theorem dX1_sold_32 : decode cX1_sold 32 = .ok (.invokestatic 209, 3) := dk_184 0 209 (dk_at dksX1_sold_1 8 rfl rfl)
theorem dX1_sold_35 : decode cX1_sold 35 = .ok (.iload_n 2, 1) := dk_28 (dk_at dksX1_sold_1 11 rfl rfl)
theorem dX1_sold_36 : decode cX1_sold 36 = .ok (.tableswitch 100 0 5 #[40, 50, 60, 70, 80, 90], 40) := by decide +kernel
theorem dX1_sold_76 : decode cX1_sold 76 = .ok (.aload_n 0, 1) := dk_42 (dk_at dksX1_sold_3 0 rfl rfl)
theorem dX1_sold_77 : decode cX1_sold 77 = .ok (.getfield 70, 3) := dk_180 0 70 (dk_at dksX1_sold_3 1 rfl rfl)
theorem dX1_sold_80 : decode cX1_sold 80 = .ok (.getfield 305, 3) := dk_180 1 49 (dk_at dksX1_sold_3 4 rfl rfl)
theorem dX1_sold_83 : decode cX1_sold 83 = .ok (.iload_n 1, 1) := dk_27 (dk_at dksX1_sold_3 7 rfl rfl)
theorem dX1_sold_84 : decode cX1_sold 84 = .ok (.iaload, 1) := dk_46 (dk_at dksX1_sold_3 8 rfl rfl)
theorem dX1_sold_85 : decode cX1_sold 85 = .ok (.ireturn, 1) := dk_172 (dk_at dksX1_sold_3 9 rfl rfl)
theorem dX1_sold_86 : decode cX1_sold 86 = .ok (.aload_n 0, 1) := dk_42 (dk_at dksX1_sold_3 10 rfl rfl)
theorem dX1_sold_87 : decode cX1_sold 87 = .ok (.getfield 70, 3) := dk_180 0 70 (dk_at dksX1_sold_3 11 rfl rfl)
theorem dX1_sold_90 : decode cX1_sold 90 = .ok (.getfield 308, 3) := dk_180 1 52 (dk_at dksX1_sold_3 14 rfl rfl)
theorem dX1_sold_93 : decode cX1_sold 93 = .ok (.iload_n 1, 1) := dk_27 (dk_at dksX1_sold_3 17 rfl rfl)
theorem dX1_sold_94 : decode cX1_sold 94 = .ok (.iaload, 1) := dk_46 (dk_at dksX1_sold_3 18 rfl rfl)
theorem dX1_sold_95 : decode cX1_sold 95 = .ok (.ireturn, 1) := dk_172 (dk_at dksX1_sold_3 19 rfl rfl)
theorem dX1_sold_96 : decode cX1_sold 96 = .ok (.aload_n 0, 1) := dk_42 (dk_at dksX1_sold_3 20 rfl rfl)
theorem dX1_sold_97 : decode cX1_sold 97 = .ok (.getfield 70, 3) := dk_180 0 70 (dk_at dksX1_sold_3 21 rfl rfl)
theorem dX1_sold_100 : decode cX1_sold 100 = .ok (.getfield 311, 3) := dk_180 1 55 (dk_at dksX1_sold_4 0 rfl rfl)
theorem dX1_sold_103 : decode cX1_sold 103 = .ok (.iload_n 1, 1) := dk_27 (dk_at dksX1_sold_4 3 rfl rfl)
theorem dX1_sold_104 : decode cX1_sold 104 = .ok (.iaload, 1) := dk_46 (dk_at dksX1_sold_4 4 rfl rfl)
theorem dX1_sold_105 : decode cX1_sold 105 = .ok (.ireturn, 1) := dk_172 (dk_at dksX1_sold_4 5 rfl rfl)
theorem dX1_sold_106 : decode cX1_sold 106 = .ok (.aload_n 0, 1) := dk_42 (dk_at dksX1_sold_4 6 rfl rfl)
theorem dX1_sold_107 : decode cX1_sold 107 = .ok (.getfield 70, 3) := dk_180 0 70 (dk_at dksX1_sold_4 7 rfl rfl)
theorem dX1_sold_110 : decode cX1_sold 110 = .ok (.getfield 314, 3) := dk_180 1 58 (dk_at dksX1_sold_4 10 rfl rfl)
theorem dX1_sold_113 : decode cX1_sold 113 = .ok (.iload_n 1, 1) := dk_27 (dk_at dksX1_sold_4 13 rfl rfl)
theorem dX1_sold_114 : decode cX1_sold 114 = .ok (.iaload, 1) := dk_46 (dk_at dksX1_sold_4 14 rfl rfl)
theorem dX1_sold_115 : decode cX1_sold 115 = .ok (.ireturn, 1) := dk_172 (dk_at dksX1_sold_4 15 rfl rfl)
theorem dX1_sold_116 : decode cX1_sold 116 = .ok (.aload_n 0, 1) := dk_42 (dk_at dksX1_sold_4 16 rfl rfl)
theorem dX1_sold_117 : decode cX1_sold 117 = .ok (.getfield 70, 3) := dk_180 0 70 (dk_at dksX1_sold_4 17 rfl rfl)
theorem dX1_sold_120 : decode cX1_sold 120 = .ok (.getfield 317, 3) := dk_180 1 61 (dk_at dksX1_sold_4 20 rfl rfl)
theorem dX1_sold_123 : decode cX1_sold 123 = .ok (.iload_n 1, 1) := dk_27 (dk_at dksX1_sold_4 23 rfl rfl)
theorem dX1_sold_124 : decode cX1_sold 124 = .ok (.iaload, 1) := dk_46 (dk_at dksX1_sold_5 0 rfl rfl)
theorem dX1_sold_125 : decode cX1_sold 125 = .ok (.ireturn, 1) := dk_172 (dk_at dksX1_sold_5 1 rfl rfl)
theorem dX1_sold_126 : decode cX1_sold 126 = .ok (.aload_n 0, 1) := dk_42 (dk_at dksX1_sold_5 2 rfl rfl)
theorem dX1_sold_127 : decode cX1_sold 127 = .ok (.getfield 70, 3) := dk_180 0 70 (dk_at dksX1_sold_5 3 rfl rfl)
theorem dX1_sold_130 : decode cX1_sold 130 = .ok (.getfield 323, 3) := dk_180 1 67 (dk_at dksX1_sold_5 6 rfl rfl)
theorem dX1_sold_133 : decode cX1_sold 133 = .ok (.iload_n 1, 1) := dk_27 (dk_at dksX1_sold_5 9 rfl rfl)
theorem dX1_sold_134 : decode cX1_sold 134 = .ok (.iaload, 1) := dk_46 (dk_at dksX1_sold_5 10 rfl rfl)
theorem dX1_sold_135 : decode cX1_sold 135 = .ok (.ireturn, 1) := dk_172 (dk_at dksX1_sold_5 11 rfl rfl)
theorem dX1_sold_136 : decode cX1_sold 136 = .ok (.aload_n 0, 1) := dk_42 (dk_at dksX1_sold_5 12 rfl rfl)
theorem dX1_sold_137 : decode cX1_sold 137 = .ok (.getfield 70, 3) := dk_180 0 70 (dk_at dksX1_sold_5 13 rfl rfl)
theorem dX1_sold_140 : decode cX1_sold 140 = .ok (.getfield 326, 3) := dk_180 1 70 (dk_at dksX1_sold_5 16 rfl rfl)
theorem dX1_sold_143 : decode cX1_sold 143 = .ok (.iload_n 1, 1) := dk_27 (dk_at dksX1_sold_5 19 rfl rfl)
theorem dX1_sold_144 : decode cX1_sold 144 = .ok (.iaload, 1) := dk_46 (dk_at dksX1_sold_5 20 rfl rfl)
theorem dX1_sold_145 : decode cX1_sold 145 = .ok (.ireturn, 1) := dk_172 (dk_at dksX1_sold_5 21 rfl rfl)
abbrev cX1_stroke : ByteArray := prog_1_method_50_code
def yX1_stroke : MethodName := ⟨RX1, "stroke", "(II)I"⟩
def dkwX1_stroke_6 : List UInt8 := [182, 1, 151, 153, 0, 7, 4, 167, 0, 4, 3, 172]
abbrev dktX1_stroke_6 : List UInt8 := dkwX1_stroke_6 ++ []
def dkwX1_stroke_5 : List UInt8 := [46, 172, 42, 180, 0, 70, 180, 1, 147, 27, 51, 153, 0, 7, 4, 167, 0, 4, 3, 172, 42, 27]
abbrev dktX1_stroke_5 : List UInt8 := dkwX1_stroke_5 ++ dktX1_stroke_6
def dkwX1_stroke_4 : List UInt8 := [180, 0, 254, 27, 46, 172, 42, 180, 0, 70, 180, 1, 141, 27, 46, 172, 42, 180, 0, 70, 180, 1, 144, 27]
abbrev dktX1_stroke_4 : List UInt8 := dkwX1_stroke_4 ++ dktX1_stroke_5
def dkwX1_stroke_3 : List UInt8 := [42, 180, 0, 70, 180, 1, 135, 27, 46, 172, 42, 180, 0, 70, 180, 1, 138, 27, 46, 172, 42, 180, 0, 70]
abbrev dktX1_stroke_3 : List UInt8 := dkwX1_stroke_3 ++ dktX1_stroke_4
def dkwX1_stroke_2 : List UInt8 := [170, 0, 0, 0, 0, 0, 0, 108, 0, 0, 0, 0, 0, 0, 0, 5, 0, 0, 0, 40, 0, 0, 0, 50, 0, 0, 0, 60, 0, 0, 0, 70, 0, 0, 0, 80, 0, 0, 0, 90]
abbrev dktX1_stroke_2 : List UInt8 := dkwX1_stroke_2 ++ dktX1_stroke_3
def dkwX1_stroke_1 : List UInt8 := [153, 0, 7, 4, 167, 0, 4, 3, 184, 0, 209, 28]
abbrev dktX1_stroke_1 : List UInt8 := dkwX1_stroke_1 ++ dktX1_stroke_2
def dkwX1_stroke_0 : List UInt8 := [27, 3, 42, 180, 0, 70, 180, 0, 251, 4, 100, 184, 0, 189, 153, 0, 17, 28, 3, 16, 6, 184, 0, 189]
abbrev dktX1_stroke_0 : List UInt8 := dkwX1_stroke_0 ++ dktX1_stroke_1
theorem dksX1_stroke_0 : cX1_stroke.data.toList.drop 0 = dktX1_stroke_0 := by decide +kernel
theorem dksX1_stroke_1 : cX1_stroke.data.toList.drop 24 = dktX1_stroke_1 := dk_seg dksX1_stroke_0 24 rfl rfl
theorem dksX1_stroke_2 : cX1_stroke.data.toList.drop 36 = dktX1_stroke_2 := dk_seg dksX1_stroke_1 12 rfl rfl
theorem dksX1_stroke_3 : cX1_stroke.data.toList.drop 76 = dktX1_stroke_3 := dk_seg dksX1_stroke_2 40 rfl rfl
theorem dksX1_stroke_4 : cX1_stroke.data.toList.drop 100 = dktX1_stroke_4 := dk_seg dksX1_stroke_3 24 rfl rfl
theorem dksX1_stroke_5 : cX1_stroke.data.toList.drop 124 = dktX1_stroke_5 := dk_seg dksX1_stroke_4 24 rfl rfl
theorem dksX1_stroke_6 : cX1_stroke.data.toList.drop 146 = dktX1_stroke_6 := dk_seg dksX1_stroke_5 22 rfl rfl
theorem dX1_stroke_0 : decode cX1_stroke 0 = .ok (.iload_n 1, 1) := dk_27 (dk_at dksX1_stroke_0 0 rfl rfl)
theorem dX1_stroke_1 : decode cX1_stroke 1 = .ok (.iconst 0, 1) := dk_3 (dk_at dksX1_stroke_0 1 rfl rfl)
theorem dX1_stroke_2 : decode cX1_stroke 2 = .ok (.aload_n 0, 1) := dk_42 (dk_at dksX1_stroke_0 2 rfl rfl)
theorem dX1_stroke_3 : decode cX1_stroke 3 = .ok (.getfield 70, 3) := dk_180 0 70 (dk_at dksX1_stroke_0 3 rfl rfl)
theorem dX1_stroke_6 : decode cX1_stroke 6 = .ok (.getfield 251, 3) := dk_180 0 251 (dk_at dksX1_stroke_0 6 rfl rfl)
theorem dX1_stroke_9 : decode cX1_stroke 9 = .ok (.iconst 1, 1) := dk_4 (dk_at dksX1_stroke_0 9 rfl rfl)
theorem dX1_stroke_10 : decode cX1_stroke 10 = .ok (.isub, 1) := dk_100 (dk_at dksX1_stroke_0 10 rfl rfl)
theorem dX1_stroke_11 : decode cX1_stroke 11 = .ok (.invokestatic 189, 3) := dk_184 0 189 (dk_at dksX1_stroke_0 11 rfl rfl)
theorem dX1_stroke_14 : decode cX1_stroke 14 = .ok (.ifCond .eq 17, 3) := dk_153 0 17 (dk_at dksX1_stroke_0 14 rfl rfl)
theorem dX1_stroke_17 : decode cX1_stroke 17 = .ok (.iload_n 2, 1) := dk_28 (dk_at dksX1_stroke_0 17 rfl rfl)
theorem dX1_stroke_18 : decode cX1_stroke 18 = .ok (.iconst 0, 1) := dk_3 (dk_at dksX1_stroke_0 18 rfl rfl)
theorem dX1_stroke_19 : decode cX1_stroke 19 = .ok (.bipush 6, 2) := dk_16 6 (dk_at dksX1_stroke_0 19 rfl rfl)
theorem dX1_stroke_21 : decode cX1_stroke 21 = .ok (.invokestatic 189, 3) := dk_184 0 189 (dk_at dksX1_stroke_0 21 rfl rfl)
theorem dX1_stroke_24 : decode cX1_stroke 24 = .ok (.ifCond .eq 7, 3) := dk_153 0 7 (dk_at dksX1_stroke_1 0 rfl rfl)
theorem dX1_stroke_27 : decode cX1_stroke 27 = .ok (.iconst 1, 1) := dk_4 (dk_at dksX1_stroke_1 3 rfl rfl)
theorem dX1_stroke_28 : decode cX1_stroke 28 = .ok (.goto 4, 3) := dk_167 0 4 (dk_at dksX1_stroke_1 4 rfl rfl)
theorem dX1_stroke_31 : decode cX1_stroke 31 = .ok (.iconst 0, 1) := dk_3 (dk_at dksX1_stroke_1 7 rfl rfl)
theorem dX1_stroke_32 : decode cX1_stroke 32 = .ok (.invokestatic 209, 3) := dk_184 0 209 (dk_at dksX1_stroke_1 8 rfl rfl)
theorem dX1_stroke_35 : decode cX1_stroke 35 = .ok (.iload_n 2, 1) := dk_28 (dk_at dksX1_stroke_1 11 rfl rfl)
theorem dX1_stroke_36 : decode cX1_stroke 36 = .ok (.tableswitch 108 0 5 #[40, 50, 60, 70, 80, 90], 40) := by decide +kernel
theorem dX1_stroke_76 : decode cX1_stroke 76 = .ok (.aload_n 0, 1) := dk_42 (dk_at dksX1_stroke_3 0 rfl rfl)
theorem dX1_stroke_77 : decode cX1_stroke 77 = .ok (.getfield 70, 3) := dk_180 0 70 (dk_at dksX1_stroke_3 1 rfl rfl)
theorem dX1_stroke_80 : decode cX1_stroke 80 = .ok (.getfield 391, 3) := dk_180 1 135 (dk_at dksX1_stroke_3 4 rfl rfl)
theorem dX1_stroke_83 : decode cX1_stroke 83 = .ok (.iload_n 1, 1) := dk_27 (dk_at dksX1_stroke_3 7 rfl rfl)
theorem dX1_stroke_84 : decode cX1_stroke 84 = .ok (.iaload, 1) := dk_46 (dk_at dksX1_stroke_3 8 rfl rfl)
theorem dX1_stroke_85 : decode cX1_stroke 85 = .ok (.ireturn, 1) := dk_172 (dk_at dksX1_stroke_3 9 rfl rfl)
theorem dX1_stroke_86 : decode cX1_stroke 86 = .ok (.aload_n 0, 1) := dk_42 (dk_at dksX1_stroke_3 10 rfl rfl)
theorem dX1_stroke_87 : decode cX1_stroke 87 = .ok (.getfield 70, 3) := dk_180 0 70 (dk_at dksX1_stroke_3 11 rfl rfl)
theorem dX1_stroke_90 : decode cX1_stroke 90 = .ok (.getfield 394, 3) := dk_180 1 138 (dk_at dksX1_stroke_3 14 rfl rfl)
theorem dX1_stroke_93 : decode cX1_stroke 93 = .ok (.iload_n 1, 1) := dk_27 (dk_at dksX1_stroke_3 17 rfl rfl)
theorem dX1_stroke_94 : decode cX1_stroke 94 = .ok (.iaload, 1) := dk_46 (dk_at dksX1_stroke_3 18 rfl rfl)
theorem dX1_stroke_95 : decode cX1_stroke 95 = .ok (.ireturn, 1) := dk_172 (dk_at dksX1_stroke_3 19 rfl rfl)
theorem dX1_stroke_96 : decode cX1_stroke 96 = .ok (.aload_n 0, 1) := dk_42 (dk_at dksX1_stroke_3 20 rfl rfl)
theorem dX1_stroke_97 : decode cX1_stroke 97 = .ok (.getfield 70, 3) := dk_180 0 70 (dk_at dksX1_stroke_3 21 rfl rfl)
theorem dX1_stroke_100 : decode cX1_stroke 100 = .ok (.getfield 254, 3) := dk_180 0 254 (dk_at dksX1_stroke_4 0 rfl rfl)
theorem dX1_stroke_103 : decode cX1_stroke 103 = .ok (.iload_n 1, 1) := dk_27 (dk_at dksX1_stroke_4 3 rfl rfl)
theorem dX1_stroke_104 : decode cX1_stroke 104 = .ok (.iaload, 1) := dk_46 (dk_at dksX1_stroke_4 4 rfl rfl)
theorem dX1_stroke_105 : decode cX1_stroke 105 = .ok (.ireturn, 1) := dk_172 (dk_at dksX1_stroke_4 5 rfl rfl)
theorem dX1_stroke_106 : decode cX1_stroke 106 = .ok (.aload_n 0, 1) := dk_42 (dk_at dksX1_stroke_4 6 rfl rfl)
theorem dX1_stroke_107 : decode cX1_stroke 107 = .ok (.getfield 70, 3) := dk_180 0 70 (dk_at dksX1_stroke_4 7 rfl rfl)
theorem dX1_stroke_110 : decode cX1_stroke 110 = .ok (.getfield 397, 3) := dk_180 1 141 (dk_at dksX1_stroke_4 10 rfl rfl)
theorem dX1_stroke_113 : decode cX1_stroke 113 = .ok (.iload_n 1, 1) := dk_27 (dk_at dksX1_stroke_4 13 rfl rfl)
theorem dX1_stroke_114 : decode cX1_stroke 114 = .ok (.iaload, 1) := dk_46 (dk_at dksX1_stroke_4 14 rfl rfl)
theorem dX1_stroke_115 : decode cX1_stroke 115 = .ok (.ireturn, 1) := dk_172 (dk_at dksX1_stroke_4 15 rfl rfl)
theorem dX1_stroke_116 : decode cX1_stroke 116 = .ok (.aload_n 0, 1) := dk_42 (dk_at dksX1_stroke_4 16 rfl rfl)
theorem dX1_stroke_117 : decode cX1_stroke 117 = .ok (.getfield 70, 3) := dk_180 0 70 (dk_at dksX1_stroke_4 17 rfl rfl)
theorem dX1_stroke_120 : decode cX1_stroke 120 = .ok (.getfield 400, 3) := dk_180 1 144 (dk_at dksX1_stroke_4 20 rfl rfl)
theorem dX1_stroke_123 : decode cX1_stroke 123 = .ok (.iload_n 1, 1) := dk_27 (dk_at dksX1_stroke_4 23 rfl rfl)
theorem dX1_stroke_124 : decode cX1_stroke 124 = .ok (.iaload, 1) := dk_46 (dk_at dksX1_stroke_5 0 rfl rfl)
theorem dX1_stroke_125 : decode cX1_stroke 125 = .ok (.ireturn, 1) := dk_172 (dk_at dksX1_stroke_5 1 rfl rfl)
theorem dX1_stroke_126 : decode cX1_stroke 126 = .ok (.aload_n 0, 1) := dk_42 (dk_at dksX1_stroke_5 2 rfl rfl)
theorem dX1_stroke_127 : decode cX1_stroke 127 = .ok (.getfield 70, 3) := dk_180 0 70 (dk_at dksX1_stroke_5 3 rfl rfl)
theorem dX1_stroke_130 : decode cX1_stroke 130 = .ok (.getfield 403, 3) := dk_180 1 147 (dk_at dksX1_stroke_5 6 rfl rfl)
theorem dX1_stroke_133 : decode cX1_stroke 133 = .ok (.iload_n 1, 1) := dk_27 (dk_at dksX1_stroke_5 9 rfl rfl)
theorem dX1_stroke_134 : decode cX1_stroke 134 = .ok (.baload, 1) := dk_51 (dk_at dksX1_stroke_5 10 rfl rfl)
theorem dX1_stroke_135 : decode cX1_stroke 135 = .ok (.ifCond .eq 7, 3) := dk_153 0 7 (dk_at dksX1_stroke_5 11 rfl rfl)
theorem dX1_stroke_138 : decode cX1_stroke 138 = .ok (.iconst 1, 1) := dk_4 (dk_at dksX1_stroke_5 14 rfl rfl)
theorem dX1_stroke_139 : decode cX1_stroke 139 = .ok (.goto 4, 3) := dk_167 0 4 (dk_at dksX1_stroke_5 15 rfl rfl)
theorem dX1_stroke_142 : decode cX1_stroke 142 = .ok (.iconst 0, 1) := dk_3 (dk_at dksX1_stroke_5 18 rfl rfl)
theorem dX1_stroke_143 : decode cX1_stroke 143 = .ok (.ireturn, 1) := dk_172 (dk_at dksX1_stroke_5 19 rfl rfl)
theorem dX1_stroke_144 : decode cX1_stroke 144 = .ok (.aload_n 0, 1) := dk_42 (dk_at dksX1_stroke_5 20 rfl rfl)
theorem dX1_stroke_145 : decode cX1_stroke 145 = .ok (.iload_n 1, 1) := dk_27 (dk_at dksX1_stroke_5 21 rfl rfl)
theorem dX1_stroke_146 : decode cX1_stroke 146 = .ok (.invokevirtual 407, 3) := dk_182 1 151 (dk_at dksX1_stroke_6 0 rfl rfl)
theorem dX1_stroke_149 : decode cX1_stroke 149 = .ok (.ifCond .eq 7, 3) := dk_153 0 7 (dk_at dksX1_stroke_6 3 rfl rfl)
theorem dX1_stroke_152 : decode cX1_stroke 152 = .ok (.iconst 1, 1) := dk_4 (dk_at dksX1_stroke_6 6 rfl rfl)
theorem dX1_stroke_153 : decode cX1_stroke 153 = .ok (.goto 4, 3) := dk_167 0 4 (dk_at dksX1_stroke_6 7 rfl rfl)
theorem dX1_stroke_156 : decode cX1_stroke 156 = .ok (.iconst 0, 1) := dk_3 (dk_at dksX1_stroke_6 10 rfl rfl)
theorem dX1_stroke_157 : decode cX1_stroke 157 = .ok (.ireturn, 1) := dk_172 (dk_at dksX1_stroke_6 11 rfl rfl)
abbrev cX1_isShown : ByteArray := prog_1_method_49_code
def yX1_isShown : MethodName := ⟨RX1, "isShown", "(I)Z"⟩
def dkwX1_isShown_2 : List UInt8 := [132, 3, 1, 167, 255, 220, 3, 172]
abbrev dktX1_isShown_2 : List UInt8 := dkwX1_isShown_2 ++ []
def dkwX1_isShown_1 : List UInt8 := [162, 0, 29, 42, 180, 0, 70, 180, 1, 33, 16, 9, 28, 104, 29, 96, 46, 27, 160, 0, 5, 4, 172]
abbrev dktX1_isShown_1 : List UInt8 := dkwX1_isShown_1 ++ dktX1_isShown_2
def dkwX1_isShown_0 : List UInt8 := [42, 180, 0, 70, 180, 1, 135, 27, 46, 61, 3, 62, 29, 42, 180, 0, 70, 180, 1, 13, 28, 46]
abbrev dktX1_isShown_0 : List UInt8 := dkwX1_isShown_0 ++ dktX1_isShown_1
theorem dksX1_isShown_0 : cX1_isShown.data.toList.drop 0 = dktX1_isShown_0 := by decide +kernel
theorem dksX1_isShown_1 : cX1_isShown.data.toList.drop 22 = dktX1_isShown_1 := dk_seg dksX1_isShown_0 22 rfl rfl
theorem dksX1_isShown_2 : cX1_isShown.data.toList.drop 45 = dktX1_isShown_2 := dk_seg dksX1_isShown_1 23 rfl rfl
theorem dX1_isShown_0 : decode cX1_isShown 0 = .ok (.aload_n 0, 1) := dk_42 (dk_at dksX1_isShown_0 0 rfl rfl)
theorem dX1_isShown_1 : decode cX1_isShown 1 = .ok (.getfield 70, 3) := dk_180 0 70 (dk_at dksX1_isShown_0 1 rfl rfl)
theorem dX1_isShown_4 : decode cX1_isShown 4 = .ok (.getfield 391, 3) := dk_180 1 135 (dk_at dksX1_isShown_0 4 rfl rfl)
theorem dX1_isShown_7 : decode cX1_isShown 7 = .ok (.iload_n 1, 1) := dk_27 (dk_at dksX1_isShown_0 7 rfl rfl)
theorem dX1_isShown_8 : decode cX1_isShown 8 = .ok (.iaload, 1) := dk_46 (dk_at dksX1_isShown_0 8 rfl rfl)
theorem dX1_isShown_9 : decode cX1_isShown 9 = .ok (.istore_n 2, 1) := dk_61 (dk_at dksX1_isShown_0 9 rfl rfl)
theorem dX1_isShown_10 : decode cX1_isShown 10 = .ok (.iconst 0, 1) := dk_3 (dk_at dksX1_isShown_0 10 rfl rfl)
theorem dX1_isShown_11 : decode cX1_isShown 11 = .ok (.istore_n 3, 1) := dk_62 (dk_at dksX1_isShown_0 11 rfl rfl)
theorem dX1_isShown_12 : decode cX1_isShown 12 = .ok (.iload_n 3, 1) := dk_29 (dk_at dksX1_isShown_0 12 rfl rfl)
theorem dX1_isShown_13 : decode cX1_isShown 13 = .ok (.aload_n 0, 1) := dk_42 (dk_at dksX1_isShown_0 13 rfl rfl)
theorem dX1_isShown_14 : decode cX1_isShown 14 = .ok (.getfield 70, 3) := dk_180 0 70 (dk_at dksX1_isShown_0 14 rfl rfl)
theorem dX1_isShown_17 : decode cX1_isShown 17 = .ok (.getfield 269, 3) := dk_180 1 13 (dk_at dksX1_isShown_0 17 rfl rfl)
theorem dX1_isShown_20 : decode cX1_isShown 20 = .ok (.iload_n 2, 1) := dk_28 (dk_at dksX1_isShown_0 20 rfl rfl)
theorem dX1_isShown_21 : decode cX1_isShown 21 = .ok (.iaload, 1) := dk_46 (dk_at dksX1_isShown_0 21 rfl rfl)
theorem dX1_isShown_22 : decode cX1_isShown 22 = .ok (.if_icmp .ge 29, 3) := dk_162 0 29 (dk_at dksX1_isShown_1 0 rfl rfl)
theorem dX1_isShown_25 : decode cX1_isShown 25 = .ok (.aload_n 0, 1) := dk_42 (dk_at dksX1_isShown_1 3 rfl rfl)
theorem dX1_isShown_26 : decode cX1_isShown 26 = .ok (.getfield 70, 3) := dk_180 0 70 (dk_at dksX1_isShown_1 4 rfl rfl)
theorem dX1_isShown_29 : decode cX1_isShown 29 = .ok (.getfield 289, 3) := dk_180 1 33 (dk_at dksX1_isShown_1 7 rfl rfl)
theorem dX1_isShown_32 : decode cX1_isShown 32 = .ok (.bipush 9, 2) := dk_16 9 (dk_at dksX1_isShown_1 10 rfl rfl)
theorem dX1_isShown_34 : decode cX1_isShown 34 = .ok (.iload_n 2, 1) := dk_28 (dk_at dksX1_isShown_1 12 rfl rfl)
theorem dX1_isShown_35 : decode cX1_isShown 35 = .ok (.imul, 1) := dk_104 (dk_at dksX1_isShown_1 13 rfl rfl)
theorem dX1_isShown_36 : decode cX1_isShown 36 = .ok (.iload_n 3, 1) := dk_29 (dk_at dksX1_isShown_1 14 rfl rfl)
theorem dX1_isShown_37 : decode cX1_isShown 37 = .ok (.iadd, 1) := dk_96 (dk_at dksX1_isShown_1 15 rfl rfl)
theorem dX1_isShown_38 : decode cX1_isShown 38 = .ok (.iaload, 1) := dk_46 (dk_at dksX1_isShown_1 16 rfl rfl)
theorem dX1_isShown_39 : decode cX1_isShown 39 = .ok (.iload_n 1, 1) := dk_27 (dk_at dksX1_isShown_1 17 rfl rfl)
theorem dX1_isShown_40 : decode cX1_isShown 40 = .ok (.if_icmp .ne 5, 3) := dk_160 0 5 (dk_at dksX1_isShown_1 18 rfl rfl)
theorem dX1_isShown_43 : decode cX1_isShown 43 = .ok (.iconst 1, 1) := dk_4 (dk_at dksX1_isShown_1 21 rfl rfl)
theorem dX1_isShown_44 : decode cX1_isShown 44 = .ok (.ireturn, 1) := dk_172 (dk_at dksX1_isShown_1 22 rfl rfl)
theorem dX1_isShown_45 : decode cX1_isShown 45 = .ok (.iinc 3 1, 3) := dk_132 3 1 (dk_at dksX1_isShown_2 0 rfl rfl)
theorem dX1_isShown_48 : decode cX1_isShown 48 = .ok (.goto (-36), 3) := dk_167 255 220 (dk_at dksX1_isShown_2 3 rfl rfl)
theorem dX1_isShown_51 : decode cX1_isShown 51 = .ok (.iconst 0, 1) := dk_3 (dk_at dksX1_isShown_2 6 rfl rfl)
theorem dX1_isShown_52 : decode cX1_isShown 52 = .ok (.ireturn, 1) := dk_172 (dk_at dksX1_isShown_2 7 rfl rfl)
theorem q96 : (Jvm.Cond.initialized "FaceCoins") ∈ lw_all := lw_g (lw_at lw_m1 1 rfl) rfl
theorem q124 : (Jvm.Cond.instantiable "FaceCoins" (29 : Nat)) ∈ lw_all := lw_g (lw_at lw_m1 29 rfl) rfl
theorem q126 : (Jvm.Cond.instanceMethod ({ cls := "FaceCoins", name := "<init>", desc := "()V" } : Jvm.MethodName)) ∈ lw_all := lw_g (lw_at lw_m1 31 rfl) rfl
theorem q127 : (Jvm.Cond.code ({ cls := "FaceCoins", name := "<init>", desc := "()V" } : Jvm.MethodName) prog_1_method_1_code (1 : Nat) (Option.none : Option Jvm.ClassFile.FieldType)) ∈ lw_all := lw_g (lw_at lw_m1 32 rfl) rfl
theorem q128 : (Jvm.Cond.methodLink "FaceCoins" (3 : Nat) ({ cls := "java/lang/Object", name := "<init>", desc := "()V" } : Jvm.MethodName)) ∈ lw_all := lw_g (lw_at lw_m1 33 rfl) rfl
theorem q131 : (Jvm.Cond.classLink "FaceCoins" (13 : Nat) "FaceCoins$Fault") ∈ lw_all := lw_g (lw_at lw_m1 36 rfl) rfl
theorem q169 : (Jvm.Cond.methodLink "FaceCoins" (15 : Nat) ({ cls := "FaceCoins$Fault", name := "<init>", desc := "()V" } : Jvm.MethodName)) ∈ lw_all := lw_g (lw_at lw_m1 74 rfl) rfl
theorem q178 : (Jvm.Cond.fieldLink "FaceCoins" (172 : Nat) "FaceCoins$Fault" "kind" "I") ∈ lw_all := lw_g (lw_at lw_m1 83 rfl) rfl
theorem q180 : (Jvm.Cond.fieldLink "FaceCoins" (175 : Nat) "FaceCoins$Fault" "place" "I") ∈ lw_all := lw_g (lw_at lw_m1 85 rfl) rfl
theorem q200 : (Jvm.Cond.classLink "FaceCoins" (20 : Nat) "java/lang/String") ∈ lw_all := lw_g (lw_at lw_m1 105 rfl) rfl
theorem q202 : (Jvm.Cond.stringRef "FaceCoins" (22 : Nat) "who") ∈ lw_tbl := lw_at lw_m1 107 rfl
theorem q203 : (Jvm.Cond.stringRef "FaceCoins" (24 : Nat) "mint") ∈ lw_tbl := lw_at lw_m1 108 rfl
theorem q204 : (Jvm.Cond.stringRef "FaceCoins" (26 : Nat) "takes") ∈ lw_tbl := lw_at lw_m1 109 rfl
theorem q205 : (Jvm.Cond.stringRef "FaceCoins" (28 : Nat) "lucky") ∈ lw_tbl := lw_at lw_m1 110 rfl
theorem q206 : (Jvm.Cond.stringRef "FaceCoins" (30 : Nat) "dead") ∈ lw_tbl := lw_at lw_m1 111 rfl
theorem q207 : (Jvm.Cond.stringRef "FaceCoins" (32 : Nat) "thin") ∈ lw_tbl := lw_at lw_m1 112 rfl
theorem q208 : (Jvm.Cond.stringRef "FaceCoins" (34 : Nat) "faces") ∈ lw_tbl := lw_at lw_m1 113 rfl
theorem q209 : (Jvm.Cond.stringRef "FaceCoins" (40 : Nat) "begs") ∈ lw_tbl := lw_at lw_m1 114 rfl
theorem q210 : (Jvm.Cond.stringRef "FaceCoins" (42 : Nat) "owes") ∈ lw_tbl := lw_at lw_m1 115 rfl
theorem q211 : (Jvm.Cond.stringRef "FaceCoins" (44 : Nat) "or") ∈ lw_tbl := lw_at lw_m1 116 rfl
theorem q212 : (Jvm.Cond.stringRef "FaceCoins" (46 : Nat) "and") ∈ lw_tbl := lw_at lw_m1 117 rfl
theorem q213 : (Jvm.Cond.stringRef "FaceCoins" (48 : Nat) "not") ∈ lw_tbl := lw_at lw_m1 118 rfl
theorem q214 : (Jvm.Cond.stringRef "FaceCoins" (50 : Nat) "bears") ∈ lw_tbl := lw_at lw_m1 119 rfl
theorem q215 : (Jvm.Cond.stringRef "FaceCoins" (52 : Nat) "shows") ∈ lw_tbl := lw_at lw_m1 120 rfl
theorem q216 : (Jvm.Cond.stringRef "FaceCoins" (54 : Nat) "held") ∈ lw_tbl := lw_at lw_m1 121 rfl
theorem q217 : (Jvm.Cond.stringRef "FaceCoins" (56 : Nat) "false") ∈ lw_tbl := lw_at lw_m1 122 rfl
theorem q218 : (Jvm.Cond.stringRef "FaceCoins" (58 : Nat) "grains") ∈ lw_tbl := lw_at lw_m1 123 rfl
theorem q219 : (Jvm.Cond.stringRef "FaceCoins" (60 : Nat) "layers") ∈ lw_tbl := lw_at lw_m1 124 rfl
theorem q220 : (Jvm.Cond.stringRef "FaceCoins" (62 : Nat) "struck") ∈ lw_tbl := lw_at lw_m1 125 rfl
theorem q221 : (Jvm.Cond.classLink "FaceCoins" (67 : Nat) "FaceCoins$State") ∈ lw_all := lw_g (lw_at lw_m1 126 rfl) rfl
theorem q223 : (Jvm.Cond.methodLinkNest "FaceCoins" (69 : Nat) ({ cls := "FaceCoins$State", name := "<init>", desc := "()V" } : Jvm.MethodName) "FaceCoins") ∈ lw_tbl := lw_at lw_m1 128 rfl
theorem q241 : (Jvm.Cond.fieldLinkNest "FaceCoins" (213 : Nat) "FaceCoins$Law" "people" "[LFaceCoins$Who;" "FaceCoins") ∈ lw_tbl := lw_at lw_m1 146 rfl
theorem q245 : (Jvm.Cond.fieldLinkNest "FaceCoins" (236 : Nat) "FaceCoins$Law" "mints" "[LFaceCoins$Mint;" "FaceCoins") ∈ lw_tbl := lw_at lw_m1 150 rfl
theorem q248 : (Jvm.Cond.fieldLinkNest "FaceCoins" (186 : Nat) "FaceCoins$Law" "whoMany" "I" "FaceCoins") ∈ lw_tbl := lw_at lw_m1 153 rfl
theorem q250 : (Jvm.Cond.fieldLinkNest "FaceCoins" (203 : Nat) "FaceCoins$Law" "mintMany" "I" "FaceCoins") ∈ lw_tbl := lw_at lw_m1 155 rfl
theorem q252 : (Jvm.Cond.fieldLinkNest "FaceCoins" (454 : Nat) "FaceCoins$Law" "takesMany" "I" "FaceCoins") ∈ lw_tbl := lw_at lw_m1 157 rfl
theorem q255 : (Jvm.Cond.fieldLinkNest "FaceCoins" (457 : Nat) "FaceCoins$Law" "lucky" "I" "FaceCoins") ∈ lw_tbl := lw_at lw_m1 160 rfl
theorem q259 : (Jvm.Cond.fieldLinkNest "FaceCoins" (459 : Nat) "FaceCoins$Law" "dead" "I" "FaceCoins") ∈ lw_tbl := lw_at lw_m1 164 rfl
theorem q263 : (Jvm.Cond.fieldLinkNest "FaceCoins" (416 : Nat) "FaceCoins$Law" "thin" "I" "FaceCoins") ∈ lw_tbl := lw_at lw_m1 168 rfl
theorem q267 : (Jvm.Cond.fieldLinkNest "FaceCoins" (429 : Nat) "FaceCoins$Law" "faces" "I" "FaceCoins") ∈ lw_tbl := lw_at lw_m1 172 rfl
theorem q289 : (Jvm.Cond.fieldLinkNest "FaceCoins" (182 : Nat) "FaceCoins$State" "law" "LFaceCoins$Law;" "FaceCoins") ∈ lw_tbl := lw_at lw_m1 194 rfl
theorem q292 : (Jvm.Cond.fieldLinkNest "FaceCoins" (231 : Nat) "FaceCoins$State" "grains" "[I" "FaceCoins") ∈ lw_tbl := lw_at lw_m1 197 rfl
theorem q295 : (Jvm.Cond.fieldLinkNest "FaceCoins" (228 : Nat) "FaceCoins$State" "owner" "[I" "FaceCoins") ∈ lw_tbl := lw_at lw_m1 200 rfl
theorem q298 : (Jvm.Cond.fieldLinkNest "FaceCoins" (267 : Nat) "FaceCoins$State" "struck" "[I" "FaceCoins") ∈ lw_tbl := lw_at lw_m1 203 rfl
theorem q301 : (Jvm.Cond.fieldLinkNest "FaceCoins" (269 : Nat) "FaceCoins$State" "layers" "[I" "FaceCoins") ∈ lw_tbl := lw_at lw_m1 206 rfl
theorem q303 : (Jvm.Cond.fieldLinkNest "FaceCoins" (284 : Nat) "FaceCoins$State" "who" "[I" "FaceCoins") ∈ lw_tbl := lw_at lw_m1 208 rfl
theorem q305 : (Jvm.Cond.fieldLinkNest "FaceCoins" (286 : Nat) "FaceCoins$State" "depth" "[I" "FaceCoins") ∈ lw_tbl := lw_at lw_m1 210 rfl
theorem q307 : (Jvm.Cond.fieldLinkNest "FaceCoins" (289 : Nat) "FaceCoins$State" "by" "[I" "FaceCoins") ∈ lw_tbl := lw_at lw_m1 212 rfl
theorem q309 : (Jvm.Cond.fieldLinkNest "FaceCoins" (391 : Nat) "FaceCoins$State" "strokeCoin" "[I" "FaceCoins") ∈ lw_tbl := lw_at lw_m1 214 rfl
theorem q311 : (Jvm.Cond.fieldLinkNest "FaceCoins" (394 : Nat) "FaceCoins$State" "strokeWho" "[I" "FaceCoins") ∈ lw_tbl := lw_at lw_m1 216 rfl
theorem q313 : (Jvm.Cond.fieldLinkNest "FaceCoins" (254 : Nat) "FaceCoins$State" "strokeMint" "[I" "FaceCoins") ∈ lw_tbl := lw_at lw_m1 218 rfl
theorem q315 : (Jvm.Cond.fieldLinkNest "FaceCoins" (397 : Nat) "FaceCoins$State" "strokeDay" "[I" "FaceCoins") ∈ lw_tbl := lw_at lw_m1 220 rfl
theorem q317 : (Jvm.Cond.fieldLinkNest "FaceCoins" (400 : Nat) "FaceCoins$State" "strokeSale" "[I" "FaceCoins") ∈ lw_tbl := lw_at lw_m1 222 rfl
theorem q319 : (Jvm.Cond.fieldLinkNest "FaceCoins" (403 : Nat) "FaceCoins$State" "strokeFalse" "[Z" "FaceCoins") ∈ lw_tbl := lw_at lw_m1 224 rfl
theorem q321 : (Jvm.Cond.fieldLinkNest "FaceCoins" (305 : Nat) "FaceCoins$State" "buyer" "[I" "FaceCoins") ∈ lw_tbl := lw_at lw_m1 226 rfl
theorem q323 : (Jvm.Cond.fieldLinkNest "FaceCoins" (308 : Nat) "FaceCoins$State" "seller" "[I" "FaceCoins") ∈ lw_tbl := lw_at lw_m1 228 rfl
theorem q325 : (Jvm.Cond.fieldLinkNest "FaceCoins" (311 : Nat) "FaceCoins$State" "saleMint" "[I" "FaceCoins") ∈ lw_tbl := lw_at lw_m1 230 rfl
theorem q327 : (Jvm.Cond.fieldLinkNest "FaceCoins" (314 : Nat) "FaceCoins$State" "price" "[I" "FaceCoins") ∈ lw_tbl := lw_at lw_m1 232 rfl
theorem q329 : (Jvm.Cond.fieldLinkNest "FaceCoins" (317 : Nat) "FaceCoins$State" "saleDay" "[I" "FaceCoins") ∈ lw_tbl := lw_at lw_m1 234 rfl
theorem q331 : (Jvm.Cond.fieldLinkNest "FaceCoins" (323 : Nat) "FaceCoins$State" "saleCoins" "[I" "FaceCoins") ∈ lw_tbl := lw_at lw_m1 236 rfl
theorem q333 : (Jvm.Cond.fieldLinkNest "FaceCoins" (326 : Nat) "FaceCoins$State" "worth" "[I" "FaceCoins") ∈ lw_tbl := lw_at lw_m1 238 rfl
theorem q335 : (Jvm.Cond.fieldLinkNest "FaceCoins" (206 : Nat) "FaceCoins$State" "coins" "I" "FaceCoins") ∈ lw_tbl := lw_at lw_m2 0 rfl
theorem q337 : (Jvm.Cond.fieldLinkNest "FaceCoins" (251 : Nat) "FaceCoins$State" "strokes" "I" "FaceCoins") ∈ lw_tbl := lw_at lw_m2 2 rfl
theorem q339 : (Jvm.Cond.fieldLinkNest "FaceCoins" (302 : Nat) "FaceCoins$State" "sales" "I" "FaceCoins") ∈ lw_tbl := lw_at lw_m2 4 rfl
theorem q341 : (Jvm.Cond.fieldLinkNest "FaceCoins" (320 : Nat) "FaceCoins$State" "day" "I" "FaceCoins") ∈ lw_tbl := lw_at lw_m2 6 rfl
theorem q343 : (Jvm.Cond.fieldLinkNest "FaceCoins" (197 : Nat) "FaceCoins$State" "dead" "I" "FaceCoins") ∈ lw_tbl := lw_at lw_m2 8 rfl
theorem q345 : (Jvm.Cond.fieldLinkNest "FaceCoins" (248 : Nat) "FaceCoins$State" "closed" "I" "FaceCoins") ∈ lw_tbl := lw_at lw_m2 10 rfl
theorem q347 : (Jvm.Cond.fieldLinkNest "FaceCoins" (382 : Nat) "FaceCoins$State" "victim" "I" "FaceCoins") ∈ lw_tbl := lw_at lw_m2 12 rfl
theorem q349 : (Jvm.Cond.fieldLinkNest "FaceCoins" (385 : Nat) "FaceCoins$State" "thief" "I" "FaceCoins") ∈ lw_tbl := lw_at lw_m2 14 rfl
theorem q351 : (Jvm.Cond.fieldLinkNest "FaceCoins" (271 : Nat) "FaceCoins$State" "made" "I" "FaceCoins") ∈ lw_tbl := lw_at lw_m2 16 rfl
theorem q353 : (Jvm.Cond.fieldLinkNest "FaceCoins" (410 : Nat) "FaceCoins$State" "lost" "I" "FaceCoins") ∈ lw_tbl := lw_at lw_m2 18 rfl
theorem q420 : (Jvm.Cond.classLink "FaceCoins" (78 : Nat) "FaceCoins$LawReader") ∈ lw_all := lw_g (lw_at lw_m2 85 rfl) rfl
theorem q422 : (Jvm.Cond.methodLink "FaceCoins" (80 : Nat) ({ cls := "FaceCoins$LawReader", name := "<init>", desc := "(LFaceCoins;)V" } : Jvm.MethodName)) ∈ lw_all := lw_g (lw_at lw_m2 87 rfl) rfl
theorem q471 : (Jvm.Cond.classLink "FaceCoins" (119 : Nat) "FaceCoins$SentenceReader") ∈ lw_all := lw_g (lw_at lw_m2 136 rfl) rfl
theorem q473 : (Jvm.Cond.methodLink "FaceCoins" (121 : Nat) ({ cls := "FaceCoins$SentenceReader", name := "<init>", desc := "(LFaceCoins;)V" } : Jvm.MethodName)) ∈ lw_all := lw_g (lw_at lw_m2 138 rfl) rfl
theorem q488 : (Jvm.Cond.fieldLinkNest "FaceCoins" (447 : Nat) "FaceCoins$SentenceReader" "ones" "I" "FaceCoins") ∈ lw_tbl := lw_at lw_m2 153 rfl
theorem q507 : (Jvm.Cond.classLink "FaceCoins" (129 : Nat) "FaceCoins$Cond") ∈ lw_all := lw_g (lw_at lw_m2 172 rfl) rfl
theorem q509 : (Jvm.Cond.fieldLink "FaceCoins" (9 : Nat) "FaceCoins" "tape" "[B") ∈ lw_all := lw_g (lw_at lw_m2 174 rfl) rfl
theorem q511 : (Jvm.Cond.fieldLink "FaceCoins" (135 : Nat) "FaceCoins" "length" "I") ∈ lw_all := lw_g (lw_at lw_m2 176 rfl) rfl
theorem q513 : (Jvm.Cond.fieldLink "FaceCoins" (142 : Nat) "FaceCoins" "size" "I") ∈ lw_all := lw_g (lw_at lw_m2 178 rfl) rfl
theorem q514 : (Jvm.Cond.fieldLink "FaceCoins" (16 : Nat) "FaceCoins" "broken" "LFaceCoins$Fault;") ∈ lw_all := lw_g (lw_at lw_m2 179 rfl) rfl
theorem q516 : (Jvm.Cond.fieldLink "FaceCoins" (36 : Nat) "FaceCoins" "lines" "[Ljava/lang/String;") ∈ lw_all := lw_g (lw_at lw_m2 181 rfl) rfl
theorem q519 : (Jvm.Cond.fieldLink "FaceCoins" (64 : Nat) "FaceCoins" "words" "[Ljava/lang/String;") ∈ lw_all := lw_g (lw_at lw_m2 184 rfl) rfl
theorem q521 : (Jvm.Cond.fieldLink "FaceCoins" (70 : Nat) "FaceCoins" "now" "LFaceCoins$State;") ∈ lw_all := lw_g (lw_at lw_m2 186 rfl) rfl
theorem q523 : (Jvm.Cond.fieldLink "FaceCoins" (74 : Nat) "FaceCoins" "before" "[LFaceCoins$State;") ∈ lw_all := lw_g (lw_at lw_m2 188 rfl) rfl
theorem q524 : (Jvm.Cond.fieldLink "FaceCoins" (165 : Nat) "FaceCoins" "beforeMany" "I") ∈ lw_all := lw_g (lw_at lw_m2 189 rfl) rfl
theorem q525 : (Jvm.Cond.fieldLink "FaceCoins" (83 : Nat) "FaceCoins" "lawReader" "LFaceCoins$LawReader;") ∈ lw_all := lw_g (lw_at lw_m2 190 rfl) rfl
theorem q526 : (Jvm.Cond.fieldLink "FaceCoins" (151 : Nat) "FaceCoins" "fault" "I") ∈ lw_all := lw_g (lw_at lw_m2 191 rfl) rfl
theorem q527 : (Jvm.Cond.fieldLink "FaceCoins" (87 : Nat) "FaceCoins" "looked" "[I") ∈ lw_all := lw_g (lw_at lw_m2 192 rfl) rfl
theorem q528 : (Jvm.Cond.fieldLink "FaceCoins" (91 : Nat) "FaceCoins" "worths" "[I") ∈ lw_all := lw_g (lw_at lw_m2 193 rfl) rfl
theorem q529 : (Jvm.Cond.fieldLink "FaceCoins" (94 : Nat) "FaceCoins" "least" "[I") ∈ lw_all := lw_g (lw_at lw_m2 194 rfl) rfl
theorem q530 : (Jvm.Cond.fieldLink "FaceCoins" (97 : Nat) "FaceCoins" "paid" "[I") ∈ lw_all := lw_g (lw_at lw_m2 195 rfl) rfl
theorem q531 : (Jvm.Cond.fieldLink "FaceCoins" (100 : Nat) "FaceCoins" "paidKept" "[I") ∈ lw_all := lw_g (lw_at lw_m2 196 rfl) rfl
theorem q532 : (Jvm.Cond.fieldLink "FaceCoins" (350 : Nat) "FaceCoins" "lookedMany" "I") ∈ lw_all := lw_g (lw_at lw_m2 197 rfl) rfl
theorem q533 : (Jvm.Cond.fieldLink "FaceCoins" (363 : Nat) "FaceCoins" "hasPaid" "Z") ∈ lw_all := lw_g (lw_at lw_m2 198 rfl) rfl
theorem q534 : (Jvm.Cond.fieldLink "FaceCoins" (103 : Nat) "FaceCoins" "rowWho" "[I") ∈ lw_all := lw_g (lw_at lw_m2 199 rfl) rfl
theorem q535 : (Jvm.Cond.fieldLink "FaceCoins" (106 : Nat) "FaceCoins" "rowMint" "[I") ∈ lw_all := lw_g (lw_at lw_m2 200 rfl) rfl
theorem q536 : (Jvm.Cond.fieldLink "FaceCoins" (109 : Nat) "FaceCoins" "couldWho" "[I") ∈ lw_all := lw_g (lw_at lw_m2 201 rfl) rfl
theorem q537 : (Jvm.Cond.fieldLink "FaceCoins" (112 : Nat) "FaceCoins" "couldMint" "[I") ∈ lw_all := lw_g (lw_at lw_m2 202 rfl) rfl
theorem q538 : (Jvm.Cond.fieldLink "FaceCoins" (115 : Nat) "FaceCoins" "rowMany" "I") ∈ lw_all := lw_g (lw_at lw_m2 203 rfl) rfl
theorem q539 : (Jvm.Cond.fieldLink "FaceCoins" (431 : Nat) "FaceCoins" "seed" "I") ∈ lw_all := lw_g (lw_at lw_m2 204 rfl) rfl
theorem q540 : (Jvm.Cond.fieldLink "FaceCoins" (122 : Nat) "FaceCoins" "sentenceReader" "LFaceCoins$SentenceReader;") ∈ lw_all := lw_g (lw_at lw_m2 205 rfl) rfl
theorem q541 : (Jvm.Cond.fieldLink "FaceCoins" (168 : Nat) "FaceCoins" "sentence" "LFaceCoins$Cond;") ∈ lw_all := lw_g (lw_at lw_m2 206 rfl) rfl
theorem q542 : (Jvm.Cond.fieldLink "FaceCoins" (126 : Nat) "FaceCoins" "images" "[LFaceCoins$State;") ∈ lw_all := lw_g (lw_at lw_m2 207 rfl) rfl
theorem q543 : (Jvm.Cond.fieldLink "FaceCoins" (131 : Nat) "FaceCoins" "sentences" "[LFaceCoins$Cond;") ∈ lw_all := lw_g (lw_at lw_m2 208 rfl) rfl
theorem q544 : (Jvm.Cond.laysFinal "FaceCoins" "FaceCoins" "tape" "[B") ∈ lw_all := lw_g (lw_at lw_m2 209 rfl) rfl
theorem q545 : (Jvm.Cond.soleField "FaceCoins" "tape") ∈ lw_all := lw_g (lw_at lw_m2 210 rfl) rfl
theorem q546 : (Jvm.Cond.lays "FaceCoins" "FaceCoins" "length" "I") ∈ lw_all := lw_g (lw_at lw_m2 211 rfl) rfl
theorem q547 : (Jvm.Cond.soleField "FaceCoins" "length") ∈ lw_all := lw_g (lw_at lw_m2 212 rfl) rfl
theorem q548 : (Jvm.Cond.lays "FaceCoins" "FaceCoins" "size" "I") ∈ lw_all := lw_g (lw_at lw_m2 213 rfl) rfl
theorem q549 : (Jvm.Cond.soleField "FaceCoins" "size") ∈ lw_all := lw_g (lw_at lw_m2 214 rfl) rfl
theorem q550 : (Jvm.Cond.lays "FaceCoins" "FaceCoins" "today" "I") ∈ lw_all := lw_g (lw_at lw_m2 215 rfl) rfl
theorem q551 : (Jvm.Cond.soleField "FaceCoins" "today") ∈ lw_all := lw_g (lw_at lw_m2 216 rfl) rfl
theorem q552 : (Jvm.Cond.laysFinal "FaceCoins" "FaceCoins" "broken" "LFaceCoins$Fault;") ∈ lw_all := lw_g (lw_at lw_m2 217 rfl) rfl
theorem q553 : (Jvm.Cond.soleField "FaceCoins" "broken") ∈ lw_all := lw_g (lw_at lw_m2 218 rfl) rfl
theorem q554 : (Jvm.Cond.laysFinal "FaceCoins" "FaceCoins" "lines" "[Ljava/lang/String;") ∈ lw_all := lw_g (lw_at lw_m2 219 rfl) rfl
theorem q555 : (Jvm.Cond.soleField "FaceCoins" "lines") ∈ lw_all := lw_g (lw_at lw_m2 220 rfl) rfl
theorem q556 : (Jvm.Cond.laysFinal "FaceCoins" "FaceCoins" "words" "[Ljava/lang/String;") ∈ lw_all := lw_g (lw_at lw_m2 221 rfl) rfl
theorem q557 : (Jvm.Cond.soleField "FaceCoins" "words") ∈ lw_all := lw_g (lw_at lw_m2 222 rfl) rfl
theorem q558 : (Jvm.Cond.laysFinal "FaceCoins" "FaceCoins" "now" "LFaceCoins$State;") ∈ lw_all := lw_g (lw_at lw_m2 223 rfl) rfl
theorem q559 : (Jvm.Cond.soleField "FaceCoins" "now") ∈ lw_all := lw_g (lw_at lw_m2 224 rfl) rfl
theorem q560 : (Jvm.Cond.laysFinal "FaceCoins" "FaceCoins" "before" "[LFaceCoins$State;") ∈ lw_all := lw_g (lw_at lw_m2 225 rfl) rfl
theorem q561 : (Jvm.Cond.soleField "FaceCoins" "before") ∈ lw_all := lw_g (lw_at lw_m2 226 rfl) rfl
theorem q562 : (Jvm.Cond.lays "FaceCoins" "FaceCoins" "beforeMany" "I") ∈ lw_all := lw_g (lw_at lw_m2 227 rfl) rfl
theorem q563 : (Jvm.Cond.soleField "FaceCoins" "beforeMany") ∈ lw_all := lw_g (lw_at lw_m2 228 rfl) rfl
theorem q564 : (Jvm.Cond.laysFinal "FaceCoins" "FaceCoins" "lawReader" "LFaceCoins$LawReader;") ∈ lw_all := lw_g (lw_at lw_m2 229 rfl) rfl
theorem q565 : (Jvm.Cond.soleField "FaceCoins" "lawReader") ∈ lw_all := lw_g (lw_at lw_m2 230 rfl) rfl
theorem q566 : (Jvm.Cond.lays "FaceCoins" "FaceCoins" "fault" "I") ∈ lw_all := lw_g (lw_at lw_m2 231 rfl) rfl
theorem q567 : (Jvm.Cond.soleField "FaceCoins" "fault") ∈ lw_all := lw_g (lw_at lw_m2 232 rfl) rfl
theorem q568 : (Jvm.Cond.laysFinal "FaceCoins" "FaceCoins" "looked" "[I") ∈ lw_all := lw_g (lw_at lw_m2 233 rfl) rfl
theorem q569 : (Jvm.Cond.soleField "FaceCoins" "looked") ∈ lw_all := lw_g (lw_at lw_m2 234 rfl) rfl
theorem q570 : (Jvm.Cond.laysFinal "FaceCoins" "FaceCoins" "worths" "[I") ∈ lw_all := lw_g (lw_at lw_m2 235 rfl) rfl
theorem q571 : (Jvm.Cond.soleField "FaceCoins" "worths") ∈ lw_all := lw_g (lw_at lw_m2 236 rfl) rfl
theorem q572 : (Jvm.Cond.laysFinal "FaceCoins" "FaceCoins" "least" "[I") ∈ lw_all := lw_g (lw_at lw_m2 237 rfl) rfl
theorem q573 : (Jvm.Cond.soleField "FaceCoins" "least") ∈ lw_all := lw_g (lw_at lw_m2 238 rfl) rfl
theorem q574 : (Jvm.Cond.laysFinal "FaceCoins" "FaceCoins" "paid" "[I") ∈ lw_all := lw_g (lw_at lw_m2 239 rfl) rfl
theorem q575 : (Jvm.Cond.soleField "FaceCoins" "paid") ∈ lw_all := lw_g (lw_at lw_m3 0 rfl) rfl
theorem q576 : (Jvm.Cond.laysFinal "FaceCoins" "FaceCoins" "paidKept" "[I") ∈ lw_all := lw_g (lw_at lw_m3 1 rfl) rfl
theorem q577 : (Jvm.Cond.soleField "FaceCoins" "paidKept") ∈ lw_all := lw_g (lw_at lw_m3 2 rfl) rfl
theorem q578 : (Jvm.Cond.lays "FaceCoins" "FaceCoins" "lookedMany" "I") ∈ lw_all := lw_g (lw_at lw_m3 3 rfl) rfl
theorem q579 : (Jvm.Cond.soleField "FaceCoins" "lookedMany") ∈ lw_all := lw_g (lw_at lw_m3 4 rfl) rfl
theorem q580 : (Jvm.Cond.lays "FaceCoins" "FaceCoins" "hasPaid" "Z") ∈ lw_all := lw_g (lw_at lw_m3 5 rfl) rfl
theorem q581 : (Jvm.Cond.soleField "FaceCoins" "hasPaid") ∈ lw_all := lw_g (lw_at lw_m3 6 rfl) rfl
theorem q582 : (Jvm.Cond.laysFinal "FaceCoins" "FaceCoins" "rowWho" "[I") ∈ lw_all := lw_g (lw_at lw_m3 7 rfl) rfl
theorem q583 : (Jvm.Cond.soleField "FaceCoins" "rowWho") ∈ lw_all := lw_g (lw_at lw_m3 8 rfl) rfl
theorem q584 : (Jvm.Cond.laysFinal "FaceCoins" "FaceCoins" "rowMint" "[I") ∈ lw_all := lw_g (lw_at lw_m3 9 rfl) rfl
theorem q585 : (Jvm.Cond.soleField "FaceCoins" "rowMint") ∈ lw_all := lw_g (lw_at lw_m3 10 rfl) rfl
theorem q586 : (Jvm.Cond.laysFinal "FaceCoins" "FaceCoins" "couldWho" "[I") ∈ lw_all := lw_g (lw_at lw_m3 11 rfl) rfl
theorem q587 : (Jvm.Cond.soleField "FaceCoins" "couldWho") ∈ lw_all := lw_g (lw_at lw_m3 12 rfl) rfl
theorem q588 : (Jvm.Cond.laysFinal "FaceCoins" "FaceCoins" "couldMint" "[I") ∈ lw_all := lw_g (lw_at lw_m3 13 rfl) rfl
theorem q589 : (Jvm.Cond.soleField "FaceCoins" "couldMint") ∈ lw_all := lw_g (lw_at lw_m3 14 rfl) rfl
theorem q590 : (Jvm.Cond.lays "FaceCoins" "FaceCoins" "rowMany" "I") ∈ lw_all := lw_g (lw_at lw_m3 15 rfl) rfl
theorem q591 : (Jvm.Cond.soleField "FaceCoins" "rowMany") ∈ lw_all := lw_g (lw_at lw_m3 16 rfl) rfl
theorem q592 : (Jvm.Cond.lays "FaceCoins" "FaceCoins" "seed" "I") ∈ lw_all := lw_g (lw_at lw_m3 17 rfl) rfl
theorem q593 : (Jvm.Cond.soleField "FaceCoins" "seed") ∈ lw_all := lw_g (lw_at lw_m3 18 rfl) rfl
theorem q594 : (Jvm.Cond.laysFinal "FaceCoins" "FaceCoins" "sentenceReader" "LFaceCoins$SentenceReader;") ∈ lw_all := lw_g (lw_at lw_m3 19 rfl) rfl
theorem q595 : (Jvm.Cond.soleField "FaceCoins" "sentenceReader") ∈ lw_all := lw_g (lw_at lw_m3 20 rfl) rfl
theorem q596 : (Jvm.Cond.lays "FaceCoins" "FaceCoins" "sentence" "LFaceCoins$Cond;") ∈ lw_all := lw_g (lw_at lw_m3 21 rfl) rfl
theorem q597 : (Jvm.Cond.soleField "FaceCoins" "sentence") ∈ lw_all := lw_g (lw_at lw_m3 22 rfl) rfl
theorem q598 : (Jvm.Cond.laysFinal "FaceCoins" "FaceCoins" "images" "[LFaceCoins$State;") ∈ lw_all := lw_g (lw_at lw_m3 23 rfl) rfl
theorem q599 : (Jvm.Cond.soleField "FaceCoins" "images") ∈ lw_all := lw_g (lw_at lw_m3 24 rfl) rfl
theorem q600 : (Jvm.Cond.laysFinal "FaceCoins" "FaceCoins" "sentences" "[LFaceCoins$Cond;") ∈ lw_all := lw_g (lw_at lw_m3 25 rfl) rfl
theorem q601 : (Jvm.Cond.soleField "FaceCoins" "sentences") ∈ lw_all := lw_g (lw_at lw_m3 26 rfl) rfl
theorem q602 : (Jvm.Cond.superclass "FaceCoins" "java/lang/Object") ∈ lw_all := lw_g (lw_at lw_m3 27 rfl) rfl
theorem q604 : (Jvm.Cond.instanceMethod ({ cls := "FaceCoins", name := "feed", desc := "(IIIII)I" } : Jvm.MethodName)) ∈ lw_all := lw_g (lw_at lw_m3 29 rfl) rfl
theorem q605 : (Jvm.Cond.selects "FaceCoins" ({ cls := "FaceCoins", name := "feed", desc := "(IIIII)I" } : Jvm.MethodName) ({ cls := "FaceCoins", name := "feed", desc := "(IIIII)I" } : Jvm.MethodName)) ∈ lw_all := lw_g (lw_at lw_m3 30 rfl) rfl
theorem q606 : (Jvm.Cond.code ({ cls := "FaceCoins", name := "feed", desc := "(IIIII)I" } : Jvm.MethodName) prog_1_method_2_code (6 : Nat) (Option.some Jvm.ClassFile.FieldType.int)) ∈ lw_all := lw_g (lw_at lw_m3 31 rfl) rfl
theorem q607 : (Jvm.Cond.methodLink "FaceCoins" (138 : Nat) ({ cls := "FaceCoins", name := "four", desc := "(I)V" } : Jvm.MethodName)) ∈ lw_all := lw_g (lw_at lw_m3 32 rfl) rfl
theorem q608 : (Jvm.Cond.privateMethod ({ cls := "FaceCoins", name := "four", desc := "(I)V" } : Jvm.MethodName)) ∈ lw_tbl := lw_at lw_m3 33 rfl
theorem q609 : (Jvm.Cond.instanceMethod ({ cls := "FaceCoins", name := "four", desc := "(I)V" } : Jvm.MethodName)) ∈ lw_all := lw_g (lw_at lw_m3 34 rfl) rfl
theorem q610 : (Jvm.Cond.code ({ cls := "FaceCoins", name := "four", desc := "(I)V" } : Jvm.MethodName) prog_1_method_3_code (3 : Nat) (Option.none : Option Jvm.ClassFile.FieldType)) ∈ lw_all := lw_g (lw_at lw_m3 35 rfl) rfl
theorem q612 : (Jvm.Cond.instanceMethod ({ cls := "FaceCoins", name := "end", desc := "(I)Z" } : Jvm.MethodName)) ∈ lw_all := lw_g (lw_at lw_m3 37 rfl) rfl
theorem q613 : (Jvm.Cond.selects "FaceCoins" ({ cls := "FaceCoins", name := "end", desc := "(I)Z" } : Jvm.MethodName) ({ cls := "FaceCoins", name := "end", desc := "(I)Z" } : Jvm.MethodName)) ∈ lw_all := lw_g (lw_at lw_m3 38 rfl) rfl
theorem q614 : (Jvm.Cond.code ({ cls := "FaceCoins", name := "end", desc := "(I)Z" } : Jvm.MethodName) prog_1_method_4_code (2 : Nat) (Option.some Jvm.ClassFile.FieldType.boolean)) ∈ lw_all := lw_g (lw_at lw_m3 39 rfl) rfl
theorem q616 : (Jvm.Cond.instanceMethod ({ cls := "FaceCoins", name := "law", desc := "()I" } : Jvm.MethodName)) ∈ lw_all := lw_g (lw_at lw_m3 41 rfl) rfl
theorem q617 : (Jvm.Cond.selects "FaceCoins" ({ cls := "FaceCoins", name := "law", desc := "()I" } : Jvm.MethodName) ({ cls := "FaceCoins", name := "law", desc := "()I" } : Jvm.MethodName)) ∈ lw_all := lw_g (lw_at lw_m3 42 rfl) rfl
theorem q618 : (Jvm.Cond.codeWith ({ cls := "FaceCoins", name := "law", desc := "()I" } : Jvm.MethodName) prog_1_method_10_code (3 : Nat) (Option.some Jvm.ClassFile.FieldType.int) [((17 : Nat), (45 : Nat), (46 : Nat), (13 : Nat))]) ∈ lw_all := lw_g (lw_at lw_m3 43 rfl) rfl
theorem q619 : (Jvm.Cond.methodLink "FaceCoins" (148 : Nat) ({ cls := "FaceCoins", name := "taken", desc := "()V" } : Jvm.MethodName)) ∈ lw_all := lw_g (lw_at lw_m3 44 rfl) rfl
theorem q620 : (Jvm.Cond.privateMethod ({ cls := "FaceCoins", name := "taken", desc := "()V" } : Jvm.MethodName)) ∈ lw_tbl := lw_at lw_m3 45 rfl
theorem q621 : (Jvm.Cond.instanceMethod ({ cls := "FaceCoins", name := "taken", desc := "()V" } : Jvm.MethodName)) ∈ lw_all := lw_g (lw_at lw_m3 46 rfl) rfl
theorem q622 : (Jvm.Cond.code ({ cls := "FaceCoins", name := "taken", desc := "()V" } : Jvm.MethodName) prog_1_method_5_code (1 : Nat) (Option.none : Option Jvm.ClassFile.FieldType)) ∈ lw_all := lw_g (lw_at lw_m3 47 rfl) rfl
theorem q623 : (Jvm.Cond.classLink "FaceCoins" (154 : Nat) "FaceCoins$Law") ∈ lw_all := lw_g (lw_at lw_m3 48 rfl) rfl
theorem q624 : (Jvm.Cond.methodLinkNest "FaceCoins" (156 : Nat) ({ cls := "FaceCoins$Law", name := "<init>", desc := "()V" } : Jvm.MethodName) "FaceCoins") ∈ lw_tbl := lw_at lw_m3 49 rfl
theorem q625 : (Jvm.Cond.methodLink "FaceCoins" (157 : Nat) ({ cls := "FaceCoins$LawReader", name := "read", desc := "(LFaceCoins$Law;)I" } : Jvm.MethodName)) ∈ lw_all := lw_g (lw_at lw_m3 50 rfl) rfl
theorem q650 : (Jvm.Cond.static ({ cls := "FaceCoins", name := "isIn", desc := "(III)Z" } : Jvm.MethodName)) ∈ lw_all := lw_g (lw_at lw_m3 75 rfl) rfl
theorem q651 : (Jvm.Cond.code ({ cls := "FaceCoins", name := "isIn", desc := "(III)Z" } : Jvm.MethodName) prog_1_method_7_code (3 : Nat) (Option.some Jvm.ClassFile.FieldType.boolean)) ∈ lw_all := lw_g (lw_at lw_m3 76 rfl) rfl
theorem q733 : (Jvm.Cond.static ({ cls := "FaceCoins", name := "has", desc := "(II)Z" } : Jvm.MethodName)) ∈ lw_all := lw_g (lw_at lw_m3 158 rfl) rfl
theorem q734 : (Jvm.Cond.code ({ cls := "FaceCoins", name := "has", desc := "(II)Z" } : Jvm.MethodName) prog_1_method_9_code (2 : Nat) (Option.some Jvm.ClassFile.FieldType.boolean)) ∈ lw_all := lw_g (lw_at lw_m3 159 rfl) rfl
theorem q771 : (Jvm.Cond.fieldLinkNest "FaceCoins" (217 : Nat) "FaceCoins$Who" "begs" "Z" "FaceCoins") ∈ lw_tbl := lw_at lw_m3 196 rfl
theorem q774 : (Jvm.Cond.fieldLinkNest "FaceCoins" (222 : Nat) "FaceCoins$Who" "owes" "Z" "FaceCoins") ∈ lw_tbl := lw_at lw_m3 199 rfl
theorem q814 : (Jvm.Cond.fieldLinkNest "FaceCoins" (240 : Nat) "FaceCoins$Mint" "loss" "I" "FaceCoins") ∈ lw_tbl := lw_at lw_m3 239 rfl
theorem q817 : (Jvm.Cond.fieldLinkNest "FaceCoins" (245 : Nat) "FaceCoins$Mint" "blur" "I" "FaceCoins") ∈ lw_tbl := lw_at lw_m4 2 rfl
theorem q844 : (Jvm.Cond.methodLink "FaceCoins" (161 : Nat) ({ cls := "FaceCoins$State", name := "begin", desc := "(LFaceCoins$Law;)V" } : Jvm.MethodName)) ∈ lw_all := lw_g (lw_at lw_m4 29 rfl) rfl
theorem q849 : (Jvm.Cond.instanceMethod ({ cls := "FaceCoins", name := "fault", desc := "()I" } : Jvm.MethodName)) ∈ lw_all := lw_g (lw_at lw_m4 34 rfl) rfl
theorem q850 : (Jvm.Cond.selects "FaceCoins" ({ cls := "FaceCoins", name := "fault", desc := "()I" } : Jvm.MethodName) ({ cls := "FaceCoins", name := "fault", desc := "()I" } : Jvm.MethodName)) ∈ lw_all := lw_g (lw_at lw_m4 35 rfl) rfl
theorem q851 : (Jvm.Cond.code ({ cls := "FaceCoins", name := "fault", desc := "()I" } : Jvm.MethodName) prog_1_method_11_code (1 : Nat) (Option.some Jvm.ClassFile.FieldType.int)) ∈ lw_all := lw_g (lw_at lw_m4 36 rfl) rfl
theorem q853 : (Jvm.Cond.instanceMethod ({ cls := "FaceCoins", name := "undo", desc := "()I" } : Jvm.MethodName)) ∈ lw_all := lw_g (lw_at lw_m4 38 rfl) rfl
theorem q854 : (Jvm.Cond.selects "FaceCoins" ({ cls := "FaceCoins", name := "undo", desc := "()I" } : Jvm.MethodName) ({ cls := "FaceCoins", name := "undo", desc := "()I" } : Jvm.MethodName)) ∈ lw_all := lw_g (lw_at lw_m4 39 rfl) rfl
theorem q855 : (Jvm.Cond.code ({ cls := "FaceCoins", name := "undo", desc := "()I" } : Jvm.MethodName) prog_1_method_13_code (1 : Nat) (Option.some Jvm.ClassFile.FieldType.int)) ∈ lw_all := lw_g (lw_at lw_m4 40 rfl) rfl
theorem q856 : (Jvm.Cond.methodLink "FaceCoins" (178 : Nat) ({ cls := "FaceCoins$State", name := "be", desc := "(LFaceCoins$State;)V" } : Jvm.MethodName)) ∈ lw_all := lw_g (lw_at lw_m4 41 rfl) rfl
theorem q864 : (Jvm.Cond.instanceMethod ({ cls := "FaceCoins", name := "coin", desc := "(III)I" } : Jvm.MethodName)) ∈ lw_all := lw_g (lw_at lw_m4 49 rfl) rfl
theorem q865 : (Jvm.Cond.selects "FaceCoins" ({ cls := "FaceCoins", name := "coin", desc := "(III)I" } : Jvm.MethodName) ({ cls := "FaceCoins", name := "coin", desc := "(III)I" } : Jvm.MethodName)) ∈ lw_all := lw_g (lw_at lw_m4 50 rfl) rfl
theorem q866 : (Jvm.Cond.code ({ cls := "FaceCoins", name := "coin", desc := "(III)I" } : Jvm.MethodName) prog_1_method_20_code (5 : Nat) (Option.some Jvm.ClassFile.FieldType.int)) ∈ lw_all := lw_g (lw_at lw_m4 51 rfl) rfl
theorem q867 : (Jvm.Cond.methodLink "FaceCoins" (257 : Nat) ({ cls := "FaceCoins", name := "isLiving", desc := "(I)Z" } : Jvm.MethodName)) ∈ lw_all := lw_g (lw_at lw_m4 52 rfl) rfl
theorem q868 : (Jvm.Cond.privateMethod ({ cls := "FaceCoins", name := "isLiving", desc := "(I)Z" } : Jvm.MethodName)) ∈ lw_tbl := lw_at lw_m4 53 rfl
theorem q869 : (Jvm.Cond.instanceMethod ({ cls := "FaceCoins", name := "isLiving", desc := "(I)Z" } : Jvm.MethodName)) ∈ lw_all := lw_g (lw_at lw_m4 54 rfl) rfl
theorem q870 : (Jvm.Cond.code ({ cls := "FaceCoins", name := "isLiving", desc := "(I)Z" } : Jvm.MethodName) prog_1_method_15_code (2 : Nat) (Option.some Jvm.ClassFile.FieldType.boolean)) ∈ lw_all := lw_g (lw_at lw_m4 55 rfl) rfl
theorem q871 : (Jvm.Cond.methodLink "FaceCoins" (193 : Nat) ({ cls := "FaceCoins", name := "isWho", desc := "(I)Z" } : Jvm.MethodName)) ∈ lw_all := lw_g (lw_at lw_m4 56 rfl) rfl
theorem q872 : (Jvm.Cond.privateMethod ({ cls := "FaceCoins", name := "isWho", desc := "(I)Z" } : Jvm.MethodName)) ∈ lw_tbl := lw_at lw_m4 57 rfl
theorem q873 : (Jvm.Cond.instanceMethod ({ cls := "FaceCoins", name := "isWho", desc := "(I)Z" } : Jvm.MethodName)) ∈ lw_all := lw_g (lw_at lw_m4 58 rfl) rfl
theorem q874 : (Jvm.Cond.code ({ cls := "FaceCoins", name := "isWho", desc := "(I)Z" } : Jvm.MethodName) prog_1_method_14_code (2 : Nat) (Option.some Jvm.ClassFile.FieldType.boolean)) ∈ lw_all := lw_g (lw_at lw_m4 59 rfl) rfl
theorem q875 : (Jvm.Cond.methodLink "FaceCoins" (189 : Nat) ({ cls := "FaceCoins", name := "isIn", desc := "(III)Z" } : Jvm.MethodName)) ∈ lw_all := lw_g (lw_at lw_m4 60 rfl) rfl
theorem q876 : (Jvm.Cond.methodLink "FaceCoins" (199 : Nat) ({ cls := "FaceCoins", name := "has", desc := "(II)Z" } : Jvm.MethodName)) ∈ lw_all := lw_g (lw_at lw_m4 61 rfl) rfl
theorem q877 : (Jvm.Cond.methodLink "FaceCoins" (233 : Nat) ({ cls := "FaceCoins", name := "isMint", desc := "(I)Z" } : Jvm.MethodName)) ∈ lw_all := lw_g (lw_at lw_m4 62 rfl) rfl
theorem q878 : (Jvm.Cond.privateMethod ({ cls := "FaceCoins", name := "isMint", desc := "(I)Z" } : Jvm.MethodName)) ∈ lw_tbl := lw_at lw_m4 63 rfl
theorem q879 : (Jvm.Cond.instanceMethod ({ cls := "FaceCoins", name := "isMint", desc := "(I)Z" } : Jvm.MethodName)) ∈ lw_all := lw_g (lw_at lw_m4 64 rfl) rfl
theorem q880 : (Jvm.Cond.code ({ cls := "FaceCoins", name := "isMint", desc := "(I)Z" } : Jvm.MethodName) prog_1_method_16_code (2 : Nat) (Option.some Jvm.ClassFile.FieldType.boolean)) ∈ lw_all := lw_g (lw_at lw_m4 65 rfl) rfl
theorem q881 : (Jvm.Cond.methodLink "FaceCoins" (260 : Nat) ({ cls := "FaceCoins$State", name := "bar", desc := "(III)I" } : Jvm.MethodName)) ∈ lw_all := lw_g (lw_at lw_m4 66 rfl) rfl
theorem q886 : (Jvm.Cond.methodLink "FaceCoins" (264 : Nat) ({ cls := "FaceCoins", name := "keep", desc := "()V" } : Jvm.MethodName)) ∈ lw_all := lw_g (lw_at lw_m4 71 rfl) rfl
theorem q887 : (Jvm.Cond.privateMethod ({ cls := "FaceCoins", name := "keep", desc := "()V" } : Jvm.MethodName)) ∈ lw_tbl := lw_at lw_m4 72 rfl
theorem q888 : (Jvm.Cond.instanceMethod ({ cls := "FaceCoins", name := "keep", desc := "()V" } : Jvm.MethodName)) ∈ lw_all := lw_g (lw_at lw_m4 73 rfl) rfl
theorem q889 : (Jvm.Cond.code ({ cls := "FaceCoins", name := "keep", desc := "()V" } : Jvm.MethodName) prog_1_method_12_code (3 : Nat) (Option.none : Option Jvm.ClassFile.FieldType)) ∈ lw_all := lw_g (lw_at lw_m4 74 rfl) rfl
theorem q890 : (Jvm.Cond.methodLink "FaceCoins" (274 : Nat) ({ cls := "FaceCoins$State", name := "strike", desc := "(IIIIZ)V" } : Jvm.MethodName)) ∈ lw_all := lw_g (lw_at lw_m4 75 rfl) rfl
theorem q895 : (Jvm.Cond.instanceMethod ({ cls := "FaceCoins", name := "face", desc := "(III)I" } : Jvm.MethodName)) ∈ lw_all := lw_g (lw_at lw_m4 80 rfl) rfl
theorem q896 : (Jvm.Cond.selects "FaceCoins" ({ cls := "FaceCoins", name := "face", desc := "(III)I" } : Jvm.MethodName) ({ cls := "FaceCoins", name := "face", desc := "(III)I" } : Jvm.MethodName)) ∈ lw_all := lw_g (lw_at lw_m4 81 rfl) rfl
theorem q897 : (Jvm.Cond.code ({ cls := "FaceCoins", name := "face", desc := "(III)I" } : Jvm.MethodName) prog_1_method_22_code (5 : Nat) (Option.some Jvm.ClassFile.FieldType.int)) ∈ lw_all := lw_g (lw_at lw_m4 82 rfl) rfl
theorem q898 : (Jvm.Cond.methodLink "FaceCoins" (278 : Nat) ({ cls := "FaceCoins", name := "isCoin", desc := "(I)Z" } : Jvm.MethodName)) ∈ lw_all := lw_g (lw_at lw_m4 83 rfl) rfl
theorem q899 : (Jvm.Cond.privateMethod ({ cls := "FaceCoins", name := "isCoin", desc := "(I)Z" } : Jvm.MethodName)) ∈ lw_tbl := lw_at lw_m4 84 rfl
theorem q900 : (Jvm.Cond.instanceMethod ({ cls := "FaceCoins", name := "isCoin", desc := "(I)Z" } : Jvm.MethodName)) ∈ lw_all := lw_g (lw_at lw_m4 85 rfl) rfl
theorem q901 : (Jvm.Cond.code ({ cls := "FaceCoins", name := "isCoin", desc := "(I)Z" } : Jvm.MethodName) prog_1_method_17_code (2 : Nat) (Option.some Jvm.ClassFile.FieldType.boolean)) ∈ lw_all := lw_g (lw_at lw_m4 86 rfl) rfl
theorem q903 : (Jvm.Cond.instanceMethod ({ cls := "FaceCoins", name := "value", desc := "(III)I" } : Jvm.MethodName)) ∈ lw_all := lw_g (lw_at lw_m4 88 rfl) rfl
theorem q904 : (Jvm.Cond.selects "FaceCoins" ({ cls := "FaceCoins", name := "value", desc := "(III)I" } : Jvm.MethodName) ({ cls := "FaceCoins", name := "value", desc := "(III)I" } : Jvm.MethodName)) ∈ lw_all := lw_g (lw_at lw_m4 89 rfl) rfl
theorem q905 : (Jvm.Cond.code ({ cls := "FaceCoins", name := "value", desc := "(III)I" } : Jvm.MethodName) prog_1_method_23_code (5 : Nat) (Option.some Jvm.ClassFile.FieldType.int)) ∈ lw_all := lw_g (lw_at lw_m4 90 rfl) rfl
theorem q906 : (Jvm.Cond.methodLink "FaceCoins" (292 : Nat) ({ cls := "FaceCoins$State", name := "luck", desc := "()I" } : Jvm.MethodName)) ∈ lw_all := lw_g (lw_at lw_m4 91 rfl) rfl
theorem q917 : (Jvm.Cond.methodLink "FaceCoins" (224 : Nat) ({ cls := "FaceCoins$State", name := "top", desc := "(I)I" } : Jvm.MethodName)) ∈ lw_all := lw_g (lw_at lw_m4 102 rfl) rfl
theorem q918 : (Jvm.Cond.methodLink "FaceCoins" (296 : Nat) ({ cls := "FaceCoins$State", name := "hundredths", desc := "(III)I" } : Jvm.MethodName)) ∈ lw_all := lw_g (lw_at lw_m4 103 rfl) rfl
theorem q922 : (Jvm.Cond.methodLink "FaceCoins" (299 : Nat) ({ cls := "FaceCoins$State", name := "value", desc := "(III)I" } : Jvm.MethodName)) ∈ lw_all := lw_g (lw_at lw_m4 107 rfl) rfl
theorem q928 : (Jvm.Cond.instanceMethod ({ cls := "FaceCoins", name := "luck", desc := "()I" } : Jvm.MethodName)) ∈ lw_all := lw_g (lw_at lw_m4 113 rfl) rfl
theorem q929 : (Jvm.Cond.selects "FaceCoins" ({ cls := "FaceCoins", name := "luck", desc := "()I" } : Jvm.MethodName) ({ cls := "FaceCoins", name := "luck", desc := "()I" } : Jvm.MethodName)) ∈ lw_all := lw_g (lw_at lw_m4 114 rfl) rfl
theorem q930 : (Jvm.Cond.code ({ cls := "FaceCoins", name := "luck", desc := "()I" } : Jvm.MethodName) prog_1_method_24_code (1 : Nat) (Option.some Jvm.ClassFile.FieldType.int)) ∈ lw_all := lw_g (lw_at lw_m4 115 rfl) rfl
theorem q932 : (Jvm.Cond.instanceMethod ({ cls := "FaceCoins", name := "bears", desc := "(II)I" } : Jvm.MethodName)) ∈ lw_all := lw_g (lw_at lw_m4 117 rfl) rfl
theorem q933 : (Jvm.Cond.selects "FaceCoins" ({ cls := "FaceCoins", name := "bears", desc := "(II)I" } : Jvm.MethodName) ({ cls := "FaceCoins", name := "bears", desc := "(II)I" } : Jvm.MethodName)) ∈ lw_all := lw_g (lw_at lw_m4 118 rfl) rfl
theorem q934 : (Jvm.Cond.code ({ cls := "FaceCoins", name := "bears", desc := "(II)I" } : Jvm.MethodName) prog_1_method_25_code (4 : Nat) (Option.some Jvm.ClassFile.FieldType.int)) ∈ lw_all := lw_g (lw_at lw_m4 119 rfl) rfl
theorem q936 : (Jvm.Cond.instanceMethod ({ cls := "FaceCoins", name := "sale", desc := "(IIII)I" } : Jvm.MethodName)) ∈ lw_all := lw_g (lw_at lw_m4 121 rfl) rfl
theorem q937 : (Jvm.Cond.selects "FaceCoins" ({ cls := "FaceCoins", name := "sale", desc := "(IIII)I" } : Jvm.MethodName) ({ cls := "FaceCoins", name := "sale", desc := "(IIII)I" } : Jvm.MethodName)) ∈ lw_all := lw_g (lw_at lw_m4 122 rfl) rfl
theorem q938 : (Jvm.Cond.code ({ cls := "FaceCoins", name := "sale", desc := "(IIII)I" } : Jvm.MethodName) prog_1_method_29_code (13 : Nat) (Option.some Jvm.ClassFile.FieldType.int)) ∈ lw_all := lw_g (lw_at lw_m4 123 rfl) rfl
theorem q939 : (Jvm.Cond.methodLink "FaceCoins" (332 : Nat) ({ cls := "FaceCoins", name := "areCoins", desc := "()Z" } : Jvm.MethodName)) ∈ lw_all := lw_g (lw_at lw_m4 124 rfl) rfl
theorem q940 : (Jvm.Cond.privateMethod ({ cls := "FaceCoins", name := "areCoins", desc := "()Z" } : Jvm.MethodName)) ∈ lw_tbl := lw_at lw_m4 125 rfl
theorem q941 : (Jvm.Cond.instanceMethod ({ cls := "FaceCoins", name := "areCoins", desc := "()Z" } : Jvm.MethodName)) ∈ lw_all := lw_g (lw_at lw_m4 126 rfl) rfl
theorem q942 : (Jvm.Cond.code ({ cls := "FaceCoins", name := "areCoins", desc := "()Z" } : Jvm.MethodName) prog_1_method_28_code (3 : Nat) (Option.some Jvm.ClassFile.FieldType.boolean)) ∈ lw_all := lw_g (lw_at lw_m4 127 rfl) rfl
theorem q943 : (Jvm.Cond.methodLink "FaceCoins" (329 : Nat) ({ cls := "FaceCoins", name := "one", desc := "(I)I" } : Jvm.MethodName)) ∈ lw_all := lw_g (lw_at lw_m4 128 rfl) rfl
theorem q944 : (Jvm.Cond.privateMethod ({ cls := "FaceCoins", name := "one", desc := "(I)I" } : Jvm.MethodName)) ∈ lw_tbl := lw_at lw_m4 129 rfl
theorem q945 : (Jvm.Cond.instanceMethod ({ cls := "FaceCoins", name := "one", desc := "(I)I" } : Jvm.MethodName)) ∈ lw_all := lw_g (lw_at lw_m4 130 rfl) rfl
theorem q946 : (Jvm.Cond.code ({ cls := "FaceCoins", name := "one", desc := "(I)I" } : Jvm.MethodName) prog_1_method_6_code (2 : Nat) (Option.some Jvm.ClassFile.FieldType.int)) ∈ lw_all := lw_g (lw_at lw_m4 131 rfl) rfl
theorem q947 : (Jvm.Cond.methodLink "FaceCoins" (336 : Nat) ({ cls := "java/lang/Math", name := "min", desc := "(II)I" } : Jvm.MethodName)) ∈ lw_all := lw_g (lw_at lw_m4 132 rfl) rfl
theorem q950 : (Jvm.Cond.methodLink "FaceCoins" (342 : Nat) ({ cls := "FaceCoins", name := "sell", desc := "(IIIIII)I" } : Jvm.MethodName)) ∈ lw_all := lw_g (lw_at lw_m4 135 rfl) rfl
theorem q951 : (Jvm.Cond.privateMethod ({ cls := "FaceCoins", name := "sell", desc := "(IIIIII)I" } : Jvm.MethodName)) ∈ lw_tbl := lw_at lw_m4 136 rfl
theorem q952 : (Jvm.Cond.instanceMethod ({ cls := "FaceCoins", name := "sell", desc := "(IIIIII)I" } : Jvm.MethodName)) ∈ lw_all := lw_g (lw_at lw_m4 137 rfl) rfl
theorem q953 : (Jvm.Cond.code ({ cls := "FaceCoins", name := "sell", desc := "(IIIIII)I" } : Jvm.MethodName) prog_1_method_26_code (8 : Nat) (Option.some Jvm.ClassFile.FieldType.int)) ∈ lw_all := lw_g (lw_at lw_m4 138 rfl) rfl
theorem q954 : (Jvm.Cond.methodLink "FaceCoins" (346 : Nat) ({ cls := "FaceCoins", name := "passes", desc := "(IIII)V" } : Jvm.MethodName)) ∈ lw_all := lw_g (lw_at lw_m4 139 rfl) rfl
theorem q955 : (Jvm.Cond.privateMethod ({ cls := "FaceCoins", name := "passes", desc := "(IIII)V" } : Jvm.MethodName)) ∈ lw_tbl := lw_at lw_m4 140 rfl
theorem q956 : (Jvm.Cond.instanceMethod ({ cls := "FaceCoins", name := "passes", desc := "(IIII)V" } : Jvm.MethodName)) ∈ lw_all := lw_g (lw_at lw_m4 141 rfl) rfl
theorem q957 : (Jvm.Cond.code ({ cls := "FaceCoins", name := "passes", desc := "(IIII)V" } : Jvm.MethodName) prog_1_method_27_code (5 : Nat) (Option.none : Option Jvm.ClassFile.FieldType)) ∈ lw_all := lw_g (lw_at lw_m4 142 rfl) rfl
theorem q959 : (Jvm.Cond.instanceMethod ({ cls := "FaceCoins", name := "sales", desc := "()I" } : Jvm.MethodName)) ∈ lw_all := lw_g (lw_at lw_m4 144 rfl) rfl
theorem q960 : (Jvm.Cond.selects "FaceCoins" ({ cls := "FaceCoins", name := "sales", desc := "()I" } : Jvm.MethodName) ({ cls := "FaceCoins", name := "sales", desc := "()I" } : Jvm.MethodName)) ∈ lw_all := lw_g (lw_at lw_m4 145 rfl) rfl
theorem q961 : (Jvm.Cond.code ({ cls := "FaceCoins", name := "sales", desc := "()I" } : Jvm.MethodName) prog_1_method_30_code (1 : Nat) (Option.some Jvm.ClassFile.FieldType.int)) ∈ lw_all := lw_g (lw_at lw_m4 146 rfl) rfl
theorem q963 : (Jvm.Cond.instanceMethod ({ cls := "FaceCoins", name := "payment", desc := "(IIII)I" } : Jvm.MethodName)) ∈ lw_all := lw_g (lw_at lw_m4 148 rfl) rfl
theorem q964 : (Jvm.Cond.selects "FaceCoins" ({ cls := "FaceCoins", name := "payment", desc := "(IIII)I" } : Jvm.MethodName) ({ cls := "FaceCoins", name := "payment", desc := "(IIII)I" } : Jvm.MethodName)) ∈ lw_all := lw_g (lw_at lw_m4 149 rfl) rfl
theorem q965 : (Jvm.Cond.code ({ cls := "FaceCoins", name := "payment", desc := "(IIII)I" } : Jvm.MethodName) prog_1_method_37_code (5 : Nat) (Option.some Jvm.ClassFile.FieldType.int)) ∈ lw_all := lw_g (lw_at lw_m4 150 rfl) rfl
theorem q966 : (Jvm.Cond.methodLink "FaceCoins" (369 : Nat) ({ cls := "FaceCoins", name := "isPayment", desc := "(IIII)Z" } : Jvm.MethodName)) ∈ lw_all := lw_g (lw_at lw_m4 151 rfl) rfl
theorem q967 : (Jvm.Cond.privateMethod ({ cls := "FaceCoins", name := "isPayment", desc := "(IIII)Z" } : Jvm.MethodName)) ∈ lw_tbl := lw_at lw_m4 152 rfl
theorem q968 : (Jvm.Cond.instanceMethod ({ cls := "FaceCoins", name := "isPayment", desc := "(IIII)Z" } : Jvm.MethodName)) ∈ lw_all := lw_g (lw_at lw_m4 153 rfl) rfl
theorem q969 : (Jvm.Cond.code ({ cls := "FaceCoins", name := "isPayment", desc := "(IIII)Z" } : Jvm.MethodName) prog_1_method_36_code (5 : Nat) (Option.some Jvm.ClassFile.FieldType.boolean)) ∈ lw_all := lw_g (lw_at lw_m4 154 rfl) rfl
theorem q970 : (Jvm.Cond.methodLink "FaceCoins" (373 : Nat) ({ cls := "FaceCoins", name := "finds", desc := "(IIII)Z" } : Jvm.MethodName)) ∈ lw_all := lw_g (lw_at lw_m4 155 rfl) rfl
theorem q971 : (Jvm.Cond.privateMethod ({ cls := "FaceCoins", name := "finds", desc := "(IIII)Z" } : Jvm.MethodName)) ∈ lw_tbl := lw_at lw_m4 156 rfl
theorem q972 : (Jvm.Cond.instanceMethod ({ cls := "FaceCoins", name := "finds", desc := "(IIII)Z" } : Jvm.MethodName)) ∈ lw_all := lw_g (lw_at lw_m4 157 rfl) rfl
theorem q973 : (Jvm.Cond.code ({ cls := "FaceCoins", name := "finds", desc := "(IIII)Z" } : Jvm.MethodName) prog_1_method_34_code (13 : Nat) (Option.some Jvm.ClassFile.FieldType.boolean)) ∈ lw_all := lw_g (lw_at lw_m4 158 rfl) rfl
theorem q974 : (Jvm.Cond.methodLink "FaceCoins" (353 : Nat) ({ cls := "FaceCoins", name := "worthOf", desc := "(IIIIII)I" } : Jvm.MethodName)) ∈ lw_all := lw_g (lw_at lw_m4 159 rfl) rfl
theorem q975 : (Jvm.Cond.privateMethod ({ cls := "FaceCoins", name := "worthOf", desc := "(IIIIII)I" } : Jvm.MethodName)) ∈ lw_tbl := lw_at lw_m4 160 rfl
theorem q976 : (Jvm.Cond.instanceMethod ({ cls := "FaceCoins", name := "worthOf", desc := "(IIIIII)I" } : Jvm.MethodName)) ∈ lw_all := lw_g (lw_at lw_m4 161 rfl) rfl
theorem q977 : (Jvm.Cond.code ({ cls := "FaceCoins", name := "worthOf", desc := "(IIIIII)I" } : Jvm.MethodName) prog_1_method_32_code (11 : Nat) (Option.some Jvm.ClassFile.FieldType.int)) ∈ lw_all := lw_g (lw_at lw_m4 162 rfl) rfl
theorem q978 : (Jvm.Cond.constant "FaceCoins" (356 : Nat) (1000000000 : Int32)) ∈ lw_all := lw_g (lw_at lw_m4 163 rfl) rfl
theorem q979 : (Jvm.Cond.methodLink "FaceCoins" (357 : Nat) ({ cls := "java/lang/Math", name := "max", desc := "(II)I" } : Jvm.MethodName)) ∈ lw_all := lw_g (lw_at lw_m4 164 rfl) rfl
theorem q980 : (Jvm.Cond.methodLink "FaceCoins" (360 : Nat) ({ cls := "FaceCoins", name := "cost", desc := "(I)I" } : Jvm.MethodName)) ∈ lw_all := lw_g (lw_at lw_m4 165 rfl) rfl
theorem q981 : (Jvm.Cond.privateMethod ({ cls := "FaceCoins", name := "cost", desc := "(I)I" } : Jvm.MethodName)) ∈ lw_tbl := lw_at lw_m4 166 rfl
theorem q982 : (Jvm.Cond.instanceMethod ({ cls := "FaceCoins", name := "cost", desc := "(I)I" } : Jvm.MethodName)) ∈ lw_all := lw_g (lw_at lw_m4 167 rfl) rfl
theorem q983 : (Jvm.Cond.code ({ cls := "FaceCoins", name := "cost", desc := "(I)I" } : Jvm.MethodName) prog_1_method_33_code (2 : Nat) (Option.some Jvm.ClassFile.FieldType.int)) ∈ lw_all := lw_g (lw_at lw_m4 168 rfl) rfl
theorem q984 : (Jvm.Cond.methodLink "FaceCoins" (366 : Nat) ({ cls := "FaceCoins", name := "optionOf", desc := "(II)I" } : Jvm.MethodName)) ∈ lw_all := lw_g (lw_at lw_m4 169 rfl) rfl
theorem q985 : (Jvm.Cond.privateMethod ({ cls := "FaceCoins", name := "optionOf", desc := "(II)I" } : Jvm.MethodName)) ∈ lw_tbl := lw_at lw_m4 170 rfl
theorem q986 : (Jvm.Cond.instanceMethod ({ cls := "FaceCoins", name := "optionOf", desc := "(II)I" } : Jvm.MethodName)) ∈ lw_all := lw_g (lw_at lw_m4 171 rfl) rfl
theorem q987 : (Jvm.Cond.code ({ cls := "FaceCoins", name := "optionOf", desc := "(II)I" } : Jvm.MethodName) prog_1_method_35_code (6 : Nat) (Option.some Jvm.ClassFile.FieldType.int)) ∈ lw_all := lw_g (lw_at lw_m4 172 rfl) rfl
theorem q989 : (Jvm.Cond.instanceMethod ({ cls := "FaceCoins", name := "paid", desc := "(I)I" } : Jvm.MethodName)) ∈ lw_all := lw_g (lw_at lw_m4 174 rfl) rfl
theorem q990 : (Jvm.Cond.selects "FaceCoins" ({ cls := "FaceCoins", name := "paid", desc := "(I)I" } : Jvm.MethodName) ({ cls := "FaceCoins", name := "paid", desc := "(I)I" } : Jvm.MethodName)) ∈ lw_all := lw_g (lw_at lw_m4 175 rfl) rfl
theorem q991 : (Jvm.Cond.code ({ cls := "FaceCoins", name := "paid", desc := "(I)I" } : Jvm.MethodName) prog_1_method_38_code (2 : Nat) (Option.some Jvm.ClassFile.FieldType.int)) ∈ lw_all := lw_g (lw_at lw_m4 176 rfl) rfl
theorem q993 : (Jvm.Cond.instanceMethod ({ cls := "FaceCoins", name := "buy", desc := "(IIII)I" } : Jvm.MethodName)) ∈ lw_all := lw_g (lw_at lw_m4 178 rfl) rfl
theorem q994 : (Jvm.Cond.selects "FaceCoins" ({ cls := "FaceCoins", name := "buy", desc := "(IIII)I" } : Jvm.MethodName) ({ cls := "FaceCoins", name := "buy", desc := "(IIII)I" } : Jvm.MethodName)) ∈ lw_all := lw_g (lw_at lw_m4 179 rfl) rfl
theorem q995 : (Jvm.Cond.code ({ cls := "FaceCoins", name := "buy", desc := "(IIII)I" } : Jvm.MethodName) prog_1_method_41_code (5 : Nat) (Option.some Jvm.ClassFile.FieldType.int)) ∈ lw_all := lw_g (lw_at lw_m4 180 rfl) rfl
theorem q996 : (Jvm.Cond.methodLink "FaceCoins" (376 : Nat) ({ cls := "FaceCoins", name := "hasRoom", desc := "()Z" } : Jvm.MethodName)) ∈ lw_all := lw_g (lw_at lw_m4 181 rfl) rfl
theorem q997 : (Jvm.Cond.privateMethod ({ cls := "FaceCoins", name := "hasRoom", desc := "()Z" } : Jvm.MethodName)) ∈ lw_tbl := lw_at lw_m4 182 rfl
theorem q998 : (Jvm.Cond.instanceMethod ({ cls := "FaceCoins", name := "hasRoom", desc := "()Z" } : Jvm.MethodName)) ∈ lw_all := lw_g (lw_at lw_m4 183 rfl) rfl
theorem q999 : (Jvm.Cond.code ({ cls := "FaceCoins", name := "hasRoom", desc := "()Z" } : Jvm.MethodName) prog_1_method_39_code (3 : Nat) (Option.some Jvm.ClassFile.FieldType.boolean)) ∈ lw_all := lw_g (lw_at lw_m4 184 rfl) rfl
theorem q1000 : (Jvm.Cond.methodLink "FaceCoins" (379 : Nat) ({ cls := "FaceCoins", name := "pays", desc := "(IIII)V" } : Jvm.MethodName)) ∈ lw_all := lw_g (lw_at lw_m4 185 rfl) rfl
theorem q1001 : (Jvm.Cond.privateMethod ({ cls := "FaceCoins", name := "pays", desc := "(IIII)V" } : Jvm.MethodName)) ∈ lw_tbl := lw_at lw_m4 186 rfl
theorem q1002 : (Jvm.Cond.instanceMethod ({ cls := "FaceCoins", name := "pays", desc := "(IIII)V" } : Jvm.MethodName)) ∈ lw_all := lw_g (lw_at lw_m4 187 rfl) rfl
theorem q1003 : (Jvm.Cond.code ({ cls := "FaceCoins", name := "pays", desc := "(IIII)V" } : Jvm.MethodName) prog_1_method_40_code (9 : Nat) (Option.none : Option Jvm.ClassFile.FieldType)) ∈ lw_all := lw_g (lw_at lw_m4 188 rfl) rfl
theorem q1005 : (Jvm.Cond.instanceMethod ({ cls := "FaceCoins", name := "steal", desc := "(II)Z" } : Jvm.MethodName)) ∈ lw_all := lw_g (lw_at lw_m4 190 rfl) rfl
theorem q1006 : (Jvm.Cond.selects "FaceCoins" ({ cls := "FaceCoins", name := "steal", desc := "(II)Z" } : Jvm.MethodName) ({ cls := "FaceCoins", name := "steal", desc := "(II)Z" } : Jvm.MethodName)) ∈ lw_all := lw_g (lw_at lw_m4 191 rfl) rfl
theorem q1007 : (Jvm.Cond.code ({ cls := "FaceCoins", name := "steal", desc := "(II)Z" } : Jvm.MethodName) prog_1_method_42_code (3 : Nat) (Option.some Jvm.ClassFile.FieldType.boolean)) ∈ lw_all := lw_g (lw_at lw_m4 192 rfl) rfl
theorem q1009 : (Jvm.Cond.instanceMethod ({ cls := "FaceCoins", name := "forge", desc := "(II)I" } : Jvm.MethodName)) ∈ lw_all := lw_g (lw_at lw_m4 194 rfl) rfl
theorem q1010 : (Jvm.Cond.selects "FaceCoins" ({ cls := "FaceCoins", name := "forge", desc := "(II)I" } : Jvm.MethodName) ({ cls := "FaceCoins", name := "forge", desc := "(II)I" } : Jvm.MethodName)) ∈ lw_all := lw_g (lw_at lw_m4 195 rfl) rfl
theorem q1011 : (Jvm.Cond.code ({ cls := "FaceCoins", name := "forge", desc := "(II)I" } : Jvm.MethodName) prog_1_method_43_code (4 : Nat) (Option.some Jvm.ClassFile.FieldType.int)) ∈ lw_all := lw_g (lw_at lw_m4 196 rfl) rfl
theorem q1013 : (Jvm.Cond.instanceMethod ({ cls := "FaceCoins", name := "day", desc := "()I" } : Jvm.MethodName)) ∈ lw_all := lw_g (lw_at lw_m4 198 rfl) rfl
theorem q1014 : (Jvm.Cond.selects "FaceCoins" ({ cls := "FaceCoins", name := "day", desc := "()I" } : Jvm.MethodName) ({ cls := "FaceCoins", name := "day", desc := "()I" } : Jvm.MethodName)) ∈ lw_all := lw_g (lw_at lw_m4 199 rfl) rfl
theorem q1015 : (Jvm.Cond.code ({ cls := "FaceCoins", name := "day", desc := "()I" } : Jvm.MethodName) prog_1_method_44_code (1 : Nat) (Option.some Jvm.ClassFile.FieldType.int)) ∈ lw_all := lw_g (lw_at lw_m4 200 rfl) rfl
theorem q1016 : (Jvm.Cond.methodLink "FaceCoins" (388 : Nat) ({ cls := "FaceCoins$State", name := "backs", desc := "()V" } : Jvm.MethodName)) ∈ lw_all := lw_g (lw_at lw_m4 201 rfl) rfl
theorem q1021 : (Jvm.Cond.instanceMethod ({ cls := "FaceCoins", name := "rob", desc := "(II)Z" } : Jvm.MethodName)) ∈ lw_all := lw_g (lw_at lw_m4 206 rfl) rfl
theorem q1022 : (Jvm.Cond.selects "FaceCoins" ({ cls := "FaceCoins", name := "rob", desc := "(II)Z" } : Jvm.MethodName) ({ cls := "FaceCoins", name := "rob", desc := "(II)Z" } : Jvm.MethodName)) ∈ lw_all := lw_g (lw_at lw_m4 207 rfl) rfl
theorem q1023 : (Jvm.Cond.code ({ cls := "FaceCoins", name := "rob", desc := "(II)Z" } : Jvm.MethodName) prog_1_method_45_code (3 : Nat) (Option.some Jvm.ClassFile.FieldType.boolean)) ∈ lw_all := lw_g (lw_at lw_m4 208 rfl) rfl
theorem q1025 : (Jvm.Cond.instanceMethod ({ cls := "FaceCoins", name := "dies", desc := "(II)I" } : Jvm.MethodName)) ∈ lw_all := lw_g (lw_at lw_m4 210 rfl) rfl
theorem q1026 : (Jvm.Cond.selects "FaceCoins" ({ cls := "FaceCoins", name := "dies", desc := "(II)I" } : Jvm.MethodName) ({ cls := "FaceCoins", name := "dies", desc := "(II)I" } : Jvm.MethodName)) ∈ lw_all := lw_g (lw_at lw_m4 211 rfl) rfl
theorem q1027 : (Jvm.Cond.code ({ cls := "FaceCoins", name := "dies", desc := "(II)I" } : Jvm.MethodName) prog_1_method_46_code (5 : Nat) (Option.some Jvm.ClassFile.FieldType.int)) ∈ lw_all := lw_g (lw_at lw_m4 212 rfl) rfl
theorem q1029 : (Jvm.Cond.instanceMethod ({ cls := "FaceCoins", name := "close", desc := "(I)Z" } : Jvm.MethodName)) ∈ lw_all := lw_g (lw_at lw_m4 214 rfl) rfl
theorem q1030 : (Jvm.Cond.selects "FaceCoins" ({ cls := "FaceCoins", name := "close", desc := "(I)Z" } : Jvm.MethodName) ({ cls := "FaceCoins", name := "close", desc := "(I)Z" } : Jvm.MethodName)) ∈ lw_all := lw_g (lw_at lw_m4 215 rfl) rfl
theorem q1031 : (Jvm.Cond.code ({ cls := "FaceCoins", name := "close", desc := "(I)Z" } : Jvm.MethodName) prog_1_method_47_code (2 : Nat) (Option.some Jvm.ClassFile.FieldType.boolean)) ∈ lw_all := lw_g (lw_at lw_m4 216 rfl) rfl
theorem q1033 : (Jvm.Cond.instanceMethod ({ cls := "FaceCoins", name := "strokes", desc := "()I" } : Jvm.MethodName)) ∈ lw_all := lw_g (lw_at lw_m4 218 rfl) rfl
theorem q1034 : (Jvm.Cond.selects "FaceCoins" ({ cls := "FaceCoins", name := "strokes", desc := "()I" } : Jvm.MethodName) ({ cls := "FaceCoins", name := "strokes", desc := "()I" } : Jvm.MethodName)) ∈ lw_all := lw_g (lw_at lw_m4 219 rfl) rfl
theorem q1035 : (Jvm.Cond.code ({ cls := "FaceCoins", name := "strokes", desc := "()I" } : Jvm.MethodName) prog_1_method_48_code (1 : Nat) (Option.some Jvm.ClassFile.FieldType.int)) ∈ lw_all := lw_g (lw_at lw_m4 220 rfl) rfl
theorem q1037 : (Jvm.Cond.instanceMethod ({ cls := "FaceCoins", name := "foreign", desc := "(I)I" } : Jvm.MethodName)) ∈ lw_all := lw_g (lw_at lw_m4 222 rfl) rfl
theorem q1038 : (Jvm.Cond.selects "FaceCoins" ({ cls := "FaceCoins", name := "foreign", desc := "(I)I" } : Jvm.MethodName) ({ cls := "FaceCoins", name := "foreign", desc := "(I)I" } : Jvm.MethodName)) ∈ lw_all := lw_g (lw_at lw_m4 223 rfl) rfl
theorem q1039 : (Jvm.Cond.code ({ cls := "FaceCoins", name := "foreign", desc := "(I)I" } : Jvm.MethodName) prog_1_method_51_code (4 : Nat) (Option.some Jvm.ClassFile.FieldType.int)) ∈ lw_all := lw_g (lw_at lw_m4 224 rfl) rfl
theorem q1041 : (Jvm.Cond.instanceMethod ({ cls := "FaceCoins", name := "silver", desc := "(I)I" } : Jvm.MethodName)) ∈ lw_all := lw_g (lw_at lw_m4 226 rfl) rfl
theorem q1042 : (Jvm.Cond.selects "FaceCoins" ({ cls := "FaceCoins", name := "silver", desc := "(I)I" } : Jvm.MethodName) ({ cls := "FaceCoins", name := "silver", desc := "(I)I" } : Jvm.MethodName)) ∈ lw_all := lw_g (lw_at lw_m4 227 rfl) rfl
theorem q1043 : (Jvm.Cond.code ({ cls := "FaceCoins", name := "silver", desc := "(I)I" } : Jvm.MethodName) prog_1_method_52_code (4 : Nat) (Option.some Jvm.ClassFile.FieldType.int)) ∈ lw_all := lw_g (lw_at lw_m4 228 rfl) rfl
theorem q1045 : (Jvm.Cond.instanceMethod ({ cls := "FaceCoins", name := "rows", desc := "(III)I" } : Jvm.MethodName)) ∈ lw_all := lw_g (lw_at lw_m4 230 rfl) rfl
theorem q1046 : (Jvm.Cond.selects "FaceCoins" ({ cls := "FaceCoins", name := "rows", desc := "(III)I" } : Jvm.MethodName) ({ cls := "FaceCoins", name := "rows", desc := "(III)I" } : Jvm.MethodName)) ∈ lw_all := lw_g (lw_at lw_m4 231 rfl) rfl
theorem q1047 : (Jvm.Cond.code ({ cls := "FaceCoins", name := "rows", desc := "(III)I" } : Jvm.MethodName) prog_1_method_55_code (7 : Nat) (Option.some Jvm.ClassFile.FieldType.int)) ∈ lw_all := lw_g (lw_at lw_m4 232 rfl) rfl
theorem q1048 : (Jvm.Cond.constantLong "FaceCoins" (422 : Nat) (60001 : Int64)) ∈ lw_all := lw_g (lw_at lw_m4 233 rfl) rfl
theorem q1049 : (Jvm.Cond.methodLink "FaceCoins" (424 : Nat) ({ cls := "java/lang/Math", name := "min", desc := "(JJ)J" } : Jvm.MethodName)) ∈ lw_all := lw_g (lw_at lw_m4 234 rfl) rfl
theorem q1052 : (Jvm.Cond.constantLong "FaceCoins" (427 : Nat) (60000 : Int64)) ∈ lw_all := lw_g (lw_at lw_m4 237 rfl) rfl
theorem q1053 : (Jvm.Cond.methodLink "FaceCoins" (418 : Nat) ({ cls := "FaceCoins", name := "rowsFrom", desc := "(IIII)I" } : Jvm.MethodName)) ∈ lw_all := lw_g (lw_at lw_m4 238 rfl) rfl
theorem q1054 : (Jvm.Cond.privateMethod ({ cls := "FaceCoins", name := "rowsFrom", desc := "(IIII)I" } : Jvm.MethodName)) ∈ lw_tbl := lw_at lw_m4 239 rfl
theorem q1055 : (Jvm.Cond.instanceMethod ({ cls := "FaceCoins", name := "rowsFrom", desc := "(IIII)I" } : Jvm.MethodName)) ∈ lw_all := lw_g (lw_at lw_m5 0 rfl) rfl
theorem q1056 : (Jvm.Cond.code ({ cls := "FaceCoins", name := "rowsFrom", desc := "(IIII)I" } : Jvm.MethodName) prog_1_method_54_code (9 : Nat) (Option.some Jvm.ClassFile.FieldType.int)) ∈ lw_all := lw_g (lw_at lw_m5 1 rfl) rfl
theorem q1057 : (Jvm.Cond.methodLink "FaceCoins" (413 : Nat) ({ cls := "FaceCoins", name := "looks", desc := "(III)Z" } : Jvm.MethodName)) ∈ lw_all := lw_g (lw_at lw_m5 2 rfl) rfl
theorem q1058 : (Jvm.Cond.privateMethod ({ cls := "FaceCoins", name := "looks", desc := "(III)Z" } : Jvm.MethodName)) ∈ lw_tbl := lw_at lw_m5 3 rfl
theorem q1059 : (Jvm.Cond.instanceMethod ({ cls := "FaceCoins", name := "looks", desc := "(III)Z" } : Jvm.MethodName)) ∈ lw_all := lw_g (lw_at lw_m5 4 rfl) rfl
theorem q1060 : (Jvm.Cond.code ({ cls := "FaceCoins", name := "looks", desc := "(III)Z" } : Jvm.MethodName) prog_1_method_53_code (8 : Nat) (Option.some Jvm.ClassFile.FieldType.boolean)) ∈ lw_all := lw_g (lw_at lw_m5 5 rfl) rfl
theorem q1062 : (Jvm.Cond.instanceMethod ({ cls := "FaceCoins", name := "could", desc := "(II)I" } : Jvm.MethodName)) ∈ lw_all := lw_g (lw_at lw_m5 7 rfl) rfl
theorem q1063 : (Jvm.Cond.selects "FaceCoins" ({ cls := "FaceCoins", name := "could", desc := "(II)I" } : Jvm.MethodName) ({ cls := "FaceCoins", name := "could", desc := "(II)I" } : Jvm.MethodName)) ∈ lw_all := lw_g (lw_at lw_m5 8 rfl) rfl
theorem q1064 : (Jvm.Cond.code ({ cls := "FaceCoins", name := "could", desc := "(II)I" } : Jvm.MethodName) prog_1_method_56_code (3 : Nat) (Option.some Jvm.ClassFile.FieldType.int)) ∈ lw_all := lw_g (lw_at lw_m5 9 rfl) rfl
theorem q1066 : (Jvm.Cond.instanceMethod ({ cls := "FaceCoins", name := "market", desc := "(II)I" } : Jvm.MethodName)) ∈ lw_all := lw_g (lw_at lw_m5 11 rfl) rfl
theorem q1067 : (Jvm.Cond.selects "FaceCoins" ({ cls := "FaceCoins", name := "market", desc := "(II)I" } : Jvm.MethodName) ({ cls := "FaceCoins", name := "market", desc := "(II)I" } : Jvm.MethodName)) ∈ lw_all := lw_g (lw_at lw_m5 12 rfl) rfl
theorem q1068 : (Jvm.Cond.code ({ cls := "FaceCoins", name := "market", desc := "(II)I" } : Jvm.MethodName) prog_1_method_58_code (10 : Nat) (Option.some Jvm.ClassFile.FieldType.int)) ∈ lw_all := lw_g (lw_at lw_m5 13 rfl) rfl
theorem q1069 : (Jvm.Cond.methodLink "FaceCoins" (435 : Nat) ({ cls := "java/lang/System", name := "arraycopy", desc := "(Ljava/lang/Object;ILjava/lang/Object;II)V" } : Jvm.MethodName)) ∈ lw_all := lw_g (lw_at lw_m5 14 rfl) rfl
theorem q1070 : (Jvm.Cond.methodLink "FaceCoins" (441 : Nat) ({ cls := "FaceCoins", name := "draw", desc := "(I)I" } : Jvm.MethodName)) ∈ lw_all := lw_g (lw_at lw_m5 15 rfl) rfl
theorem q1071 : (Jvm.Cond.privateMethod ({ cls := "FaceCoins", name := "draw", desc := "(I)I" } : Jvm.MethodName)) ∈ lw_tbl := lw_at lw_m5 16 rfl
theorem q1072 : (Jvm.Cond.instanceMethod ({ cls := "FaceCoins", name := "draw", desc := "(I)I" } : Jvm.MethodName)) ∈ lw_all := lw_g (lw_at lw_m5 17 rfl) rfl
theorem q1073 : (Jvm.Cond.code ({ cls := "FaceCoins", name := "draw", desc := "(I)I" } : Jvm.MethodName) prog_1_method_57_code (2 : Nat) (Option.some Jvm.ClassFile.FieldType.int)) ∈ lw_all := lw_g (lw_at lw_m5 18 rfl) rfl
theorem q1074 : (Jvm.Cond.constant "FaceCoins" (434 : Nat) (1103515245 : Int32)) ∈ lw_all := lw_g (lw_at lw_m5 19 rfl) rfl
theorem q1076 : (Jvm.Cond.instanceMethod ({ cls := "FaceCoins", name := "sentence", desc := "()I" } : Jvm.MethodName)) ∈ lw_all := lw_g (lw_at lw_m5 21 rfl) rfl
theorem q1077 : (Jvm.Cond.selects "FaceCoins" ({ cls := "FaceCoins", name := "sentence", desc := "()I" } : Jvm.MethodName) ({ cls := "FaceCoins", name := "sentence", desc := "()I" } : Jvm.MethodName)) ∈ lw_all := lw_g (lw_at lw_m5 22 rfl) rfl
theorem q1078 : (Jvm.Cond.codeWith ({ cls := "FaceCoins", name := "sentence", desc := "()I" } : Jvm.MethodName) prog_1_method_59_code (2 : Nat) (Option.some Jvm.ClassFile.FieldType.int) [((9 : Nat), (27 : Nat), (28 : Nat), (13 : Nat))]) ∈ lw_all := lw_g (lw_at lw_m5 23 rfl) rfl
theorem q1079 : (Jvm.Cond.methodLink "FaceCoins" (444 : Nat) ({ cls := "FaceCoins$SentenceReader", name := "read", desc := "()LFaceCoins$Cond;" } : Jvm.MethodName)) ∈ lw_all := lw_g (lw_at lw_m5 24 rfl) rfl
theorem q1192 : (Jvm.Cond.instanceMethod ({ cls := "FaceCoins", name := "said", desc := "(I)I" } : Jvm.MethodName)) ∈ lw_all := lw_g (lw_at lw_m5 137 rfl) rfl
theorem q1193 : (Jvm.Cond.selects "FaceCoins" ({ cls := "FaceCoins", name := "said", desc := "(I)I" } : Jvm.MethodName) ({ cls := "FaceCoins", name := "said", desc := "(I)I" } : Jvm.MethodName)) ∈ lw_all := lw_g (lw_at lw_m5 138 rfl) rfl
theorem q1194 : (Jvm.Cond.code ({ cls := "FaceCoins", name := "said", desc := "(I)I" } : Jvm.MethodName) prog_1_method_60_code (4 : Nat) (Option.some Jvm.ClassFile.FieldType.int)) ∈ lw_all := lw_g (lw_at lw_m5 139 rfl) rfl
theorem q1195 : (Jvm.Cond.methodLink "FaceCoins" (450 : Nat) ({ cls := "FaceCoins$Cond", name := "is", desc := "(LFaceCoins$State;I)Z" } : Jvm.MethodName)) ∈ lw_all := lw_g (lw_at lw_m5 140 rfl) rfl
theorem q1227 : (Jvm.Cond.instanceMethod ({ cls := "FaceCoins", name := "image", desc := "(I)Z" } : Jvm.MethodName)) ∈ lw_all := lw_g (lw_at lw_m5 172 rfl) rfl
theorem q1228 : (Jvm.Cond.selects "FaceCoins" ({ cls := "FaceCoins", name := "image", desc := "(I)Z" } : Jvm.MethodName) ({ cls := "FaceCoins", name := "image", desc := "(I)Z" } : Jvm.MethodName)) ∈ lw_all := lw_g (lw_at lw_m5 173 rfl) rfl
theorem q1229 : (Jvm.Cond.code ({ cls := "FaceCoins", name := "image", desc := "(I)Z" } : Jvm.MethodName) prog_1_method_61_code (2 : Nat) (Option.some Jvm.ClassFile.FieldType.boolean)) ∈ lw_all := lw_g (lw_at lw_m5 174 rfl) rfl
theorem q1231 : (Jvm.Cond.instanceMethod ({ cls := "FaceCoins", name := "restore", desc := "(I)Z" } : Jvm.MethodName)) ∈ lw_all := lw_g (lw_at lw_m5 176 rfl) rfl
theorem q1232 : (Jvm.Cond.selects "FaceCoins" ({ cls := "FaceCoins", name := "restore", desc := "(I)Z" } : Jvm.MethodName) ({ cls := "FaceCoins", name := "restore", desc := "(I)Z" } : Jvm.MethodName)) ∈ lw_all := lw_g (lw_at lw_m5 177 rfl) rfl
theorem q1233 : (Jvm.Cond.code ({ cls := "FaceCoins", name := "restore", desc := "(I)Z" } : Jvm.MethodName) prog_1_method_62_code (2 : Nat) (Option.some Jvm.ClassFile.FieldType.boolean)) ∈ lw_all := lw_g (lw_at lw_m5 178 rfl) rfl
theorem q1235 : (Jvm.Cond.instanceMethod ({ cls := "FaceCoins", name := "count", desc := "(I)I" } : Jvm.MethodName)) ∈ lw_all := lw_g (lw_at lw_m5 180 rfl) rfl
theorem q1236 : (Jvm.Cond.selects "FaceCoins" ({ cls := "FaceCoins", name := "count", desc := "(I)I" } : Jvm.MethodName) ({ cls := "FaceCoins", name := "count", desc := "(I)I" } : Jvm.MethodName)) ∈ lw_all := lw_g (lw_at lw_m5 181 rfl) rfl
theorem q1237 : (Jvm.Cond.code ({ cls := "FaceCoins", name := "count", desc := "(I)I" } : Jvm.MethodName) prog_1_method_63_code (2 : Nat) (Option.some Jvm.ClassFile.FieldType.int)) ∈ lw_all := lw_g (lw_at lw_m5 182 rfl) rfl
theorem q1243 : (Jvm.Cond.instanceMethod ({ cls := "FaceCoins", name := "who", desc := "(II)I" } : Jvm.MethodName)) ∈ lw_all := lw_g (lw_at lw_m5 188 rfl) rfl
theorem q1244 : (Jvm.Cond.selects "FaceCoins" ({ cls := "FaceCoins", name := "who", desc := "(II)I" } : Jvm.MethodName) ({ cls := "FaceCoins", name := "who", desc := "(II)I" } : Jvm.MethodName)) ∈ lw_all := lw_g (lw_at lw_m5 189 rfl) rfl
theorem q1245 : (Jvm.Cond.code ({ cls := "FaceCoins", name := "who", desc := "(II)I" } : Jvm.MethodName) prog_1_method_18_code (5 : Nat) (Option.some Jvm.ClassFile.FieldType.int)) ∈ lw_all := lw_g (lw_at lw_m5 190 rfl) rfl
theorem q1246 : (Jvm.Cond.methodLink "FaceCoins" (209 : Nat) ({ cls := "FaceCoins", name := "must", desc := "(Z)V" } : Jvm.MethodName)) ∈ lw_all := lw_g (lw_at lw_m5 191 rfl) rfl
theorem q1247 : (Jvm.Cond.static ({ cls := "FaceCoins", name := "must", desc := "(Z)V" } : Jvm.MethodName)) ∈ lw_all := lw_g (lw_at lw_m5 192 rfl) rfl
theorem q1248 : (Jvm.Cond.code ({ cls := "FaceCoins", name := "must", desc := "(Z)V" } : Jvm.MethodName) prog_1_method_8_code (1 : Nat) (Option.none : Option Jvm.ClassFile.FieldType)) ∈ lw_all := lw_g (lw_at lw_m5 193 rfl) rfl
theorem q1249 : (Jvm.Cond.classLink "FaceCoins" (145 : Nat) "java/util/NoSuchElementException") ∈ lw_all := lw_g (lw_at lw_m5 194 rfl) rfl
theorem q1260 : (Jvm.Cond.methodLink "FaceCoins" (147 : Nat) ({ cls := "java/util/NoSuchElementException", name := "<init>", desc := "()V" } : Jvm.MethodName)) ∈ lw_all := lw_g (lw_at lw_m5 205 rfl) rfl
theorem q1276 : (Jvm.Cond.instanceMethod ({ cls := "FaceCoins", name := "mint", desc := "(II)I" } : Jvm.MethodName)) ∈ lw_all := lw_g (lw_at lw_m5 221 rfl) rfl
theorem q1277 : (Jvm.Cond.selects "FaceCoins" ({ cls := "FaceCoins", name := "mint", desc := "(II)I" } : Jvm.MethodName) ({ cls := "FaceCoins", name := "mint", desc := "(II)I" } : Jvm.MethodName)) ∈ lw_all := lw_g (lw_at lw_m5 222 rfl) rfl
theorem q1278 : (Jvm.Cond.code ({ cls := "FaceCoins", name := "mint", desc := "(II)I" } : Jvm.MethodName) prog_1_method_19_code (5 : Nat) (Option.some Jvm.ClassFile.FieldType.int)) ∈ lw_all := lw_g (lw_at lw_m5 223 rfl) rfl
theorem q1283 : (Jvm.Cond.instanceMethod ({ cls := "FaceCoins", name := "of", desc := "(II)I" } : Jvm.MethodName)) ∈ lw_all := lw_g (lw_at lw_m5 228 rfl) rfl
theorem q1284 : (Jvm.Cond.selects "FaceCoins" ({ cls := "FaceCoins", name := "of", desc := "(II)I" } : Jvm.MethodName) ({ cls := "FaceCoins", name := "of", desc := "(II)I" } : Jvm.MethodName)) ∈ lw_all := lw_g (lw_at lw_m5 229 rfl) rfl
theorem q1285 : (Jvm.Cond.code ({ cls := "FaceCoins", name := "of", desc := "(II)I" } : Jvm.MethodName) prog_1_method_21_code (3 : Nat) (Option.some Jvm.ClassFile.FieldType.int)) ∈ lw_all := lw_g (lw_at lw_m5 230 rfl) rfl
theorem q1286 : (Jvm.Cond.methodLink "FaceCoins" (281 : Nat) ({ cls := "FaceCoins$State", name := "showsFalse", desc := "(I)Z" } : Jvm.MethodName)) ∈ lw_all := lw_g (lw_at lw_m5 231 rfl) rfl
theorem q1291 : (Jvm.Cond.instanceMethod ({ cls := "FaceCoins", name := "sold", desc := "(II)I" } : Jvm.MethodName)) ∈ lw_all := lw_g (lw_at lw_m5 236 rfl) rfl
theorem q1292 : (Jvm.Cond.selects "FaceCoins" ({ cls := "FaceCoins", name := "sold", desc := "(II)I" } : Jvm.MethodName) ({ cls := "FaceCoins", name := "sold", desc := "(II)I" } : Jvm.MethodName)) ∈ lw_all := lw_g (lw_at lw_m5 237 rfl) rfl
theorem q1293 : (Jvm.Cond.code ({ cls := "FaceCoins", name := "sold", desc := "(II)I" } : Jvm.MethodName) prog_1_method_31_code (3 : Nat) (Option.some Jvm.ClassFile.FieldType.int)) ∈ lw_all := lw_g (lw_at lw_m5 238 rfl) rfl
theorem q1298 : (Jvm.Cond.instanceMethod ({ cls := "FaceCoins", name := "stroke", desc := "(II)I" } : Jvm.MethodName)) ∈ lw_all := lw_g (lw_at lw_m6 3 rfl) rfl
theorem q1299 : (Jvm.Cond.selects "FaceCoins" ({ cls := "FaceCoins", name := "stroke", desc := "(II)I" } : Jvm.MethodName) ({ cls := "FaceCoins", name := "stroke", desc := "(II)I" } : Jvm.MethodName)) ∈ lw_all := lw_g (lw_at lw_m6 4 rfl) rfl
theorem q1300 : (Jvm.Cond.code ({ cls := "FaceCoins", name := "stroke", desc := "(II)I" } : Jvm.MethodName) prog_1_method_50_code (3 : Nat) (Option.some Jvm.ClassFile.FieldType.int)) ∈ lw_all := lw_g (lw_at lw_m6 5 rfl) rfl
theorem q1301 : (Jvm.Cond.methodLink "FaceCoins" (407 : Nat) ({ cls := "FaceCoins", name := "isShown", desc := "(I)Z" } : Jvm.MethodName)) ∈ lw_all := lw_g (lw_at lw_m6 6 rfl) rfl
theorem q1302 : (Jvm.Cond.privateMethod ({ cls := "FaceCoins", name := "isShown", desc := "(I)Z" } : Jvm.MethodName)) ∈ lw_tbl := lw_at lw_m6 7 rfl
theorem q1303 : (Jvm.Cond.instanceMethod ({ cls := "FaceCoins", name := "isShown", desc := "(I)Z" } : Jvm.MethodName)) ∈ lw_all := lw_g (lw_at lw_m6 8 rfl) rfl
theorem q1304 : (Jvm.Cond.code ({ cls := "FaceCoins", name := "isShown", desc := "(I)Z" } : Jvm.MethodName) prog_1_method_49_code (4 : Nat) (Option.some Jvm.ClassFile.FieldType.boolean)) ∈ lw_all := lw_g (lw_at lw_m6 9 rfl) rfl
theorem q1914 : (Jvm.Cond.castable "FaceCoins" "java/lang/Object") ∈ lw_tbl := lw_at lw_m8 139 rfl
theorem in_X1 : ∀ w ∈ wsX10, w ∈ lw_all := lw_in wsX10 [544, 546, 548, 550, 552, 554, 556, 558, 560, 562, 564, 566, 568, 570, 572, 574, 576, 578, 580, 582, 584, 586, 588, 590, 592, 594, 596, 598, 600] (by decide +kernel) (by decide +kernel)
