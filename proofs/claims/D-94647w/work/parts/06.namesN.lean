/-! FaceCoinsLaw -/
set_option maxRecDepth 100000
def RX0 : String := "FaceCoinsLaw"
abbrev cX0_who : ByteArray := method_3_code
def yX0_who : MethodName := ⟨RX0, "who", "(LFaceCoins;II[J)I"⟩
def dkwX0_who_0 : List UInt8 := [45, 3, 42, 27, 28, 182, 0, 7, 133, 80, 167, 0, 7, 58, 4, 4, 172, 3, 172]
abbrev dktX0_who_0 : List UInt8 := dkwX0_who_0 ++ []
theorem dksX0_who_0 : cX0_who.data.toList.drop 0 = dktX0_who_0 := by decide +kernel
theorem dX0_who_0 : decode cX0_who 0 = .ok (.aload_n 3, 1) := dk_45 (dk_at dksX0_who_0 0 rfl rfl)
theorem dX0_who_1 : decode cX0_who 1 = .ok (.iconst 0, 1) := dk_3 (dk_at dksX0_who_0 1 rfl rfl)
theorem dX0_who_2 : decode cX0_who 2 = .ok (.aload_n 0, 1) := dk_42 (dk_at dksX0_who_0 2 rfl rfl)
theorem dX0_who_3 : decode cX0_who 3 = .ok (.iload_n 1, 1) := dk_27 (dk_at dksX0_who_0 3 rfl rfl)
theorem dX0_who_4 : decode cX0_who 4 = .ok (.iload_n 2, 1) := dk_28 (dk_at dksX0_who_0 4 rfl rfl)
theorem dX0_who_5 : decode cX0_who 5 = .ok (.invokevirtual 7, 3) := dk_182 0 7 (dk_at dksX0_who_0 5 rfl rfl)
theorem dX0_who_8 : decode cX0_who 8 = .ok (.i2l, 1) := dk_133 (dk_at dksX0_who_0 8 rfl rfl)
theorem dX0_who_9 : decode cX0_who 9 = .ok (.lastore, 1) := dk_80 (dk_at dksX0_who_0 9 rfl rfl)
theorem dX0_who_10 : decode cX0_who 10 = .ok (.goto 7, 3) := dk_167 0 7 (dk_at dksX0_who_0 10 rfl rfl)
theorem dX0_who_13 : decode cX0_who 13 = .ok (.astore 4, 2) := dk_58 4 (dk_at dksX0_who_0 13 rfl rfl)
theorem dX0_who_15 : decode cX0_who 15 = .ok (.iconst 1, 1) := dk_4 (dk_at dksX0_who_0 15 rfl rfl)
theorem dX0_who_16 : decode cX0_who 16 = .ok (.ireturn, 1) := dk_172 (dk_at dksX0_who_0 16 rfl rfl)
theorem dX0_who_17 : decode cX0_who 17 = .ok (.iconst 0, 1) := dk_3 (dk_at dksX0_who_0 17 rfl rfl)
theorem dX0_who_18 : decode cX0_who 18 = .ok (.ireturn, 1) := dk_172 (dk_at dksX0_who_0 18 rfl rfl)
abbrev cX0_mint : ByteArray := method_4_code
def yX0_mint : MethodName := ⟨RX0, "mint", "(LFaceCoins;II[J)I"⟩
def dkwX0_mint_0 : List UInt8 := [45, 3, 42, 27, 28, 182, 0, 15, 133, 80, 167, 0, 7, 58, 4, 4, 172, 3, 172]
abbrev dktX0_mint_0 : List UInt8 := dkwX0_mint_0 ++ []
theorem dksX0_mint_0 : cX0_mint.data.toList.drop 0 = dktX0_mint_0 := by decide +kernel
theorem dX0_mint_0 : decode cX0_mint 0 = .ok (.aload_n 3, 1) := dk_45 (dk_at dksX0_mint_0 0 rfl rfl)
theorem dX0_mint_1 : decode cX0_mint 1 = .ok (.iconst 0, 1) := dk_3 (dk_at dksX0_mint_0 1 rfl rfl)
theorem dX0_mint_2 : decode cX0_mint 2 = .ok (.aload_n 0, 1) := dk_42 (dk_at dksX0_mint_0 2 rfl rfl)
theorem dX0_mint_3 : decode cX0_mint 3 = .ok (.iload_n 1, 1) := dk_27 (dk_at dksX0_mint_0 3 rfl rfl)
theorem dX0_mint_4 : decode cX0_mint 4 = .ok (.iload_n 2, 1) := dk_28 (dk_at dksX0_mint_0 4 rfl rfl)
theorem dX0_mint_5 : decode cX0_mint 5 = .ok (.invokevirtual 15, 3) := dk_182 0 15 (dk_at dksX0_mint_0 5 rfl rfl)
theorem dX0_mint_8 : decode cX0_mint 8 = .ok (.i2l, 1) := dk_133 (dk_at dksX0_mint_0 8 rfl rfl)
theorem dX0_mint_9 : decode cX0_mint 9 = .ok (.lastore, 1) := dk_80 (dk_at dksX0_mint_0 9 rfl rfl)
theorem dX0_mint_10 : decode cX0_mint 10 = .ok (.goto 7, 3) := dk_167 0 7 (dk_at dksX0_mint_0 10 rfl rfl)
theorem dX0_mint_13 : decode cX0_mint 13 = .ok (.astore 4, 2) := dk_58 4 (dk_at dksX0_mint_0 13 rfl rfl)
theorem dX0_mint_15 : decode cX0_mint 15 = .ok (.iconst 1, 1) := dk_4 (dk_at dksX0_mint_0 15 rfl rfl)
theorem dX0_mint_16 : decode cX0_mint 16 = .ok (.ireturn, 1) := dk_172 (dk_at dksX0_mint_0 16 rfl rfl)
theorem dX0_mint_17 : decode cX0_mint 17 = .ok (.iconst 0, 1) := dk_3 (dk_at dksX0_mint_0 17 rfl rfl)
theorem dX0_mint_18 : decode cX0_mint 18 = .ok (.ireturn, 1) := dk_172 (dk_at dksX0_mint_0 18 rfl rfl)
abbrev cX0_of : ByteArray := method_5_code
def yX0_of : MethodName := ⟨RX0, "of", "(LFaceCoins;II[J)I"⟩
def dkwX0_of_0 : List UInt8 := [45, 3, 42, 27, 28, 182, 0, 18, 133, 80, 167, 0, 7, 58, 4, 4, 172, 3, 172]
abbrev dktX0_of_0 : List UInt8 := dkwX0_of_0 ++ []
theorem dksX0_of_0 : cX0_of.data.toList.drop 0 = dktX0_of_0 := by decide +kernel
theorem dX0_of_0 : decode cX0_of 0 = .ok (.aload_n 3, 1) := dk_45 (dk_at dksX0_of_0 0 rfl rfl)
theorem dX0_of_1 : decode cX0_of 1 = .ok (.iconst 0, 1) := dk_3 (dk_at dksX0_of_0 1 rfl rfl)
theorem dX0_of_2 : decode cX0_of 2 = .ok (.aload_n 0, 1) := dk_42 (dk_at dksX0_of_0 2 rfl rfl)
theorem dX0_of_3 : decode cX0_of 3 = .ok (.iload_n 1, 1) := dk_27 (dk_at dksX0_of_0 3 rfl rfl)
theorem dX0_of_4 : decode cX0_of 4 = .ok (.iload_n 2, 1) := dk_28 (dk_at dksX0_of_0 4 rfl rfl)
theorem dX0_of_5 : decode cX0_of 5 = .ok (.invokevirtual 18, 3) := dk_182 0 18 (dk_at dksX0_of_0 5 rfl rfl)
theorem dX0_of_8 : decode cX0_of 8 = .ok (.i2l, 1) := dk_133 (dk_at dksX0_of_0 8 rfl rfl)
theorem dX0_of_9 : decode cX0_of 9 = .ok (.lastore, 1) := dk_80 (dk_at dksX0_of_0 9 rfl rfl)
theorem dX0_of_10 : decode cX0_of 10 = .ok (.goto 7, 3) := dk_167 0 7 (dk_at dksX0_of_0 10 rfl rfl)
theorem dX0_of_13 : decode cX0_of 13 = .ok (.astore 4, 2) := dk_58 4 (dk_at dksX0_of_0 13 rfl rfl)
theorem dX0_of_15 : decode cX0_of 15 = .ok (.iconst 1, 1) := dk_4 (dk_at dksX0_of_0 15 rfl rfl)
theorem dX0_of_16 : decode cX0_of 16 = .ok (.ireturn, 1) := dk_172 (dk_at dksX0_of_0 16 rfl rfl)
theorem dX0_of_17 : decode cX0_of 17 = .ok (.iconst 0, 1) := dk_3 (dk_at dksX0_of_0 17 rfl rfl)
theorem dX0_of_18 : decode cX0_of 18 = .ok (.ireturn, 1) := dk_172 (dk_at dksX0_of_0 18 rfl rfl)
abbrev cX0_sold : ByteArray := method_6_code
def yX0_sold : MethodName := ⟨RX0, "sold", "(LFaceCoins;II[J)I"⟩
def dkwX0_sold_0 : List UInt8 := [45, 3, 42, 27, 28, 182, 0, 21, 133, 80, 167, 0, 7, 58, 4, 4, 172, 3, 172]
abbrev dktX0_sold_0 : List UInt8 := dkwX0_sold_0 ++ []
theorem dksX0_sold_0 : cX0_sold.data.toList.drop 0 = dktX0_sold_0 := by decide +kernel
theorem dX0_sold_0 : decode cX0_sold 0 = .ok (.aload_n 3, 1) := dk_45 (dk_at dksX0_sold_0 0 rfl rfl)
theorem dX0_sold_1 : decode cX0_sold 1 = .ok (.iconst 0, 1) := dk_3 (dk_at dksX0_sold_0 1 rfl rfl)
theorem dX0_sold_2 : decode cX0_sold 2 = .ok (.aload_n 0, 1) := dk_42 (dk_at dksX0_sold_0 2 rfl rfl)
theorem dX0_sold_3 : decode cX0_sold 3 = .ok (.iload_n 1, 1) := dk_27 (dk_at dksX0_sold_0 3 rfl rfl)
theorem dX0_sold_4 : decode cX0_sold 4 = .ok (.iload_n 2, 1) := dk_28 (dk_at dksX0_sold_0 4 rfl rfl)
theorem dX0_sold_5 : decode cX0_sold 5 = .ok (.invokevirtual 21, 3) := dk_182 0 21 (dk_at dksX0_sold_0 5 rfl rfl)
theorem dX0_sold_8 : decode cX0_sold 8 = .ok (.i2l, 1) := dk_133 (dk_at dksX0_sold_0 8 rfl rfl)
theorem dX0_sold_9 : decode cX0_sold 9 = .ok (.lastore, 1) := dk_80 (dk_at dksX0_sold_0 9 rfl rfl)
theorem dX0_sold_10 : decode cX0_sold 10 = .ok (.goto 7, 3) := dk_167 0 7 (dk_at dksX0_sold_0 10 rfl rfl)
theorem dX0_sold_13 : decode cX0_sold 13 = .ok (.astore 4, 2) := dk_58 4 (dk_at dksX0_sold_0 13 rfl rfl)
theorem dX0_sold_15 : decode cX0_sold 15 = .ok (.iconst 1, 1) := dk_4 (dk_at dksX0_sold_0 15 rfl rfl)
theorem dX0_sold_16 : decode cX0_sold 16 = .ok (.ireturn, 1) := dk_172 (dk_at dksX0_sold_0 16 rfl rfl)
theorem dX0_sold_17 : decode cX0_sold 17 = .ok (.iconst 0, 1) := dk_3 (dk_at dksX0_sold_0 17 rfl rfl)
theorem dX0_sold_18 : decode cX0_sold 18 = .ok (.ireturn, 1) := dk_172 (dk_at dksX0_sold_0 18 rfl rfl)
abbrev cX0_stroke : ByteArray := method_7_code
def yX0_stroke : MethodName := ⟨RX0, "stroke", "(LFaceCoins;II[J)I"⟩
def dkwX0_stroke_0 : List UInt8 := [45, 3, 42, 27, 28, 182, 0, 24, 133, 80, 167, 0, 7, 58, 4, 4, 172, 3, 172]
abbrev dktX0_stroke_0 : List UInt8 := dkwX0_stroke_0 ++ []
theorem dksX0_stroke_0 : cX0_stroke.data.toList.drop 0 = dktX0_stroke_0 := by decide +kernel
theorem dX0_stroke_0 : decode cX0_stroke 0 = .ok (.aload_n 3, 1) := dk_45 (dk_at dksX0_stroke_0 0 rfl rfl)
theorem dX0_stroke_1 : decode cX0_stroke 1 = .ok (.iconst 0, 1) := dk_3 (dk_at dksX0_stroke_0 1 rfl rfl)
theorem dX0_stroke_2 : decode cX0_stroke 2 = .ok (.aload_n 0, 1) := dk_42 (dk_at dksX0_stroke_0 2 rfl rfl)
theorem dX0_stroke_3 : decode cX0_stroke 3 = .ok (.iload_n 1, 1) := dk_27 (dk_at dksX0_stroke_0 3 rfl rfl)
theorem dX0_stroke_4 : decode cX0_stroke 4 = .ok (.iload_n 2, 1) := dk_28 (dk_at dksX0_stroke_0 4 rfl rfl)
theorem dX0_stroke_5 : decode cX0_stroke 5 = .ok (.invokevirtual 24, 3) := dk_182 0 24 (dk_at dksX0_stroke_0 5 rfl rfl)
theorem dX0_stroke_8 : decode cX0_stroke 8 = .ok (.i2l, 1) := dk_133 (dk_at dksX0_stroke_0 8 rfl rfl)
theorem dX0_stroke_9 : decode cX0_stroke 9 = .ok (.lastore, 1) := dk_80 (dk_at dksX0_stroke_0 9 rfl rfl)
theorem dX0_stroke_10 : decode cX0_stroke 10 = .ok (.goto 7, 3) := dk_167 0 7 (dk_at dksX0_stroke_0 10 rfl rfl)
theorem dX0_stroke_13 : decode cX0_stroke 13 = .ok (.astore 4, 2) := dk_58 4 (dk_at dksX0_stroke_0 13 rfl rfl)
theorem dX0_stroke_15 : decode cX0_stroke 15 = .ok (.iconst 1, 1) := dk_4 (dk_at dksX0_stroke_0 15 rfl rfl)
theorem dX0_stroke_16 : decode cX0_stroke 16 = .ok (.ireturn, 1) := dk_172 (dk_at dksX0_stroke_0 16 rfl rfl)
theorem dX0_stroke_17 : decode cX0_stroke 17 = .ok (.iconst 0, 1) := dk_3 (dk_at dksX0_stroke_0 17 rfl rfl)
theorem dX0_stroke_18 : decode cX0_stroke 18 = .ok (.ireturn, 1) := dk_172 (dk_at dksX0_stroke_0 18 rfl rfl)
theorem q95 : (Jvm.Cond.initialized "FaceCoinsLaw") ∈ lw_all := lw_g (lw_at lw_m1 0 rfl) rfl
theorem q123 : (Jvm.Cond.classLink "FaceCoinsLaw" (8 : Nat) "FaceCoins") ∈ lw_all := lw_g (lw_at lw_m1 28 rfl) rfl
theorem q125 : (Jvm.Cond.methodLink "FaceCoinsLaw" (27 : Nat) ({ cls := "FaceCoins", name := "<init>", desc := "()V" } : Jvm.MethodName)) ∈ lw_all := lw_g (lw_at lw_m1 30 rfl) rfl
theorem q603 : (Jvm.Cond.methodLink "FaceCoinsLaw" (31 : Nat) ({ cls := "FaceCoins", name := "feed", desc := "(IIIII)I" } : Jvm.MethodName)) ∈ lw_all := lw_g (lw_at lw_m3 28 rfl) rfl
theorem q611 : (Jvm.Cond.methodLink "FaceCoinsLaw" (36 : Nat) ({ cls := "FaceCoins", name := "end", desc := "(I)Z" } : Jvm.MethodName)) ∈ lw_all := lw_g (lw_at lw_m3 36 rfl) rfl
theorem q615 : (Jvm.Cond.methodLink "FaceCoinsLaw" (41 : Nat) ({ cls := "FaceCoins", name := "law", desc := "()I" } : Jvm.MethodName)) ∈ lw_all := lw_g (lw_at lw_m3 40 rfl) rfl
theorem q848 : (Jvm.Cond.methodLink "FaceCoinsLaw" (46 : Nat) ({ cls := "FaceCoins", name := "fault", desc := "()I" } : Jvm.MethodName)) ∈ lw_all := lw_g (lw_at lw_m4 33 rfl) rfl
theorem q852 : (Jvm.Cond.methodLink "FaceCoinsLaw" (163 : Nat) ({ cls := "FaceCoins", name := "undo", desc := "()I" } : Jvm.MethodName)) ∈ lw_all := lw_g (lw_at lw_m4 37 rfl) rfl
theorem q863 : (Jvm.Cond.methodLink "FaceCoinsLaw" (62 : Nat) ({ cls := "FaceCoins", name := "coin", desc := "(III)I" } : Jvm.MethodName)) ∈ lw_all := lw_g (lw_at lw_m4 48 rfl) rfl
theorem q894 : (Jvm.Cond.methodLink "FaceCoinsLaw" (70 : Nat) ({ cls := "FaceCoins", name := "face", desc := "(III)I" } : Jvm.MethodName)) ∈ lw_all := lw_g (lw_at lw_m4 79 rfl) rfl
theorem q902 : (Jvm.Cond.methodLink "FaceCoinsLaw" (74 : Nat) ({ cls := "FaceCoins", name := "value", desc := "(III)I" } : Jvm.MethodName)) ∈ lw_all := lw_g (lw_at lw_m4 87 rfl) rfl
theorem q927 : (Jvm.Cond.methodLink "FaceCoinsLaw" (78 : Nat) ({ cls := "FaceCoins", name := "luck", desc := "()I" } : Jvm.MethodName)) ∈ lw_all := lw_g (lw_at lw_m4 112 rfl) rfl
theorem q931 : (Jvm.Cond.methodLink "FaceCoinsLaw" (82 : Nat) ({ cls := "FaceCoins", name := "bears", desc := "(II)I" } : Jvm.MethodName)) ∈ lw_all := lw_g (lw_at lw_m4 116 rfl) rfl
theorem q935 : (Jvm.Cond.methodLink "FaceCoinsLaw" (86 : Nat) ({ cls := "FaceCoins", name := "sale", desc := "(IIII)I" } : Jvm.MethodName)) ∈ lw_all := lw_g (lw_at lw_m4 120 rfl) rfl
theorem q958 : (Jvm.Cond.methodLink "FaceCoinsLaw" (91 : Nat) ({ cls := "FaceCoins", name := "sales", desc := "()I" } : Jvm.MethodName)) ∈ lw_all := lw_g (lw_at lw_m4 143 rfl) rfl
theorem q962 : (Jvm.Cond.methodLink "FaceCoinsLaw" (98 : Nat) ({ cls := "FaceCoins", name := "payment", desc := "(IIII)I" } : Jvm.MethodName)) ∈ lw_all := lw_g (lw_at lw_m4 147 rfl) rfl
theorem q988 : (Jvm.Cond.methodLink "FaceCoinsLaw" (102 : Nat) ({ cls := "FaceCoins", name := "paid", desc := "(I)I" } : Jvm.MethodName)) ∈ lw_all := lw_g (lw_at lw_m4 173 rfl) rfl
theorem q992 : (Jvm.Cond.methodLink "FaceCoinsLaw" (107 : Nat) ({ cls := "FaceCoins", name := "buy", desc := "(IIII)I" } : Jvm.MethodName)) ∈ lw_all := lw_g (lw_at lw_m4 177 rfl) rfl
theorem q1004 : (Jvm.Cond.methodLink "FaceCoinsLaw" (111 : Nat) ({ cls := "FaceCoins", name := "steal", desc := "(II)Z" } : Jvm.MethodName)) ∈ lw_all := lw_g (lw_at lw_m4 189 rfl) rfl
theorem q1008 : (Jvm.Cond.methodLink "FaceCoinsLaw" (116 : Nat) ({ cls := "FaceCoins", name := "forge", desc := "(II)I" } : Jvm.MethodName)) ∈ lw_all := lw_g (lw_at lw_m4 193 rfl) rfl
theorem q1012 : (Jvm.Cond.methodLink "FaceCoinsLaw" (120 : Nat) ({ cls := "FaceCoins", name := "day", desc := "()I" } : Jvm.MethodName)) ∈ lw_all := lw_g (lw_at lw_m4 197 rfl) rfl
theorem q1020 : (Jvm.Cond.methodLink "FaceCoinsLaw" (124 : Nat) ({ cls := "FaceCoins", name := "rob", desc := "(II)Z" } : Jvm.MethodName)) ∈ lw_all := lw_g (lw_at lw_m4 205 rfl) rfl
theorem q1024 : (Jvm.Cond.methodLink "FaceCoinsLaw" (128 : Nat) ({ cls := "FaceCoins", name := "dies", desc := "(II)I" } : Jvm.MethodName)) ∈ lw_all := lw_g (lw_at lw_m4 209 rfl) rfl
theorem q1028 : (Jvm.Cond.methodLink "FaceCoinsLaw" (132 : Nat) ({ cls := "FaceCoins", name := "close", desc := "(I)Z" } : Jvm.MethodName)) ∈ lw_all := lw_g (lw_at lw_m4 213 rfl) rfl
theorem q1032 : (Jvm.Cond.methodLink "FaceCoinsLaw" (136 : Nat) ({ cls := "FaceCoins", name := "strokes", desc := "()I" } : Jvm.MethodName)) ∈ lw_all := lw_g (lw_at lw_m4 217 rfl) rfl
theorem q1036 : (Jvm.Cond.methodLink "FaceCoinsLaw" (143 : Nat) ({ cls := "FaceCoins", name := "foreign", desc := "(I)I" } : Jvm.MethodName)) ∈ lw_all := lw_g (lw_at lw_m4 221 rfl) rfl
theorem q1040 : (Jvm.Cond.methodLink "FaceCoinsLaw" (147 : Nat) ({ cls := "FaceCoins", name := "silver", desc := "(I)I" } : Jvm.MethodName)) ∈ lw_all := lw_g (lw_at lw_m4 225 rfl) rfl
theorem q1044 : (Jvm.Cond.methodLink "FaceCoinsLaw" (151 : Nat) ({ cls := "FaceCoins", name := "rows", desc := "(III)I" } : Jvm.MethodName)) ∈ lw_all := lw_g (lw_at lw_m4 229 rfl) rfl
theorem q1061 : (Jvm.Cond.methodLink "FaceCoinsLaw" (155 : Nat) ({ cls := "FaceCoins", name := "could", desc := "(II)I" } : Jvm.MethodName)) ∈ lw_all := lw_g (lw_at lw_m5 6 rfl) rfl
theorem q1065 : (Jvm.Cond.methodLink "FaceCoinsLaw" (159 : Nat) ({ cls := "FaceCoins", name := "market", desc := "(II)I" } : Jvm.MethodName)) ∈ lw_all := lw_g (lw_at lw_m5 10 rfl) rfl
theorem q1075 : (Jvm.Cond.methodLink "FaceCoinsLaw" (167 : Nat) ({ cls := "FaceCoins", name := "sentence", desc := "()I" } : Jvm.MethodName)) ∈ lw_all := lw_g (lw_at lw_m5 20 rfl) rfl
theorem q1191 : (Jvm.Cond.methodLink "FaceCoinsLaw" (171 : Nat) ({ cls := "FaceCoins", name := "said", desc := "(I)I" } : Jvm.MethodName)) ∈ lw_all := lw_g (lw_at lw_m5 136 rfl) rfl
theorem q1226 : (Jvm.Cond.methodLink "FaceCoinsLaw" (175 : Nat) ({ cls := "FaceCoins", name := "image", desc := "(I)Z" } : Jvm.MethodName)) ∈ lw_all := lw_g (lw_at lw_m5 171 rfl) rfl
theorem q1230 : (Jvm.Cond.methodLink "FaceCoinsLaw" (179 : Nat) ({ cls := "FaceCoins", name := "restore", desc := "(I)Z" } : Jvm.MethodName)) ∈ lw_all := lw_g (lw_at lw_m5 175 rfl) rfl
theorem q1234 : (Jvm.Cond.methodLink "FaceCoinsLaw" (183 : Nat) ({ cls := "FaceCoins", name := "count", desc := "(I)I" } : Jvm.MethodName)) ∈ lw_all := lw_g (lw_at lw_m5 179 rfl) rfl
theorem q1238 : (Jvm.Cond.methodLink "FaceCoinsLaw" (50 : Nat) ({ cls := "FaceCoinsLaw", name := "who", desc := "(LFaceCoins;II[J)I" } : Jvm.MethodName)) ∈ lw_all := lw_g (lw_at lw_m5 183 rfl) rfl
theorem q1239 : (Jvm.Cond.static ({ cls := "FaceCoinsLaw", name := "who", desc := "(LFaceCoins;II[J)I" } : Jvm.MethodName)) ∈ lw_all := lw_g (lw_at lw_m5 184 rfl) rfl
theorem q1240 : (Jvm.Cond.codeWith ({ cls := "FaceCoinsLaw", name := "who", desc := "(LFaceCoins;II[J)I" } : Jvm.MethodName) method_3_code (5 : Nat) (Option.some Jvm.ClassFile.FieldType.int) [((0 : Nat), (10 : Nat), (13 : Nat), (13 : Nat))]) ∈ lw_all := lw_g (lw_at lw_m5 185 rfl) rfl
theorem q1241 : (Jvm.Cond.classLink "FaceCoinsLaw" (13 : Nat) "java/util/NoSuchElementException") ∈ lw_all := lw_g (lw_at lw_m5 186 rfl) rfl
theorem q1242 : (Jvm.Cond.methodLink "FaceCoinsLaw" (7 : Nat) ({ cls := "FaceCoins", name := "who", desc := "(II)I" } : Jvm.MethodName)) ∈ lw_all := lw_g (lw_at lw_m5 187 rfl) rfl
theorem q1272 : (Jvm.Cond.methodLink "FaceCoinsLaw" (59 : Nat) ({ cls := "FaceCoinsLaw", name := "mint", desc := "(LFaceCoins;II[J)I" } : Jvm.MethodName)) ∈ lw_all := lw_g (lw_at lw_m5 217 rfl) rfl
theorem q1273 : (Jvm.Cond.static ({ cls := "FaceCoinsLaw", name := "mint", desc := "(LFaceCoins;II[J)I" } : Jvm.MethodName)) ∈ lw_all := lw_g (lw_at lw_m5 218 rfl) rfl
theorem q1274 : (Jvm.Cond.codeWith ({ cls := "FaceCoinsLaw", name := "mint", desc := "(LFaceCoins;II[J)I" } : Jvm.MethodName) method_4_code (5 : Nat) (Option.some Jvm.ClassFile.FieldType.int) [((0 : Nat), (10 : Nat), (13 : Nat), (13 : Nat))]) ∈ lw_all := lw_g (lw_at lw_m5 219 rfl) rfl
theorem q1275 : (Jvm.Cond.methodLink "FaceCoinsLaw" (15 : Nat) ({ cls := "FaceCoins", name := "mint", desc := "(II)I" } : Jvm.MethodName)) ∈ lw_all := lw_g (lw_at lw_m5 220 rfl) rfl
theorem q1279 : (Jvm.Cond.methodLink "FaceCoinsLaw" (67 : Nat) ({ cls := "FaceCoinsLaw", name := "of", desc := "(LFaceCoins;II[J)I" } : Jvm.MethodName)) ∈ lw_all := lw_g (lw_at lw_m5 224 rfl) rfl
theorem q1280 : (Jvm.Cond.static ({ cls := "FaceCoinsLaw", name := "of", desc := "(LFaceCoins;II[J)I" } : Jvm.MethodName)) ∈ lw_all := lw_g (lw_at lw_m5 225 rfl) rfl
theorem q1281 : (Jvm.Cond.codeWith ({ cls := "FaceCoinsLaw", name := "of", desc := "(LFaceCoins;II[J)I" } : Jvm.MethodName) method_5_code (5 : Nat) (Option.some Jvm.ClassFile.FieldType.int) [((0 : Nat), (10 : Nat), (13 : Nat), (13 : Nat))]) ∈ lw_all := lw_g (lw_at lw_m5 226 rfl) rfl
theorem q1282 : (Jvm.Cond.methodLink "FaceCoinsLaw" (18 : Nat) ({ cls := "FaceCoins", name := "of", desc := "(II)I" } : Jvm.MethodName)) ∈ lw_all := lw_g (lw_at lw_m5 227 rfl) rfl
theorem q1287 : (Jvm.Cond.methodLink "FaceCoinsLaw" (95 : Nat) ({ cls := "FaceCoinsLaw", name := "sold", desc := "(LFaceCoins;II[J)I" } : Jvm.MethodName)) ∈ lw_all := lw_g (lw_at lw_m5 232 rfl) rfl
theorem q1288 : (Jvm.Cond.static ({ cls := "FaceCoinsLaw", name := "sold", desc := "(LFaceCoins;II[J)I" } : Jvm.MethodName)) ∈ lw_all := lw_g (lw_at lw_m5 233 rfl) rfl
theorem q1289 : (Jvm.Cond.codeWith ({ cls := "FaceCoinsLaw", name := "sold", desc := "(LFaceCoins;II[J)I" } : Jvm.MethodName) method_6_code (5 : Nat) (Option.some Jvm.ClassFile.FieldType.int) [((0 : Nat), (10 : Nat), (13 : Nat), (13 : Nat))]) ∈ lw_all := lw_g (lw_at lw_m5 234 rfl) rfl
theorem q1290 : (Jvm.Cond.methodLink "FaceCoinsLaw" (21 : Nat) ({ cls := "FaceCoins", name := "sold", desc := "(II)I" } : Jvm.MethodName)) ∈ lw_all := lw_g (lw_at lw_m5 235 rfl) rfl
theorem q1294 : (Jvm.Cond.methodLink "FaceCoinsLaw" (140 : Nat) ({ cls := "FaceCoinsLaw", name := "stroke", desc := "(LFaceCoins;II[J)I" } : Jvm.MethodName)) ∈ lw_all := lw_g (lw_at lw_m5 239 rfl) rfl
theorem q1295 : (Jvm.Cond.static ({ cls := "FaceCoinsLaw", name := "stroke", desc := "(LFaceCoins;II[J)I" } : Jvm.MethodName)) ∈ lw_all := lw_g (lw_at lw_m6 0 rfl) rfl
theorem q1296 : (Jvm.Cond.codeWith ({ cls := "FaceCoinsLaw", name := "stroke", desc := "(LFaceCoins;II[J)I" } : Jvm.MethodName) method_7_code (5 : Nat) (Option.some Jvm.ClassFile.FieldType.int) [((0 : Nat), (10 : Nat), (13 : Nat), (13 : Nat))]) ∈ lw_all := lw_g (lw_at lw_m6 1 rfl) rfl
theorem q1297 : (Jvm.Cond.methodLink "FaceCoinsLaw" (24 : Nat) ({ cls := "FaceCoins", name := "stroke", desc := "(II)I" } : Jvm.MethodName)) ∈ lw_all := lw_g (lw_at lw_m6 2 rfl) rfl
theorem q1305 : (Jvm.Cond.classLink "FaceCoinsLaw" (28 : Nat) "FaceCoinsModel") ∈ lw_all := lw_g (lw_at lw_m6 10 rfl) rfl
theorem q1307 : (Jvm.Cond.methodLink "FaceCoinsLaw" (30 : Nat) ({ cls := "FaceCoinsModel", name := "<init>", desc := "()V" } : Jvm.MethodName)) ∈ lw_all := lw_g (lw_at lw_m6 12 rfl) rfl
theorem q1455 : (Jvm.Cond.methodLink "FaceCoinsLaw" (56 : Nat) ({ cls := "FaceCoinsModel", name := "thrown", desc := "()I" } : Jvm.MethodName)) ∈ lw_all := lw_g (lw_at lw_m6 160 rfl) rfl
theorem q1459 : (Jvm.Cond.methodLink "FaceCoinsLaw" (35 : Nat) ({ cls := "FaceCoinsModel", name := "feed", desc := "(IIIII)I" } : Jvm.MethodName)) ∈ lw_all := lw_g (lw_at lw_m6 164 rfl) rfl
theorem q1467 : (Jvm.Cond.methodLink "FaceCoinsLaw" (40 : Nat) ({ cls := "FaceCoinsModel", name := "end", desc := "(I)Z" } : Jvm.MethodName)) ∈ lw_all := lw_g (lw_at lw_m6 172 rfl) rfl
theorem q1471 : (Jvm.Cond.methodLink "FaceCoinsLaw" (45 : Nat) ({ cls := "FaceCoinsModel", name := "law", desc := "()I" } : Jvm.MethodName)) ∈ lw_all := lw_g (lw_at lw_m6 176 rfl) rfl
theorem q1578 : (Jvm.Cond.methodLink "FaceCoinsLaw" (49 : Nat) ({ cls := "FaceCoinsModel", name := "fault", desc := "()I" } : Jvm.MethodName)) ∈ lw_all := lw_g (lw_at lw_m7 43 rfl) rfl
theorem q1582 : (Jvm.Cond.methodLink "FaceCoinsLaw" (55 : Nat) ({ cls := "FaceCoinsModel", name := "who", desc := "(II)I" } : Jvm.MethodName)) ∈ lw_all := lw_g (lw_at lw_m7 47 rfl) rfl
theorem q1614 : (Jvm.Cond.methodLink "FaceCoinsLaw" (61 : Nat) ({ cls := "FaceCoinsModel", name := "mint", desc := "(II)I" } : Jvm.MethodName)) ∈ lw_all := lw_g (lw_at lw_m7 79 rfl) rfl
theorem q1630 : (Jvm.Cond.methodLink "FaceCoinsLaw" (66 : Nat) ({ cls := "FaceCoinsModel", name := "coin", desc := "(III)I" } : Jvm.MethodName)) ∈ lw_all := lw_g (lw_at lw_m7 95 rfl) rfl
theorem q1650 : (Jvm.Cond.methodLink "FaceCoinsLaw" (69 : Nat) ({ cls := "FaceCoinsModel", name := "of", desc := "(II)I" } : Jvm.MethodName)) ∈ lw_all := lw_g (lw_at lw_m7 115 rfl) rfl
theorem q1666 : (Jvm.Cond.methodLink "FaceCoinsLaw" (73 : Nat) ({ cls := "FaceCoinsModel", name := "face", desc := "(III)I" } : Jvm.MethodName)) ∈ lw_all := lw_g (lw_at lw_m7 131 rfl) rfl
theorem q1670 : (Jvm.Cond.methodLink "FaceCoinsLaw" (81 : Nat) ({ cls := "FaceCoinsModel", name := "luck", desc := "()I" } : Jvm.MethodName)) ∈ lw_all := lw_g (lw_at lw_m7 135 rfl) rfl
theorem q1678 : (Jvm.Cond.methodLink "FaceCoinsLaw" (77 : Nat) ({ cls := "FaceCoinsModel", name := "value", desc := "(III)I" } : Jvm.MethodName)) ∈ lw_all := lw_g (lw_at lw_m7 143 rfl) rfl
theorem q1690 : (Jvm.Cond.methodLink "FaceCoinsLaw" (85 : Nat) ({ cls := "FaceCoinsModel", name := "bears", desc := "(II)I" } : Jvm.MethodName)) ∈ lw_all := lw_g (lw_at lw_m7 155 rfl) rfl
theorem q1694 : (Jvm.Cond.methodLink "FaceCoinsLaw" (90 : Nat) ({ cls := "FaceCoinsModel", name := "sale", desc := "(IIII)I" } : Jvm.MethodName)) ∈ lw_all := lw_g (lw_at lw_m7 159 rfl) rfl
theorem q1710 : (Jvm.Cond.methodLink "FaceCoinsLaw" (94 : Nat) ({ cls := "FaceCoinsModel", name := "sales", desc := "()I" } : Jvm.MethodName)) ∈ lw_all := lw_g (lw_at lw_m7 175 rfl) rfl
theorem q1714 : (Jvm.Cond.methodLink "FaceCoinsLaw" (97 : Nat) ({ cls := "FaceCoinsModel", name := "sold", desc := "(II)I" } : Jvm.MethodName)) ∈ lw_all := lw_g (lw_at lw_m7 179 rfl) rfl
theorem q1718 : (Jvm.Cond.methodLink "FaceCoinsLaw" (101 : Nat) ({ cls := "FaceCoinsModel", name := "payment", desc := "(IIII)I" } : Jvm.MethodName)) ∈ lw_all := lw_g (lw_at lw_m7 183 rfl) rfl
theorem q1743 : (Jvm.Cond.methodLink "FaceCoinsLaw" (106 : Nat) ({ cls := "FaceCoinsModel", name := "paid", desc := "(I)I" } : Jvm.MethodName)) ∈ lw_all := lw_g (lw_at lw_m7 208 rfl) rfl
theorem q1747 : (Jvm.Cond.methodLink "FaceCoinsLaw" (110 : Nat) ({ cls := "FaceCoinsModel", name := "buy", desc := "(IIII)I" } : Jvm.MethodName)) ∈ lw_all := lw_g (lw_at lw_m7 212 rfl) rfl
theorem q1759 : (Jvm.Cond.methodLink "FaceCoinsLaw" (115 : Nat) ({ cls := "FaceCoinsModel", name := "steal", desc := "(II)Z" } : Jvm.MethodName)) ∈ lw_all := lw_g (lw_at lw_m7 224 rfl) rfl
theorem q1763 : (Jvm.Cond.methodLink "FaceCoinsLaw" (119 : Nat) ({ cls := "FaceCoinsModel", name := "forge", desc := "(II)I" } : Jvm.MethodName)) ∈ lw_all := lw_g (lw_at lw_m7 228 rfl) rfl
theorem q1767 : (Jvm.Cond.methodLink "FaceCoinsLaw" (123 : Nat) ({ cls := "FaceCoinsModel", name := "day", desc := "()I" } : Jvm.MethodName)) ∈ lw_all := lw_g (lw_at lw_m7 232 rfl) rfl
theorem q1775 : (Jvm.Cond.methodLink "FaceCoinsLaw" (127 : Nat) ({ cls := "FaceCoinsModel", name := "rob", desc := "(II)Z" } : Jvm.MethodName)) ∈ lw_all := lw_g (lw_at lw_m8 0 rfl) rfl
theorem q1779 : (Jvm.Cond.methodLink "FaceCoinsLaw" (131 : Nat) ({ cls := "FaceCoinsModel", name := "dies", desc := "(II)I" } : Jvm.MethodName)) ∈ lw_all := lw_g (lw_at lw_m8 4 rfl) rfl
theorem q1783 : (Jvm.Cond.methodLink "FaceCoinsLaw" (135 : Nat) ({ cls := "FaceCoinsModel", name := "close", desc := "(I)Z" } : Jvm.MethodName)) ∈ lw_all := lw_g (lw_at lw_m8 8 rfl) rfl
theorem q1787 : (Jvm.Cond.methodLink "FaceCoinsLaw" (139 : Nat) ({ cls := "FaceCoinsModel", name := "strokes", desc := "()I" } : Jvm.MethodName)) ∈ lw_all := lw_g (lw_at lw_m8 12 rfl) rfl
theorem q1791 : (Jvm.Cond.methodLink "FaceCoinsLaw" (142 : Nat) ({ cls := "FaceCoinsModel", name := "stroke", desc := "(II)I" } : Jvm.MethodName)) ∈ lw_all := lw_g (lw_at lw_m8 16 rfl) rfl
theorem q1799 : (Jvm.Cond.methodLink "FaceCoinsLaw" (146 : Nat) ({ cls := "FaceCoinsModel", name := "foreign", desc := "(I)I" } : Jvm.MethodName)) ∈ lw_all := lw_g (lw_at lw_m8 24 rfl) rfl
theorem q1803 : (Jvm.Cond.methodLink "FaceCoinsLaw" (150 : Nat) ({ cls := "FaceCoinsModel", name := "silver", desc := "(I)I" } : Jvm.MethodName)) ∈ lw_all := lw_g (lw_at lw_m8 28 rfl) rfl
theorem q1807 : (Jvm.Cond.methodLink "FaceCoinsLaw" (154 : Nat) ({ cls := "FaceCoinsModel", name := "rows", desc := "(III)I" } : Jvm.MethodName)) ∈ lw_all := lw_g (lw_at lw_m8 32 rfl) rfl
theorem q1820 : (Jvm.Cond.methodLink "FaceCoinsLaw" (158 : Nat) ({ cls := "FaceCoinsModel", name := "could", desc := "(II)I" } : Jvm.MethodName)) ∈ lw_all := lw_g (lw_at lw_m8 45 rfl) rfl
theorem q1824 : (Jvm.Cond.methodLink "FaceCoinsLaw" (162 : Nat) ({ cls := "FaceCoinsModel", name := "market", desc := "(II)I" } : Jvm.MethodName)) ∈ lw_all := lw_g (lw_at lw_m8 49 rfl) rfl
theorem q1833 : (Jvm.Cond.methodLink "FaceCoinsLaw" (166 : Nat) ({ cls := "FaceCoinsModel", name := "undo", desc := "()I" } : Jvm.MethodName)) ∈ lw_all := lw_g (lw_at lw_m8 58 rfl) rfl
theorem q1837 : (Jvm.Cond.methodLink "FaceCoinsLaw" (170 : Nat) ({ cls := "FaceCoinsModel", name := "sentence", desc := "()I" } : Jvm.MethodName)) ∈ lw_all := lw_g (lw_at lw_m8 62 rfl) rfl
theorem q1873 : (Jvm.Cond.methodLink "FaceCoinsLaw" (174 : Nat) ({ cls := "FaceCoinsModel", name := "said", desc := "(I)I" } : Jvm.MethodName)) ∈ lw_all := lw_g (lw_at lw_m8 98 rfl) rfl
theorem q1885 : (Jvm.Cond.methodLink "FaceCoinsLaw" (178 : Nat) ({ cls := "FaceCoinsModel", name := "image", desc := "(I)Z" } : Jvm.MethodName)) ∈ lw_all := lw_g (lw_at lw_m8 110 rfl) rfl
theorem q1889 : (Jvm.Cond.methodLink "FaceCoinsLaw" (182 : Nat) ({ cls := "FaceCoinsModel", name := "restore", desc := "(I)Z" } : Jvm.MethodName)) ∈ lw_all := lw_g (lw_at lw_m8 114 rfl) rfl
theorem q1893 : (Jvm.Cond.methodLink "FaceCoinsLaw" (186 : Nat) ({ cls := "FaceCoinsModel", name := "count", desc := "(I)I" } : Jvm.MethodName)) ∈ lw_all := lw_g (lw_at lw_m8 118 rfl) rfl
/-! FaceCoins$Fault -/
set_option maxRecDepth 100000
def RX2 : String := "FaceCoins$Fault"
def TX2 : u_T := fun k => match k with
  | 0 => ("java/lang/Throwable", "cause", "Ljava/lang/Throwable;", false)
  | 1 => ("java/lang/Throwable", "stackTrace", "[Ljava/lang/StackTraceElement;", false)
  | 2 => ("java/lang/Throwable", "suppressedExceptions", "Ljava/util/List;", false)
  | 3 => ("java/lang/Throwable", "detailMessage", "Ljava/lang/String;", false)
  | 4 => ("java/lang/Throwable", "backtrace", "Ljava/lang/Object;", false)
  | 5 => ("java/lang/Throwable", "depth", "I", false)
  | 6 => ("FaceCoins$Fault", "kind", "I", false)
  | _ => ("FaceCoins$Fault", "place", "I", false)
def tyX2 : Nat → FieldType := fun k => match k with
  | 0 => .object "java/lang/Throwable"
  | 1 => .array (.object "java/lang/StackTraceElement")
  | 2 => .object "java/util/List"
  | 3 => .object "java/lang/String"
  | 4 => .object "java/lang/Object"
  | 5 => .int
  | 6 => .int
  | _ => .int
abbrev wsX20 : List Cond := u_ws RX2 TX2 8
theorem nmX2 : ∀ a, a < 8 → ∀ b, b < 8 → a ≠ b → (TX2 a).2.1 ≠ (TX2 b).2.1 := by decide +kernel
theorem tyX2_ok : ∀ k, k < 8 → parseFieldDescriptor (TX2 k).2.2.1 = some (tyX2 k) := by decide +kernel
abbrev cX2_init : ByteArray := prog_6_method_1_code
def yX2_init : MethodName := ⟨RX2, "<init>", "()V"⟩
def dkwX2_init_0 : List UInt8 := [42, 1, 1, 3, 3, 183, 0, 1, 177]
abbrev dktX2_init_0 : List UInt8 := dkwX2_init_0 ++ []
theorem dksX2_init_0 : cX2_init.data.toList.drop 0 = dktX2_init_0 := by decide +kernel
theorem dX2_init_0 : decode cX2_init 0 = .ok (.aload_n 0, 1) := dk_42 (dk_at dksX2_init_0 0 rfl rfl)
theorem dX2_init_1 : decode cX2_init 1 = .ok (.aconst_null, 1) := dk_1 (dk_at dksX2_init_0 1 rfl rfl)
theorem dX2_init_2 : decode cX2_init 2 = .ok (.aconst_null, 1) := dk_1 (dk_at dksX2_init_0 2 rfl rfl)
theorem dX2_init_3 : decode cX2_init 3 = .ok (.iconst 0, 1) := dk_3 (dk_at dksX2_init_0 3 rfl rfl)
theorem dX2_init_4 : decode cX2_init 4 = .ok (.iconst 0, 1) := dk_3 (dk_at dksX2_init_0 4 rfl rfl)
theorem dX2_init_5 : decode cX2_init 5 = .ok (.invokespecial 1, 3) := dk_183 0 1 (dk_at dksX2_init_0 5 rfl rfl)
theorem dX2_init_8 : decode cX2_init 8 = .ok (.return_, 1) := dk_177 (dk_at dksX2_init_0 8 rfl rfl)
theorem q99 : (Jvm.Cond.initialized "FaceCoins$Fault") ∈ lw_all := lw_g (lw_at lw_m1 4 rfl) rfl
theorem q132 : (Jvm.Cond.instantiable "FaceCoins$Fault" (8 : Nat)) ∈ lw_all := lw_g (lw_at lw_m1 37 rfl) rfl
theorem q133 : (Jvm.Cond.castable "FaceCoins$Fault" "FaceCoins$Fault") ∈ lw_tbl := lw_at lw_m1 38 rfl
theorem q138 : (Jvm.Cond.selects "FaceCoins$Fault" ({ cls := "java/lang/Throwable", name := "fillInStackTrace", desc := "(I)Ljava/lang/Throwable;" } : Jvm.MethodName) ({ cls := "java/lang/Throwable", name := "fillInStackTrace", desc := "(I)Ljava/lang/Throwable;" } : Jvm.MethodName)) ∈ lw_all := lw_g (lw_at lw_m1 43 rfl) rfl
theorem q139 : (Jvm.Cond.selects "FaceCoins$Fault" ({ cls := "java/lang/Throwable", name := "fillInStackTrace", desc := "()Ljava/lang/Throwable;" } : Jvm.MethodName) ({ cls := "java/lang/Throwable", name := "fillInStackTrace", desc := "()Ljava/lang/Throwable;" } : Jvm.MethodName)) ∈ lw_all := lw_g (lw_at lw_m1 44 rfl) rfl
theorem q140 : (Jvm.Cond.lays "FaceCoins$Fault" "java/lang/Throwable" "cause" "Ljava/lang/Throwable;") ∈ lw_all := lw_g (lw_at lw_m1 45 rfl) rfl
theorem q142 : (Jvm.Cond.lays "FaceCoins$Fault" "java/lang/Throwable" "stackTrace" "[Ljava/lang/StackTraceElement;") ∈ lw_all := lw_g (lw_at lw_m1 47 rfl) rfl
theorem q144 : (Jvm.Cond.lays "FaceCoins$Fault" "java/lang/Throwable" "suppressedExceptions" "Ljava/util/List;") ∈ lw_all := lw_g (lw_at lw_m1 49 rfl) rfl
theorem q146 : (Jvm.Cond.lays "FaceCoins$Fault" "java/lang/Throwable" "detailMessage" "Ljava/lang/String;") ∈ lw_all := lw_g (lw_at lw_m1 51 rfl) rfl
theorem q148 : (Jvm.Cond.lays "FaceCoins$Fault" "java/lang/Throwable" "backtrace" "Ljava/lang/Object;") ∈ lw_all := lw_g (lw_at lw_m1 53 rfl) rfl
theorem q170 : (Jvm.Cond.instanceMethod ({ cls := "FaceCoins$Fault", name := "<init>", desc := "()V" } : Jvm.MethodName)) ∈ lw_all := lw_g (lw_at lw_m1 75 rfl) rfl
theorem q171 : (Jvm.Cond.code ({ cls := "FaceCoins$Fault", name := "<init>", desc := "()V" } : Jvm.MethodName) prog_6_method_1_code (1 : Nat) (Option.none : Option Jvm.ClassFile.FieldType)) ∈ lw_all := lw_g (lw_at lw_m1 76 rfl) rfl
theorem q172 : (Jvm.Cond.methodLink "FaceCoins$Fault" (1 : Nat) ({ cls := "java/lang/Exception", name := "<init>", desc := "(Ljava/lang/String;Ljava/lang/Throwable;ZZ)V" } : Jvm.MethodName)) ∈ lw_all := lw_g (lw_at lw_m1 77 rfl) rfl
theorem q187 : (Jvm.Cond.lays "FaceCoins$Fault" "FaceCoins$Fault" "kind" "I") ∈ lw_all := lw_g (lw_at lw_m1 92 rfl) rfl
theorem q188 : (Jvm.Cond.soleField "FaceCoins$Fault" "kind") ∈ lw_all := lw_g (lw_at lw_m1 93 rfl) rfl
theorem q189 : (Jvm.Cond.lays "FaceCoins$Fault" "FaceCoins$Fault" "place" "I") ∈ lw_all := lw_g (lw_at lw_m1 94 rfl) rfl
theorem q190 : (Jvm.Cond.soleField "FaceCoins$Fault" "place") ∈ lw_all := lw_g (lw_at lw_m1 95 rfl) rfl
theorem q195 : (Jvm.Cond.lays "FaceCoins$Fault" "java/lang/Throwable" "depth" "I") ∈ lw_all := lw_g (lw_at lw_m1 100 rfl) rfl
theorem q198 : (Jvm.Cond.superclass "FaceCoins$Fault" "java/lang/Exception") ∈ lw_all := lw_g (lw_at lw_m1 103 rfl) rfl
theorem q1915 : (Jvm.Cond.castable "FaceCoins$Fault" "java/lang/Object") ∈ lw_tbl := lw_at lw_m8 140 rfl
theorem in_X2 : ∀ w ∈ wsX20, w ∈ lw_all := lw_in wsX20 [140, 142, 144, 146, 148, 195, 187, 189] (by decide +kernel) (by decide +kernel)
/-! FaceCoins$State -/
set_option maxRecDepth 100000
def RX3 : String := "FaceCoins$State"
def TX3 : u_T := fun k => match k with
  | 0 => ("FaceCoins$State", "law", "LFaceCoins$Law;", false)
  | 1 => ("FaceCoins$State", "grains", "[I", true)
  | 2 => ("FaceCoins$State", "owner", "[I", true)
  | 3 => ("FaceCoins$State", "struck", "[I", true)
  | 4 => ("FaceCoins$State", "layers", "[I", true)
  | 5 => ("FaceCoins$State", "who", "[I", true)
  | 6 => ("FaceCoins$State", "depth", "[I", true)
  | 7 => ("FaceCoins$State", "by", "[I", true)
  | 8 => ("FaceCoins$State", "strokeCoin", "[I", true)
  | 9 => ("FaceCoins$State", "strokeWho", "[I", true)
  | 10 => ("FaceCoins$State", "strokeMint", "[I", true)
  | 11 => ("FaceCoins$State", "strokeDay", "[I", true)
  | 12 => ("FaceCoins$State", "strokeSale", "[I", true)
  | 13 => ("FaceCoins$State", "strokeFalse", "[Z", true)
  | 14 => ("FaceCoins$State", "buyer", "[I", true)
  | 15 => ("FaceCoins$State", "seller", "[I", true)
  | 16 => ("FaceCoins$State", "saleMint", "[I", true)
  | 17 => ("FaceCoins$State", "price", "[I", true)
  | 18 => ("FaceCoins$State", "saleDay", "[I", true)
  | 19 => ("FaceCoins$State", "saleCoins", "[I", true)
  | 20 => ("FaceCoins$State", "worth", "[I", true)
  | 21 => ("FaceCoins$State", "coins", "I", false)
  | 22 => ("FaceCoins$State", "strokes", "I", false)
  | 23 => ("FaceCoins$State", "sales", "I", false)
  | 24 => ("FaceCoins$State", "day", "I", false)
  | 25 => ("FaceCoins$State", "dead", "I", false)
  | 26 => ("FaceCoins$State", "closed", "I", false)
  | 27 => ("FaceCoins$State", "victim", "I", false)
  | 28 => ("FaceCoins$State", "thief", "I", false)
  | 29 => ("FaceCoins$State", "made", "I", false)
  | _ => ("FaceCoins$State", "lost", "I", false)
def tyX3 : Nat → FieldType := fun k => match k with
  | 0 => .object "FaceCoins$Law"
  | 1 => .array .int
  | 2 => .array .int
  | 3 => .array .int
  | 4 => .array .int
  | 5 => .array .int
  | 6 => .array .int
  | 7 => .array .int
  | 8 => .array .int
  | 9 => .array .int
  | 10 => .array .int
  | 11 => .array .int
  | 12 => .array .int
  | 13 => .array .boolean
  | 14 => .array .int
  | 15 => .array .int
  | 16 => .array .int
  | 17 => .array .int
  | 18 => .array .int
  | 19 => .array .int
  | 20 => .array .int
  | 21 => .int
  | 22 => .int
  | 23 => .int
  | 24 => .int
  | 25 => .int
  | 26 => .int
  | 27 => .int
  | 28 => .int
  | 29 => .int
  | _ => .int
abbrev wsX30 : List Cond := u_ws RX3 TX3 31
set_option maxRecDepth 100000 in
theorem nmX3 : ∀ a, a < 31 → ∀ b, b < 31 → a ≠ b → (TX3 a).2.1 ≠ (TX3 b).2.1 := by decide +kernel
set_option maxRecDepth 100000 in
theorem tyX3_ok : ∀ k, k < 31 → parseFieldDescriptor (TX3 k).2.2.1 = some (tyX3 k) := by decide +kernel
abbrev cX3_init : ByteArray := prog_15_method_1_code
def yX3_init : MethodName := ⟨RX3, "<init>", "()V"⟩
def dkwX3_init_8 : List UInt8 := [17, 1, 244, 188, 10, 181, 0, 77, 42, 2, 181, 0, 80, 42, 2, 181, 0, 84, 177]
abbrev dktX3_init_8 : List UInt8 := dkwX3_init_8 ++ []
def dkwX3_init_7 : List UInt8 := [181, 0, 68, 42, 17, 1, 244, 188, 10, 181, 0, 71, 42, 17, 1, 244, 188, 10, 181, 0, 74, 42]
abbrev dktX3_init_7 : List UInt8 := dkwX3_init_7 ++ dktX3_init_8
def dkwX3_init_6 : List UInt8 := [17, 1, 244, 188, 10, 181, 0, 62, 42, 17, 1, 244, 188, 10, 181, 0, 65, 42, 17, 1, 244, 188, 10]
abbrev dktX3_init_6 : List UInt8 := dkwX3_init_6 ++ dktX3_init_7
def dkwX3_init_5 : List UInt8 := [181, 0, 52, 42, 17, 1, 244, 188, 4, 181, 0, 55, 42, 17, 1, 244, 188, 10, 181, 0, 59, 42]
abbrev dktX3_init_5 : List UInt8 := dkwX3_init_5 ++ dktX3_init_6
def dkwX3_init_4 : List UInt8 := [17, 1, 244, 188, 10, 181, 0, 46, 42, 17, 1, 244, 188, 10, 181, 0, 49, 42, 17, 1, 244, 188, 10]
abbrev dktX3_init_4 : List UInt8 := dkwX3_init_4 ++ dktX3_init_5
def dkwX3_init_3 : List UInt8 := [181, 0, 37, 42, 17, 1, 244, 188, 10, 181, 0, 40, 42, 17, 1, 244, 188, 10, 181, 0, 43, 42]
abbrev dktX3_init_3 : List UInt8 := dkwX3_init_3 ++ dktX3_init_4
def dkwX3_init_2 : List UInt8 := [17, 1, 104, 188, 10, 181, 0, 31, 42, 17, 1, 104, 188, 10, 181, 0, 34, 42, 17, 1, 104, 188, 10]
abbrev dktX3_init_2 : List UInt8 := dkwX3_init_2 ++ dktX3_init_3
def dkwX3_init_1 : List UInt8 := [16, 40, 188, 10, 181, 0, 22, 42, 16, 40, 188, 10, 181, 0, 25, 42, 16, 40, 188, 10, 181, 0, 28, 42]
abbrev dktX3_init_1 : List UInt8 := dkwX3_init_1 ++ dktX3_init_2
def dkwX3_init_0 : List UInt8 := [42, 183, 0, 3, 42, 187, 0, 9, 89, 183, 0, 11, 181, 0, 12, 42, 16, 40, 188, 10, 181, 0, 18, 42]
abbrev dktX3_init_0 : List UInt8 := dkwX3_init_0 ++ dktX3_init_1
theorem dksX3_init_0 : cX3_init.data.toList.drop 0 = dktX3_init_0 := by decide +kernel
theorem dksX3_init_1 : cX3_init.data.toList.drop 24 = dktX3_init_1 := dk_seg dksX3_init_0 24 rfl rfl
theorem dksX3_init_2 : cX3_init.data.toList.drop 48 = dktX3_init_2 := dk_seg dksX3_init_1 24 rfl rfl
theorem dksX3_init_3 : cX3_init.data.toList.drop 71 = dktX3_init_3 := dk_seg dksX3_init_2 23 rfl rfl
theorem dksX3_init_4 : cX3_init.data.toList.drop 93 = dktX3_init_4 := dk_seg dksX3_init_3 22 rfl rfl
theorem dksX3_init_5 : cX3_init.data.toList.drop 116 = dktX3_init_5 := dk_seg dksX3_init_4 23 rfl rfl
theorem dksX3_init_6 : cX3_init.data.toList.drop 138 = dktX3_init_6 := dk_seg dksX3_init_5 22 rfl rfl
theorem dksX3_init_7 : cX3_init.data.toList.drop 161 = dktX3_init_7 := dk_seg dksX3_init_6 23 rfl rfl
theorem dksX3_init_8 : cX3_init.data.toList.drop 183 = dktX3_init_8 := dk_seg dksX3_init_7 22 rfl rfl
theorem dX3_init_0 : decode cX3_init 0 = .ok (.aload_n 0, 1) := dk_42 (dk_at dksX3_init_0 0 rfl rfl)
theorem dX3_init_1 : decode cX3_init 1 = .ok (.invokespecial 3, 3) := dk_183 0 3 (dk_at dksX3_init_0 1 rfl rfl)
theorem dX3_init_4 : decode cX3_init 4 = .ok (.aload_n 0, 1) := dk_42 (dk_at dksX3_init_0 4 rfl rfl)
theorem dX3_init_5 : decode cX3_init 5 = .ok (.new 9, 3) := dk_187 0 9 (dk_at dksX3_init_0 5 rfl rfl)
theorem dX3_init_8 : decode cX3_init 8 = .ok (.dup, 1) := dk_89 (dk_at dksX3_init_0 8 rfl rfl)
theorem dX3_init_9 : decode cX3_init 9 = .ok (.invokespecial 11, 3) := dk_183 0 11 (dk_at dksX3_init_0 9 rfl rfl)
theorem dX3_init_12 : decode cX3_init 12 = .ok (.putfield 12, 3) := dk_181 0 12 (dk_at dksX3_init_0 12 rfl rfl)
theorem dX3_init_15 : decode cX3_init 15 = .ok (.aload_n 0, 1) := dk_42 (dk_at dksX3_init_0 15 rfl rfl)
theorem dX3_init_16 : decode cX3_init 16 = .ok (.bipush 40, 2) := dk_16 40 (dk_at dksX3_init_0 16 rfl rfl)
theorem dX3_init_18 : decode cX3_init 18 = .ok (.newarray .int, 2) := dk_188_10 (dk_at dksX3_init_0 18 rfl rfl)
theorem dX3_init_20 : decode cX3_init 20 = .ok (.putfield 18, 3) := dk_181 0 18 (dk_at dksX3_init_0 20 rfl rfl)
theorem dX3_init_23 : decode cX3_init 23 = .ok (.aload_n 0, 1) := dk_42 (dk_at dksX3_init_0 23 rfl rfl)
theorem dX3_init_24 : decode cX3_init 24 = .ok (.bipush 40, 2) := dk_16 40 (dk_at dksX3_init_1 0 rfl rfl)
theorem dX3_init_26 : decode cX3_init 26 = .ok (.newarray .int, 2) := dk_188_10 (dk_at dksX3_init_1 2 rfl rfl)
theorem dX3_init_28 : decode cX3_init 28 = .ok (.putfield 22, 3) := dk_181 0 22 (dk_at dksX3_init_1 4 rfl rfl)
theorem dX3_init_31 : decode cX3_init 31 = .ok (.aload_n 0, 1) := dk_42 (dk_at dksX3_init_1 7 rfl rfl)
theorem dX3_init_32 : decode cX3_init 32 = .ok (.bipush 40, 2) := dk_16 40 (dk_at dksX3_init_1 8 rfl rfl)
theorem dX3_init_34 : decode cX3_init 34 = .ok (.newarray .int, 2) := dk_188_10 (dk_at dksX3_init_1 10 rfl rfl)
theorem dX3_init_36 : decode cX3_init 36 = .ok (.putfield 25, 3) := dk_181 0 25 (dk_at dksX3_init_1 12 rfl rfl)
theorem dX3_init_39 : decode cX3_init 39 = .ok (.aload_n 0, 1) := dk_42 (dk_at dksX3_init_1 15 rfl rfl)
theorem dX3_init_40 : decode cX3_init 40 = .ok (.bipush 40, 2) := dk_16 40 (dk_at dksX3_init_1 16 rfl rfl)
theorem dX3_init_42 : decode cX3_init 42 = .ok (.newarray .int, 2) := dk_188_10 (dk_at dksX3_init_1 18 rfl rfl)
theorem dX3_init_44 : decode cX3_init 44 = .ok (.putfield 28, 3) := dk_181 0 28 (dk_at dksX3_init_1 20 rfl rfl)
theorem dX3_init_47 : decode cX3_init 47 = .ok (.aload_n 0, 1) := dk_42 (dk_at dksX3_init_1 23 rfl rfl)
theorem dX3_init_48 : decode cX3_init 48 = .ok (.sipush 360, 3) := dk_17 1 104 (dk_at dksX3_init_2 0 rfl rfl)
theorem dX3_init_51 : decode cX3_init 51 = .ok (.newarray .int, 2) := dk_188_10 (dk_at dksX3_init_2 3 rfl rfl)
theorem dX3_init_53 : decode cX3_init 53 = .ok (.putfield 31, 3) := dk_181 0 31 (dk_at dksX3_init_2 5 rfl rfl)
theorem dX3_init_56 : decode cX3_init 56 = .ok (.aload_n 0, 1) := dk_42 (dk_at dksX3_init_2 8 rfl rfl)
theorem dX3_init_57 : decode cX3_init 57 = .ok (.sipush 360, 3) := dk_17 1 104 (dk_at dksX3_init_2 9 rfl rfl)
theorem dX3_init_60 : decode cX3_init 60 = .ok (.newarray .int, 2) := dk_188_10 (dk_at dksX3_init_2 12 rfl rfl)
theorem dX3_init_62 : decode cX3_init 62 = .ok (.putfield 34, 3) := dk_181 0 34 (dk_at dksX3_init_2 14 rfl rfl)
theorem dX3_init_65 : decode cX3_init 65 = .ok (.aload_n 0, 1) := dk_42 (dk_at dksX3_init_2 17 rfl rfl)
theorem dX3_init_66 : decode cX3_init 66 = .ok (.sipush 360, 3) := dk_17 1 104 (dk_at dksX3_init_2 18 rfl rfl)
theorem dX3_init_69 : decode cX3_init 69 = .ok (.newarray .int, 2) := dk_188_10 (dk_at dksX3_init_2 21 rfl rfl)
theorem dX3_init_71 : decode cX3_init 71 = .ok (.putfield 37, 3) := dk_181 0 37 (dk_at dksX3_init_3 0 rfl rfl)
theorem dX3_init_74 : decode cX3_init 74 = .ok (.aload_n 0, 1) := dk_42 (dk_at dksX3_init_3 3 rfl rfl)
theorem dX3_init_75 : decode cX3_init 75 = .ok (.sipush 500, 3) := dk_17 1 244 (dk_at dksX3_init_3 4 rfl rfl)
theorem dX3_init_78 : decode cX3_init 78 = .ok (.newarray .int, 2) := dk_188_10 (dk_at dksX3_init_3 7 rfl rfl)
theorem dX3_init_80 : decode cX3_init 80 = .ok (.putfield 40, 3) := dk_181 0 40 (dk_at dksX3_init_3 9 rfl rfl)
theorem dX3_init_83 : decode cX3_init 83 = .ok (.aload_n 0, 1) := dk_42 (dk_at dksX3_init_3 12 rfl rfl)
theorem dX3_init_84 : decode cX3_init 84 = .ok (.sipush 500, 3) := dk_17 1 244 (dk_at dksX3_init_3 13 rfl rfl)
theorem dX3_init_87 : decode cX3_init 87 = .ok (.newarray .int, 2) := dk_188_10 (dk_at dksX3_init_3 16 rfl rfl)
theorem dX3_init_89 : decode cX3_init 89 = .ok (.putfield 43, 3) := dk_181 0 43 (dk_at dksX3_init_3 18 rfl rfl)
theorem dX3_init_92 : decode cX3_init 92 = .ok (.aload_n 0, 1) := dk_42 (dk_at dksX3_init_3 21 rfl rfl)
theorem dX3_init_93 : decode cX3_init 93 = .ok (.sipush 500, 3) := dk_17 1 244 (dk_at dksX3_init_4 0 rfl rfl)
theorem dX3_init_96 : decode cX3_init 96 = .ok (.newarray .int, 2) := dk_188_10 (dk_at dksX3_init_4 3 rfl rfl)
theorem dX3_init_98 : decode cX3_init 98 = .ok (.putfield 46, 3) := dk_181 0 46 (dk_at dksX3_init_4 5 rfl rfl)
theorem dX3_init_101 : decode cX3_init 101 = .ok (.aload_n 0, 1) := dk_42 (dk_at dksX3_init_4 8 rfl rfl)
theorem dX3_init_102 : decode cX3_init 102 = .ok (.sipush 500, 3) := dk_17 1 244 (dk_at dksX3_init_4 9 rfl rfl)
theorem dX3_init_105 : decode cX3_init 105 = .ok (.newarray .int, 2) := dk_188_10 (dk_at dksX3_init_4 12 rfl rfl)
theorem dX3_init_107 : decode cX3_init 107 = .ok (.putfield 49, 3) := dk_181 0 49 (dk_at dksX3_init_4 14 rfl rfl)
theorem dX3_init_110 : decode cX3_init 110 = .ok (.aload_n 0, 1) := dk_42 (dk_at dksX3_init_4 17 rfl rfl)
theorem dX3_init_111 : decode cX3_init 111 = .ok (.sipush 500, 3) := dk_17 1 244 (dk_at dksX3_init_4 18 rfl rfl)
theorem dX3_init_114 : decode cX3_init 114 = .ok (.newarray .int, 2) := dk_188_10 (dk_at dksX3_init_4 21 rfl rfl)
theorem dX3_init_116 : decode cX3_init 116 = .ok (.putfield 52, 3) := dk_181 0 52 (dk_at dksX3_init_5 0 rfl rfl)
theorem dX3_init_119 : decode cX3_init 119 = .ok (.aload_n 0, 1) := dk_42 (dk_at dksX3_init_5 3 rfl rfl)
theorem dX3_init_120 : decode cX3_init 120 = .ok (.sipush 500, 3) := dk_17 1 244 (dk_at dksX3_init_5 4 rfl rfl)
theorem dX3_init_123 : decode cX3_init 123 = .ok (.newarray .boolean, 2) := dk_188_4 (dk_at dksX3_init_5 7 rfl rfl)
theorem dX3_init_125 : decode cX3_init 125 = .ok (.putfield 55, 3) := dk_181 0 55 (dk_at dksX3_init_5 9 rfl rfl)
theorem dX3_init_128 : decode cX3_init 128 = .ok (.aload_n 0, 1) := dk_42 (dk_at dksX3_init_5 12 rfl rfl)
theorem dX3_init_129 : decode cX3_init 129 = .ok (.sipush 500, 3) := dk_17 1 244 (dk_at dksX3_init_5 13 rfl rfl)
theorem dX3_init_132 : decode cX3_init 132 = .ok (.newarray .int, 2) := dk_188_10 (dk_at dksX3_init_5 16 rfl rfl)
theorem dX3_init_134 : decode cX3_init 134 = .ok (.putfield 59, 3) := dk_181 0 59 (dk_at dksX3_init_5 18 rfl rfl)
theorem dX3_init_137 : decode cX3_init 137 = .ok (.aload_n 0, 1) := dk_42 (dk_at dksX3_init_5 21 rfl rfl)
theorem dX3_init_138 : decode cX3_init 138 = .ok (.sipush 500, 3) := dk_17 1 244 (dk_at dksX3_init_6 0 rfl rfl)
theorem dX3_init_141 : decode cX3_init 141 = .ok (.newarray .int, 2) := dk_188_10 (dk_at dksX3_init_6 3 rfl rfl)
theorem dX3_init_143 : decode cX3_init 143 = .ok (.putfield 62, 3) := dk_181 0 62 (dk_at dksX3_init_6 5 rfl rfl)
theorem dX3_init_146 : decode cX3_init 146 = .ok (.aload_n 0, 1) := dk_42 (dk_at dksX3_init_6 8 rfl rfl)
theorem dX3_init_147 : decode cX3_init 147 = .ok (.sipush 500, 3) := dk_17 1 244 (dk_at dksX3_init_6 9 rfl rfl)
theorem dX3_init_150 : decode cX3_init 150 = .ok (.newarray .int, 2) := dk_188_10 (dk_at dksX3_init_6 12 rfl rfl)
theorem dX3_init_152 : decode cX3_init 152 = .ok (.putfield 65, 3) := dk_181 0 65 (dk_at dksX3_init_6 14 rfl rfl)
theorem dX3_init_155 : decode cX3_init 155 = .ok (.aload_n 0, 1) := dk_42 (dk_at dksX3_init_6 17 rfl rfl)
theorem dX3_init_156 : decode cX3_init 156 = .ok (.sipush 500, 3) := dk_17 1 244 (dk_at dksX3_init_6 18 rfl rfl)
theorem dX3_init_159 : decode cX3_init 159 = .ok (.newarray .int, 2) := dk_188_10 (dk_at dksX3_init_6 21 rfl rfl)
theorem dX3_init_161 : decode cX3_init 161 = .ok (.putfield 68, 3) := dk_181 0 68 (dk_at dksX3_init_7 0 rfl rfl)
theorem dX3_init_164 : decode cX3_init 164 = .ok (.aload_n 0, 1) := dk_42 (dk_at dksX3_init_7 3 rfl rfl)
theorem dX3_init_165 : decode cX3_init 165 = .ok (.sipush 500, 3) := dk_17 1 244 (dk_at dksX3_init_7 4 rfl rfl)
theorem dX3_init_168 : decode cX3_init 168 = .ok (.newarray .int, 2) := dk_188_10 (dk_at dksX3_init_7 7 rfl rfl)
theorem dX3_init_170 : decode cX3_init 170 = .ok (.putfield 71, 3) := dk_181 0 71 (dk_at dksX3_init_7 9 rfl rfl)
theorem dX3_init_173 : decode cX3_init 173 = .ok (.aload_n 0, 1) := dk_42 (dk_at dksX3_init_7 12 rfl rfl)
theorem dX3_init_174 : decode cX3_init 174 = .ok (.sipush 500, 3) := dk_17 1 244 (dk_at dksX3_init_7 13 rfl rfl)
theorem dX3_init_177 : decode cX3_init 177 = .ok (.newarray .int, 2) := dk_188_10 (dk_at dksX3_init_7 16 rfl rfl)
theorem dX3_init_179 : decode cX3_init 179 = .ok (.putfield 74, 3) := dk_181 0 74 (dk_at dksX3_init_7 18 rfl rfl)
theorem dX3_init_182 : decode cX3_init 182 = .ok (.aload_n 0, 1) := dk_42 (dk_at dksX3_init_7 21 rfl rfl)
theorem dX3_init_183 : decode cX3_init 183 = .ok (.sipush 500, 3) := dk_17 1 244 (dk_at dksX3_init_8 0 rfl rfl)
theorem dX3_init_186 : decode cX3_init 186 = .ok (.newarray .int, 2) := dk_188_10 (dk_at dksX3_init_8 3 rfl rfl)
theorem dX3_init_188 : decode cX3_init 188 = .ok (.putfield 77, 3) := dk_181 0 77 (dk_at dksX3_init_8 5 rfl rfl)
theorem dX3_init_191 : decode cX3_init 191 = .ok (.aload_n 0, 1) := dk_42 (dk_at dksX3_init_8 8 rfl rfl)
theorem dX3_init_192 : decode cX3_init 192 = .ok (.iconst (-1), 1) := dk_2 (dk_at dksX3_init_8 9 rfl rfl)
theorem dX3_init_193 : decode cX3_init 193 = .ok (.putfield 80, 3) := dk_181 0 80 (dk_at dksX3_init_8 10 rfl rfl)
theorem dX3_init_196 : decode cX3_init 196 = .ok (.aload_n 0, 1) := dk_42 (dk_at dksX3_init_8 13 rfl rfl)
theorem dX3_init_197 : decode cX3_init 197 = .ok (.iconst (-1), 1) := dk_2 (dk_at dksX3_init_8 14 rfl rfl)
theorem dX3_init_198 : decode cX3_init 198 = .ok (.putfield 84, 3) := dk_181 0 84 (dk_at dksX3_init_8 15 rfl rfl)
theorem dX3_init_201 : decode cX3_init 201 = .ok (.return_, 1) := dk_177 (dk_at dksX3_init_8 18 rfl rfl)
abbrev cX3_begin : ByteArray := prog_15_method_2_code
def yX3_begin : MethodName := ⟨RX3, "begin", "(LFaceCoins$Law;)V"⟩
def dkwX3_begin_2 : List UInt8 := [3, 181, 0, 105, 42, 3, 181, 0, 108, 177]
abbrev dktX3_begin_2 : List UInt8 := dkwX3_begin_2 ++ []
def dkwX3_begin_1 : List UInt8 := [181, 0, 96, 42, 3, 181, 0, 99, 42, 3, 181, 0, 102, 42, 2, 181, 0, 80, 42, 2, 181, 0, 84, 42]
abbrev dktX3_begin_1 : List UInt8 := dkwX3_begin_1 ++ dktX3_begin_2
def dkwX3_begin_0 : List UInt8 := [42, 43, 181, 0, 12, 42, 3, 181, 0, 87, 42, 3, 181, 0, 90, 42, 3, 181, 0, 93, 42, 3]
abbrev dktX3_begin_0 : List UInt8 := dkwX3_begin_0 ++ dktX3_begin_1
theorem dksX3_begin_0 : cX3_begin.data.toList.drop 0 = dktX3_begin_0 := by decide +kernel
theorem dksX3_begin_1 : cX3_begin.data.toList.drop 22 = dktX3_begin_1 := dk_seg dksX3_begin_0 22 rfl rfl
theorem dksX3_begin_2 : cX3_begin.data.toList.drop 46 = dktX3_begin_2 := dk_seg dksX3_begin_1 24 rfl rfl
theorem dX3_begin_0 : decode cX3_begin 0 = .ok (.aload_n 0, 1) := dk_42 (dk_at dksX3_begin_0 0 rfl rfl)
theorem dX3_begin_1 : decode cX3_begin 1 = .ok (.aload_n 1, 1) := dk_43 (dk_at dksX3_begin_0 1 rfl rfl)
theorem dX3_begin_2 : decode cX3_begin 2 = .ok (.putfield 12, 3) := dk_181 0 12 (dk_at dksX3_begin_0 2 rfl rfl)
theorem dX3_begin_5 : decode cX3_begin 5 = .ok (.aload_n 0, 1) := dk_42 (dk_at dksX3_begin_0 5 rfl rfl)
theorem dX3_begin_6 : decode cX3_begin 6 = .ok (.iconst 0, 1) := dk_3 (dk_at dksX3_begin_0 6 rfl rfl)
theorem dX3_begin_7 : decode cX3_begin 7 = .ok (.putfield 87, 3) := dk_181 0 87 (dk_at dksX3_begin_0 7 rfl rfl)
theorem dX3_begin_10 : decode cX3_begin 10 = .ok (.aload_n 0, 1) := dk_42 (dk_at dksX3_begin_0 10 rfl rfl)
theorem dX3_begin_11 : decode cX3_begin 11 = .ok (.iconst 0, 1) := dk_3 (dk_at dksX3_begin_0 11 rfl rfl)
theorem dX3_begin_12 : decode cX3_begin 12 = .ok (.putfield 90, 3) := dk_181 0 90 (dk_at dksX3_begin_0 12 rfl rfl)
theorem dX3_begin_15 : decode cX3_begin 15 = .ok (.aload_n 0, 1) := dk_42 (dk_at dksX3_begin_0 15 rfl rfl)
theorem dX3_begin_16 : decode cX3_begin 16 = .ok (.iconst 0, 1) := dk_3 (dk_at dksX3_begin_0 16 rfl rfl)
theorem dX3_begin_17 : decode cX3_begin 17 = .ok (.putfield 93, 3) := dk_181 0 93 (dk_at dksX3_begin_0 17 rfl rfl)
theorem dX3_begin_20 : decode cX3_begin 20 = .ok (.aload_n 0, 1) := dk_42 (dk_at dksX3_begin_0 20 rfl rfl)
theorem dX3_begin_21 : decode cX3_begin 21 = .ok (.iconst 0, 1) := dk_3 (dk_at dksX3_begin_0 21 rfl rfl)
theorem dX3_begin_22 : decode cX3_begin 22 = .ok (.putfield 96, 3) := dk_181 0 96 (dk_at dksX3_begin_1 0 rfl rfl)
theorem dX3_begin_25 : decode cX3_begin 25 = .ok (.aload_n 0, 1) := dk_42 (dk_at dksX3_begin_1 3 rfl rfl)
theorem dX3_begin_26 : decode cX3_begin 26 = .ok (.iconst 0, 1) := dk_3 (dk_at dksX3_begin_1 4 rfl rfl)
theorem dX3_begin_27 : decode cX3_begin 27 = .ok (.putfield 99, 3) := dk_181 0 99 (dk_at dksX3_begin_1 5 rfl rfl)
theorem dX3_begin_30 : decode cX3_begin 30 = .ok (.aload_n 0, 1) := dk_42 (dk_at dksX3_begin_1 8 rfl rfl)
theorem dX3_begin_31 : decode cX3_begin 31 = .ok (.iconst 0, 1) := dk_3 (dk_at dksX3_begin_1 9 rfl rfl)
theorem dX3_begin_32 : decode cX3_begin 32 = .ok (.putfield 102, 3) := dk_181 0 102 (dk_at dksX3_begin_1 10 rfl rfl)
theorem dX3_begin_35 : decode cX3_begin 35 = .ok (.aload_n 0, 1) := dk_42 (dk_at dksX3_begin_1 13 rfl rfl)
theorem dX3_begin_36 : decode cX3_begin 36 = .ok (.iconst (-1), 1) := dk_2 (dk_at dksX3_begin_1 14 rfl rfl)
theorem dX3_begin_37 : decode cX3_begin 37 = .ok (.putfield 80, 3) := dk_181 0 80 (dk_at dksX3_begin_1 15 rfl rfl)
theorem dX3_begin_40 : decode cX3_begin 40 = .ok (.aload_n 0, 1) := dk_42 (dk_at dksX3_begin_1 18 rfl rfl)
theorem dX3_begin_41 : decode cX3_begin 41 = .ok (.iconst (-1), 1) := dk_2 (dk_at dksX3_begin_1 19 rfl rfl)
theorem dX3_begin_42 : decode cX3_begin 42 = .ok (.putfield 84, 3) := dk_181 0 84 (dk_at dksX3_begin_1 20 rfl rfl)
theorem dX3_begin_45 : decode cX3_begin 45 = .ok (.aload_n 0, 1) := dk_42 (dk_at dksX3_begin_1 23 rfl rfl)
theorem dX3_begin_46 : decode cX3_begin 46 = .ok (.iconst 0, 1) := dk_3 (dk_at dksX3_begin_2 0 rfl rfl)
theorem dX3_begin_47 : decode cX3_begin 47 = .ok (.putfield 105, 3) := dk_181 0 105 (dk_at dksX3_begin_2 1 rfl rfl)
theorem dX3_begin_50 : decode cX3_begin 50 = .ok (.aload_n 0, 1) := dk_42 (dk_at dksX3_begin_2 4 rfl rfl)
theorem dX3_begin_51 : decode cX3_begin 51 = .ok (.iconst 0, 1) := dk_3 (dk_at dksX3_begin_2 5 rfl rfl)
theorem dX3_begin_52 : decode cX3_begin 52 = .ok (.putfield 108, 3) := dk_181 0 108 (dk_at dksX3_begin_2 6 rfl rfl)
theorem dX3_begin_55 : decode cX3_begin 55 = .ok (.return_, 1) := dk_177 (dk_at dksX3_begin_2 9 rfl rfl)
abbrev cX3_be : ByteArray := prog_15_method_3_code
def yX3_be : MethodName := ⟨RX3, "be", "(LFaceCoins$State;)V"⟩
def dkwX3_be_18 : List UInt8 := [180, 0, 93, 184, 0, 111, 43, 180, 0, 77, 3, 42, 180, 0, 77, 3, 42, 180, 0, 93, 184, 0, 111, 177]
abbrev dktX3_be_18 : List UInt8 := dkwX3_be_18 ++ []
def dkwX3_be_17 : List UInt8 := [180, 0, 71, 3, 42, 180, 0, 93, 184, 0, 111, 43, 180, 0, 74, 3, 42, 180, 0, 74, 3, 42]
abbrev dktX3_be_17 : List UInt8 := dkwX3_be_17 ++ dktX3_be_18
def dkwX3_be_16 : List UInt8 := [180, 0, 68, 3, 42, 180, 0, 68, 3, 42, 180, 0, 93, 184, 0, 111, 43, 180, 0, 71, 3, 42]
abbrev dktX3_be_16 : List UInt8 := dkwX3_be_16 ++ dktX3_be_17
def dkwX3_be_15 : List UInt8 := [180, 0, 93, 184, 0, 111, 43, 180, 0, 65, 3, 42, 180, 0, 65, 3, 42, 180, 0, 93, 184, 0, 111, 43]
abbrev dktX3_be_15 : List UInt8 := dkwX3_be_15 ++ dktX3_be_16
def dkwX3_be_14 : List UInt8 := [180, 0, 59, 3, 42, 180, 0, 93, 184, 0, 111, 43, 180, 0, 62, 3, 42, 180, 0, 62, 3, 42]
abbrev dktX3_be_14 : List UInt8 := dkwX3_be_14 ++ dktX3_be_15
def dkwX3_be_13 : List UInt8 := [180, 0, 55, 3, 42, 180, 0, 55, 3, 42, 180, 0, 90, 184, 0, 111, 43, 180, 0, 59, 3, 42]
abbrev dktX3_be_13 : List UInt8 := dkwX3_be_13 ++ dktX3_be_14
def dkwX3_be_12 : List UInt8 := [180, 0, 90, 184, 0, 111, 43, 180, 0, 52, 3, 42, 180, 0, 52, 3, 42, 180, 0, 90, 184, 0, 111, 43]
abbrev dktX3_be_12 : List UInt8 := dkwX3_be_12 ++ dktX3_be_13
def dkwX3_be_11 : List UInt8 := [180, 0, 46, 3, 42, 180, 0, 90, 184, 0, 111, 43, 180, 0, 49, 3, 42, 180, 0, 49, 3, 42]
abbrev dktX3_be_11 : List UInt8 := dkwX3_be_11 ++ dktX3_be_12
def dkwX3_be_10 : List UInt8 := [180, 0, 43, 3, 42, 180, 0, 43, 3, 42, 180, 0, 90, 184, 0, 111, 43, 180, 0, 46, 3, 42]
abbrev dktX3_be_10 : List UInt8 := dkwX3_be_10 ++ dktX3_be_11
def dkwX3_be_9 : List UInt8 := [16, 9, 104, 184, 0, 111, 43, 180, 0, 40, 3, 42, 180, 0, 40, 3, 42, 180, 0, 90, 184, 0, 111, 43]
abbrev dktX3_be_9 : List UInt8 := dkwX3_be_9 ++ dktX3_be_10
def dkwX3_be_8 : List UInt8 := [42, 180, 0, 87, 16, 9, 104, 184, 0, 111, 43, 180, 0, 37, 3, 42, 180, 0, 37, 3, 42, 180, 0, 87]
abbrev dktX3_be_8 : List UInt8 := dkwX3_be_8 ++ dktX3_be_9
def dkwX3_be_7 : List UInt8 := [180, 0, 31, 3, 42, 180, 0, 87, 16, 9, 104, 184, 0, 111, 43, 180, 0, 34, 3, 42, 180, 0, 34, 3]
abbrev dktX3_be_7 : List UInt8 := dkwX3_be_7 ++ dktX3_be_8
def dkwX3_be_6 : List UInt8 := [180, 0, 28, 3, 42, 180, 0, 28, 3, 42, 180, 0, 87, 184, 0, 111, 43, 180, 0, 31, 3, 42]
abbrev dktX3_be_6 : List UInt8 := dkwX3_be_6 ++ dktX3_be_7
def dkwX3_be_5 : List UInt8 := [180, 0, 87, 184, 0, 111, 43, 180, 0, 25, 3, 42, 180, 0, 25, 3, 42, 180, 0, 87, 184, 0, 111, 43]
abbrev dktX3_be_5 : List UInt8 := dkwX3_be_5 ++ dktX3_be_6
def dkwX3_be_4 : List UInt8 := [180, 0, 18, 3, 42, 180, 0, 87, 184, 0, 111, 43, 180, 0, 22, 3, 42, 180, 0, 22, 3, 42]
abbrev dktX3_be_4 : List UInt8 := dkwX3_be_4 ++ dktX3_be_5
def dkwX3_be_3 : List UInt8 := [42, 43, 180, 0, 105, 181, 0, 105, 42, 43, 180, 0, 108, 181, 0, 108, 43, 180, 0, 18, 3, 42]
abbrev dktX3_be_3 : List UInt8 := dkwX3_be_3 ++ dktX3_be_4
def dkwX3_be_2 : List UInt8 := [42, 43, 180, 0, 102, 181, 0, 102, 42, 43, 180, 0, 80, 181, 0, 80, 42, 43, 180, 0, 84, 181, 0, 84]
abbrev dktX3_be_2 : List UInt8 := dkwX3_be_2 ++ dktX3_be_3
def dkwX3_be_1 : List UInt8 := [42, 43, 180, 0, 93, 181, 0, 93, 42, 43, 180, 0, 96, 181, 0, 96, 42, 43, 180, 0, 99, 181, 0, 99]
abbrev dktX3_be_1 : List UInt8 := dkwX3_be_1 ++ dktX3_be_2
def dkwX3_be_0 : List UInt8 := [42, 43, 180, 0, 12, 181, 0, 12, 42, 43, 180, 0, 87, 181, 0, 87, 42, 43, 180, 0, 90, 181, 0, 90]
abbrev dktX3_be_0 : List UInt8 := dkwX3_be_0 ++ dktX3_be_1
theorem dksX3_be_0 : cX3_be.data.toList.drop 0 = dktX3_be_0 := by decide +kernel
theorem dksX3_be_1 : cX3_be.data.toList.drop 24 = dktX3_be_1 := dk_seg dksX3_be_0 24 rfl rfl
theorem dksX3_be_2 : cX3_be.data.toList.drop 48 = dktX3_be_2 := dk_seg dksX3_be_1 24 rfl rfl
theorem dksX3_be_3 : cX3_be.data.toList.drop 72 = dktX3_be_3 := dk_seg dksX3_be_2 24 rfl rfl
theorem dksX3_be_4 : cX3_be.data.toList.drop 94 = dktX3_be_4 := dk_seg dksX3_be_3 22 rfl rfl
theorem dksX3_be_5 : cX3_be.data.toList.drop 116 = dktX3_be_5 := dk_seg dksX3_be_4 22 rfl rfl
theorem dksX3_be_6 : cX3_be.data.toList.drop 140 = dktX3_be_6 := dk_seg dksX3_be_5 24 rfl rfl
theorem dksX3_be_7 : cX3_be.data.toList.drop 162 = dktX3_be_7 := dk_seg dksX3_be_6 22 rfl rfl
theorem dksX3_be_8 : cX3_be.data.toList.drop 186 = dktX3_be_8 := dk_seg dksX3_be_7 24 rfl rfl
theorem dksX3_be_9 : cX3_be.data.toList.drop 210 = dktX3_be_9 := dk_seg dksX3_be_8 24 rfl rfl
theorem dksX3_be_10 : cX3_be.data.toList.drop 234 = dktX3_be_10 := dk_seg dksX3_be_9 24 rfl rfl
theorem dksX3_be_11 : cX3_be.data.toList.drop 256 = dktX3_be_11 := dk_seg dksX3_be_10 22 rfl rfl
theorem dksX3_be_12 : cX3_be.data.toList.drop 278 = dktX3_be_12 := dk_seg dksX3_be_11 22 rfl rfl
theorem dksX3_be_13 : cX3_be.data.toList.drop 302 = dktX3_be_13 := dk_seg dksX3_be_12 24 rfl rfl
theorem dksX3_be_14 : cX3_be.data.toList.drop 324 = dktX3_be_14 := dk_seg dksX3_be_13 22 rfl rfl
theorem dksX3_be_15 : cX3_be.data.toList.drop 346 = dktX3_be_15 := dk_seg dksX3_be_14 22 rfl rfl
theorem dksX3_be_16 : cX3_be.data.toList.drop 370 = dktX3_be_16 := dk_seg dksX3_be_15 24 rfl rfl
theorem dksX3_be_17 : cX3_be.data.toList.drop 392 = dktX3_be_17 := dk_seg dksX3_be_16 22 rfl rfl
theorem dksX3_be_18 : cX3_be.data.toList.drop 414 = dktX3_be_18 := dk_seg dksX3_be_17 22 rfl rfl
theorem dX3_be_0 : decode cX3_be 0 = .ok (.aload_n 0, 1) := dk_42 (dk_at dksX3_be_0 0 rfl rfl)
theorem dX3_be_1 : decode cX3_be 1 = .ok (.aload_n 1, 1) := dk_43 (dk_at dksX3_be_0 1 rfl rfl)
theorem dX3_be_2 : decode cX3_be 2 = .ok (.getfield 12, 3) := dk_180 0 12 (dk_at dksX3_be_0 2 rfl rfl)
theorem dX3_be_5 : decode cX3_be 5 = .ok (.putfield 12, 3) := dk_181 0 12 (dk_at dksX3_be_0 5 rfl rfl)
theorem dX3_be_8 : decode cX3_be 8 = .ok (.aload_n 0, 1) := dk_42 (dk_at dksX3_be_0 8 rfl rfl)
theorem dX3_be_9 : decode cX3_be 9 = .ok (.aload_n 1, 1) := dk_43 (dk_at dksX3_be_0 9 rfl rfl)
theorem dX3_be_10 : decode cX3_be 10 = .ok (.getfield 87, 3) := dk_180 0 87 (dk_at dksX3_be_0 10 rfl rfl)
theorem dX3_be_13 : decode cX3_be 13 = .ok (.putfield 87, 3) := dk_181 0 87 (dk_at dksX3_be_0 13 rfl rfl)
theorem dX3_be_16 : decode cX3_be 16 = .ok (.aload_n 0, 1) := dk_42 (dk_at dksX3_be_0 16 rfl rfl)
theorem dX3_be_17 : decode cX3_be 17 = .ok (.aload_n 1, 1) := dk_43 (dk_at dksX3_be_0 17 rfl rfl)
theorem dX3_be_18 : decode cX3_be 18 = .ok (.getfield 90, 3) := dk_180 0 90 (dk_at dksX3_be_0 18 rfl rfl)
theorem dX3_be_21 : decode cX3_be 21 = .ok (.putfield 90, 3) := dk_181 0 90 (dk_at dksX3_be_0 21 rfl rfl)
theorem dX3_be_24 : decode cX3_be 24 = .ok (.aload_n 0, 1) := dk_42 (dk_at dksX3_be_1 0 rfl rfl)
theorem dX3_be_25 : decode cX3_be 25 = .ok (.aload_n 1, 1) := dk_43 (dk_at dksX3_be_1 1 rfl rfl)
theorem dX3_be_26 : decode cX3_be 26 = .ok (.getfield 93, 3) := dk_180 0 93 (dk_at dksX3_be_1 2 rfl rfl)
theorem dX3_be_29 : decode cX3_be 29 = .ok (.putfield 93, 3) := dk_181 0 93 (dk_at dksX3_be_1 5 rfl rfl)
theorem dX3_be_32 : decode cX3_be 32 = .ok (.aload_n 0, 1) := dk_42 (dk_at dksX3_be_1 8 rfl rfl)
theorem dX3_be_33 : decode cX3_be 33 = .ok (.aload_n 1, 1) := dk_43 (dk_at dksX3_be_1 9 rfl rfl)
theorem dX3_be_34 : decode cX3_be 34 = .ok (.getfield 96, 3) := dk_180 0 96 (dk_at dksX3_be_1 10 rfl rfl)
theorem dX3_be_37 : decode cX3_be 37 = .ok (.putfield 96, 3) := dk_181 0 96 (dk_at dksX3_be_1 13 rfl rfl)
theorem dX3_be_40 : decode cX3_be 40 = .ok (.aload_n 0, 1) := dk_42 (dk_at dksX3_be_1 16 rfl rfl)
theorem dX3_be_41 : decode cX3_be 41 = .ok (.aload_n 1, 1) := dk_43 (dk_at dksX3_be_1 17 rfl rfl)
theorem dX3_be_42 : decode cX3_be 42 = .ok (.getfield 99, 3) := dk_180 0 99 (dk_at dksX3_be_1 18 rfl rfl)
theorem dX3_be_45 : decode cX3_be 45 = .ok (.putfield 99, 3) := dk_181 0 99 (dk_at dksX3_be_1 21 rfl rfl)
theorem dX3_be_48 : decode cX3_be 48 = .ok (.aload_n 0, 1) := dk_42 (dk_at dksX3_be_2 0 rfl rfl)
theorem dX3_be_49 : decode cX3_be 49 = .ok (.aload_n 1, 1) := dk_43 (dk_at dksX3_be_2 1 rfl rfl)
theorem dX3_be_50 : decode cX3_be 50 = .ok (.getfield 102, 3) := dk_180 0 102 (dk_at dksX3_be_2 2 rfl rfl)
theorem dX3_be_53 : decode cX3_be 53 = .ok (.putfield 102, 3) := dk_181 0 102 (dk_at dksX3_be_2 5 rfl rfl)
theorem dX3_be_56 : decode cX3_be 56 = .ok (.aload_n 0, 1) := dk_42 (dk_at dksX3_be_2 8 rfl rfl)
theorem dX3_be_57 : decode cX3_be 57 = .ok (.aload_n 1, 1) := dk_43 (dk_at dksX3_be_2 9 rfl rfl)
theorem dX3_be_58 : decode cX3_be 58 = .ok (.getfield 80, 3) := dk_180 0 80 (dk_at dksX3_be_2 10 rfl rfl)
theorem dX3_be_61 : decode cX3_be 61 = .ok (.putfield 80, 3) := dk_181 0 80 (dk_at dksX3_be_2 13 rfl rfl)
theorem dX3_be_64 : decode cX3_be 64 = .ok (.aload_n 0, 1) := dk_42 (dk_at dksX3_be_2 16 rfl rfl)
theorem dX3_be_65 : decode cX3_be 65 = .ok (.aload_n 1, 1) := dk_43 (dk_at dksX3_be_2 17 rfl rfl)
theorem dX3_be_66 : decode cX3_be 66 = .ok (.getfield 84, 3) := dk_180 0 84 (dk_at dksX3_be_2 18 rfl rfl)
theorem dX3_be_69 : decode cX3_be 69 = .ok (.putfield 84, 3) := dk_181 0 84 (dk_at dksX3_be_2 21 rfl rfl)
theorem dX3_be_72 : decode cX3_be 72 = .ok (.aload_n 0, 1) := dk_42 (dk_at dksX3_be_3 0 rfl rfl)
theorem dX3_be_73 : decode cX3_be 73 = .ok (.aload_n 1, 1) := dk_43 (dk_at dksX3_be_3 1 rfl rfl)
theorem dX3_be_74 : decode cX3_be 74 = .ok (.getfield 105, 3) := dk_180 0 105 (dk_at dksX3_be_3 2 rfl rfl)
theorem dX3_be_77 : decode cX3_be 77 = .ok (.putfield 105, 3) := dk_181 0 105 (dk_at dksX3_be_3 5 rfl rfl)
theorem dX3_be_80 : decode cX3_be 80 = .ok (.aload_n 0, 1) := dk_42 (dk_at dksX3_be_3 8 rfl rfl)
theorem dX3_be_81 : decode cX3_be 81 = .ok (.aload_n 1, 1) := dk_43 (dk_at dksX3_be_3 9 rfl rfl)
theorem dX3_be_82 : decode cX3_be 82 = .ok (.getfield 108, 3) := dk_180 0 108 (dk_at dksX3_be_3 10 rfl rfl)
theorem dX3_be_85 : decode cX3_be 85 = .ok (.putfield 108, 3) := dk_181 0 108 (dk_at dksX3_be_3 13 rfl rfl)
theorem dX3_be_88 : decode cX3_be 88 = .ok (.aload_n 1, 1) := dk_43 (dk_at dksX3_be_3 16 rfl rfl)
theorem dX3_be_89 : decode cX3_be 89 = .ok (.getfield 18, 3) := dk_180 0 18 (dk_at dksX3_be_3 17 rfl rfl)
theorem dX3_be_92 : decode cX3_be 92 = .ok (.iconst 0, 1) := dk_3 (dk_at dksX3_be_3 20 rfl rfl)
theorem dX3_be_93 : decode cX3_be 93 = .ok (.aload_n 0, 1) := dk_42 (dk_at dksX3_be_3 21 rfl rfl)
theorem dX3_be_94 : decode cX3_be 94 = .ok (.getfield 18, 3) := dk_180 0 18 (dk_at dksX3_be_4 0 rfl rfl)
theorem dX3_be_97 : decode cX3_be 97 = .ok (.iconst 0, 1) := dk_3 (dk_at dksX3_be_4 3 rfl rfl)
theorem dX3_be_98 : decode cX3_be 98 = .ok (.aload_n 0, 1) := dk_42 (dk_at dksX3_be_4 4 rfl rfl)
theorem dX3_be_99 : decode cX3_be 99 = .ok (.getfield 87, 3) := dk_180 0 87 (dk_at dksX3_be_4 5 rfl rfl)
theorem dX3_be_102 : decode cX3_be 102 = .ok (.invokestatic 111, 3) := dk_184 0 111 (dk_at dksX3_be_4 8 rfl rfl)
theorem dX3_be_105 : decode cX3_be 105 = .ok (.aload_n 1, 1) := dk_43 (dk_at dksX3_be_4 11 rfl rfl)
theorem dX3_be_106 : decode cX3_be 106 = .ok (.getfield 22, 3) := dk_180 0 22 (dk_at dksX3_be_4 12 rfl rfl)
theorem dX3_be_109 : decode cX3_be 109 = .ok (.iconst 0, 1) := dk_3 (dk_at dksX3_be_4 15 rfl rfl)
theorem dX3_be_110 : decode cX3_be 110 = .ok (.aload_n 0, 1) := dk_42 (dk_at dksX3_be_4 16 rfl rfl)
theorem dX3_be_111 : decode cX3_be 111 = .ok (.getfield 22, 3) := dk_180 0 22 (dk_at dksX3_be_4 17 rfl rfl)
theorem dX3_be_114 : decode cX3_be 114 = .ok (.iconst 0, 1) := dk_3 (dk_at dksX3_be_4 20 rfl rfl)
theorem dX3_be_115 : decode cX3_be 115 = .ok (.aload_n 0, 1) := dk_42 (dk_at dksX3_be_4 21 rfl rfl)
theorem dX3_be_116 : decode cX3_be 116 = .ok (.getfield 87, 3) := dk_180 0 87 (dk_at dksX3_be_5 0 rfl rfl)
theorem dX3_be_119 : decode cX3_be 119 = .ok (.invokestatic 111, 3) := dk_184 0 111 (dk_at dksX3_be_5 3 rfl rfl)
theorem dX3_be_122 : decode cX3_be 122 = .ok (.aload_n 1, 1) := dk_43 (dk_at dksX3_be_5 6 rfl rfl)
theorem dX3_be_123 : decode cX3_be 123 = .ok (.getfield 25, 3) := dk_180 0 25 (dk_at dksX3_be_5 7 rfl rfl)
theorem dX3_be_126 : decode cX3_be 126 = .ok (.iconst 0, 1) := dk_3 (dk_at dksX3_be_5 10 rfl rfl)
theorem dX3_be_127 : decode cX3_be 127 = .ok (.aload_n 0, 1) := dk_42 (dk_at dksX3_be_5 11 rfl rfl)
theorem dX3_be_128 : decode cX3_be 128 = .ok (.getfield 25, 3) := dk_180 0 25 (dk_at dksX3_be_5 12 rfl rfl)
theorem dX3_be_131 : decode cX3_be 131 = .ok (.iconst 0, 1) := dk_3 (dk_at dksX3_be_5 15 rfl rfl)
theorem dX3_be_132 : decode cX3_be 132 = .ok (.aload_n 0, 1) := dk_42 (dk_at dksX3_be_5 16 rfl rfl)
theorem dX3_be_133 : decode cX3_be 133 = .ok (.getfield 87, 3) := dk_180 0 87 (dk_at dksX3_be_5 17 rfl rfl)
theorem dX3_be_136 : decode cX3_be 136 = .ok (.invokestatic 111, 3) := dk_184 0 111 (dk_at dksX3_be_5 20 rfl rfl)
theorem dX3_be_139 : decode cX3_be 139 = .ok (.aload_n 1, 1) := dk_43 (dk_at dksX3_be_5 23 rfl rfl)
theorem dX3_be_140 : decode cX3_be 140 = .ok (.getfield 28, 3) := dk_180 0 28 (dk_at dksX3_be_6 0 rfl rfl)
theorem dX3_be_143 : decode cX3_be 143 = .ok (.iconst 0, 1) := dk_3 (dk_at dksX3_be_6 3 rfl rfl)
theorem dX3_be_144 : decode cX3_be 144 = .ok (.aload_n 0, 1) := dk_42 (dk_at dksX3_be_6 4 rfl rfl)
theorem dX3_be_145 : decode cX3_be 145 = .ok (.getfield 28, 3) := dk_180 0 28 (dk_at dksX3_be_6 5 rfl rfl)
theorem dX3_be_148 : decode cX3_be 148 = .ok (.iconst 0, 1) := dk_3 (dk_at dksX3_be_6 8 rfl rfl)
theorem dX3_be_149 : decode cX3_be 149 = .ok (.aload_n 0, 1) := dk_42 (dk_at dksX3_be_6 9 rfl rfl)
theorem dX3_be_150 : decode cX3_be 150 = .ok (.getfield 87, 3) := dk_180 0 87 (dk_at dksX3_be_6 10 rfl rfl)
theorem dX3_be_153 : decode cX3_be 153 = .ok (.invokestatic 111, 3) := dk_184 0 111 (dk_at dksX3_be_6 13 rfl rfl)
theorem dX3_be_156 : decode cX3_be 156 = .ok (.aload_n 1, 1) := dk_43 (dk_at dksX3_be_6 16 rfl rfl)
theorem dX3_be_157 : decode cX3_be 157 = .ok (.getfield 31, 3) := dk_180 0 31 (dk_at dksX3_be_6 17 rfl rfl)
theorem dX3_be_160 : decode cX3_be 160 = .ok (.iconst 0, 1) := dk_3 (dk_at dksX3_be_6 20 rfl rfl)
theorem dX3_be_161 : decode cX3_be 161 = .ok (.aload_n 0, 1) := dk_42 (dk_at dksX3_be_6 21 rfl rfl)
theorem dX3_be_162 : decode cX3_be 162 = .ok (.getfield 31, 3) := dk_180 0 31 (dk_at dksX3_be_7 0 rfl rfl)
theorem dX3_be_165 : decode cX3_be 165 = .ok (.iconst 0, 1) := dk_3 (dk_at dksX3_be_7 3 rfl rfl)
theorem dX3_be_166 : decode cX3_be 166 = .ok (.aload_n 0, 1) := dk_42 (dk_at dksX3_be_7 4 rfl rfl)
theorem dX3_be_167 : decode cX3_be 167 = .ok (.getfield 87, 3) := dk_180 0 87 (dk_at dksX3_be_7 5 rfl rfl)
theorem dX3_be_170 : decode cX3_be 170 = .ok (.bipush 9, 2) := dk_16 9 (dk_at dksX3_be_7 8 rfl rfl)
theorem dX3_be_172 : decode cX3_be 172 = .ok (.imul, 1) := dk_104 (dk_at dksX3_be_7 10 rfl rfl)
theorem dX3_be_173 : decode cX3_be 173 = .ok (.invokestatic 111, 3) := dk_184 0 111 (dk_at dksX3_be_7 11 rfl rfl)
theorem dX3_be_176 : decode cX3_be 176 = .ok (.aload_n 1, 1) := dk_43 (dk_at dksX3_be_7 14 rfl rfl)
theorem dX3_be_177 : decode cX3_be 177 = .ok (.getfield 34, 3) := dk_180 0 34 (dk_at dksX3_be_7 15 rfl rfl)
theorem dX3_be_180 : decode cX3_be 180 = .ok (.iconst 0, 1) := dk_3 (dk_at dksX3_be_7 18 rfl rfl)
theorem dX3_be_181 : decode cX3_be 181 = .ok (.aload_n 0, 1) := dk_42 (dk_at dksX3_be_7 19 rfl rfl)
theorem dX3_be_182 : decode cX3_be 182 = .ok (.getfield 34, 3) := dk_180 0 34 (dk_at dksX3_be_7 20 rfl rfl)
theorem dX3_be_185 : decode cX3_be 185 = .ok (.iconst 0, 1) := dk_3 (dk_at dksX3_be_7 23 rfl rfl)
theorem dX3_be_186 : decode cX3_be 186 = .ok (.aload_n 0, 1) := dk_42 (dk_at dksX3_be_8 0 rfl rfl)
theorem dX3_be_187 : decode cX3_be 187 = .ok (.getfield 87, 3) := dk_180 0 87 (dk_at dksX3_be_8 1 rfl rfl)
theorem dX3_be_190 : decode cX3_be 190 = .ok (.bipush 9, 2) := dk_16 9 (dk_at dksX3_be_8 4 rfl rfl)
theorem dX3_be_192 : decode cX3_be 192 = .ok (.imul, 1) := dk_104 (dk_at dksX3_be_8 6 rfl rfl)
theorem dX3_be_193 : decode cX3_be 193 = .ok (.invokestatic 111, 3) := dk_184 0 111 (dk_at dksX3_be_8 7 rfl rfl)
theorem dX3_be_196 : decode cX3_be 196 = .ok (.aload_n 1, 1) := dk_43 (dk_at dksX3_be_8 10 rfl rfl)
theorem dX3_be_197 : decode cX3_be 197 = .ok (.getfield 37, 3) := dk_180 0 37 (dk_at dksX3_be_8 11 rfl rfl)
theorem dX3_be_200 : decode cX3_be 200 = .ok (.iconst 0, 1) := dk_3 (dk_at dksX3_be_8 14 rfl rfl)
theorem dX3_be_201 : decode cX3_be 201 = .ok (.aload_n 0, 1) := dk_42 (dk_at dksX3_be_8 15 rfl rfl)
theorem dX3_be_202 : decode cX3_be 202 = .ok (.getfield 37, 3) := dk_180 0 37 (dk_at dksX3_be_8 16 rfl rfl)
theorem dX3_be_205 : decode cX3_be 205 = .ok (.iconst 0, 1) := dk_3 (dk_at dksX3_be_8 19 rfl rfl)
theorem dX3_be_206 : decode cX3_be 206 = .ok (.aload_n 0, 1) := dk_42 (dk_at dksX3_be_8 20 rfl rfl)
theorem dX3_be_207 : decode cX3_be 207 = .ok (.getfield 87, 3) := dk_180 0 87 (dk_at dksX3_be_8 21 rfl rfl)
theorem dX3_be_210 : decode cX3_be 210 = .ok (.bipush 9, 2) := dk_16 9 (dk_at dksX3_be_9 0 rfl rfl)
theorem dX3_be_212 : decode cX3_be 212 = .ok (.imul, 1) := dk_104 (dk_at dksX3_be_9 2 rfl rfl)
theorem dX3_be_213 : decode cX3_be 213 = .ok (.invokestatic 111, 3) := dk_184 0 111 (dk_at dksX3_be_9 3 rfl rfl)
theorem dX3_be_216 : decode cX3_be 216 = .ok (.aload_n 1, 1) := dk_43 (dk_at dksX3_be_9 6 rfl rfl)
theorem dX3_be_217 : decode cX3_be 217 = .ok (.getfield 40, 3) := dk_180 0 40 (dk_at dksX3_be_9 7 rfl rfl)
theorem dX3_be_220 : decode cX3_be 220 = .ok (.iconst 0, 1) := dk_3 (dk_at dksX3_be_9 10 rfl rfl)
theorem dX3_be_221 : decode cX3_be 221 = .ok (.aload_n 0, 1) := dk_42 (dk_at dksX3_be_9 11 rfl rfl)
theorem dX3_be_222 : decode cX3_be 222 = .ok (.getfield 40, 3) := dk_180 0 40 (dk_at dksX3_be_9 12 rfl rfl)
theorem dX3_be_225 : decode cX3_be 225 = .ok (.iconst 0, 1) := dk_3 (dk_at dksX3_be_9 15 rfl rfl)
theorem dX3_be_226 : decode cX3_be 226 = .ok (.aload_n 0, 1) := dk_42 (dk_at dksX3_be_9 16 rfl rfl)
theorem dX3_be_227 : decode cX3_be 227 = .ok (.getfield 90, 3) := dk_180 0 90 (dk_at dksX3_be_9 17 rfl rfl)
theorem dX3_be_230 : decode cX3_be 230 = .ok (.invokestatic 111, 3) := dk_184 0 111 (dk_at dksX3_be_9 20 rfl rfl)
theorem dX3_be_233 : decode cX3_be 233 = .ok (.aload_n 1, 1) := dk_43 (dk_at dksX3_be_9 23 rfl rfl)
theorem dX3_be_234 : decode cX3_be 234 = .ok (.getfield 43, 3) := dk_180 0 43 (dk_at dksX3_be_10 0 rfl rfl)
theorem dX3_be_237 : decode cX3_be 237 = .ok (.iconst 0, 1) := dk_3 (dk_at dksX3_be_10 3 rfl rfl)
theorem dX3_be_238 : decode cX3_be 238 = .ok (.aload_n 0, 1) := dk_42 (dk_at dksX3_be_10 4 rfl rfl)
theorem dX3_be_239 : decode cX3_be 239 = .ok (.getfield 43, 3) := dk_180 0 43 (dk_at dksX3_be_10 5 rfl rfl)
theorem dX3_be_242 : decode cX3_be 242 = .ok (.iconst 0, 1) := dk_3 (dk_at dksX3_be_10 8 rfl rfl)
theorem dX3_be_243 : decode cX3_be 243 = .ok (.aload_n 0, 1) := dk_42 (dk_at dksX3_be_10 9 rfl rfl)
theorem dX3_be_244 : decode cX3_be 244 = .ok (.getfield 90, 3) := dk_180 0 90 (dk_at dksX3_be_10 10 rfl rfl)
theorem dX3_be_247 : decode cX3_be 247 = .ok (.invokestatic 111, 3) := dk_184 0 111 (dk_at dksX3_be_10 13 rfl rfl)
theorem dX3_be_250 : decode cX3_be 250 = .ok (.aload_n 1, 1) := dk_43 (dk_at dksX3_be_10 16 rfl rfl)
theorem dX3_be_251 : decode cX3_be 251 = .ok (.getfield 46, 3) := dk_180 0 46 (dk_at dksX3_be_10 17 rfl rfl)
theorem dX3_be_254 : decode cX3_be 254 = .ok (.iconst 0, 1) := dk_3 (dk_at dksX3_be_10 20 rfl rfl)
theorem dX3_be_255 : decode cX3_be 255 = .ok (.aload_n 0, 1) := dk_42 (dk_at dksX3_be_10 21 rfl rfl)
theorem dX3_be_256 : decode cX3_be 256 = .ok (.getfield 46, 3) := dk_180 0 46 (dk_at dksX3_be_11 0 rfl rfl)
theorem dX3_be_259 : decode cX3_be 259 = .ok (.iconst 0, 1) := dk_3 (dk_at dksX3_be_11 3 rfl rfl)
theorem dX3_be_260 : decode cX3_be 260 = .ok (.aload_n 0, 1) := dk_42 (dk_at dksX3_be_11 4 rfl rfl)
theorem dX3_be_261 : decode cX3_be 261 = .ok (.getfield 90, 3) := dk_180 0 90 (dk_at dksX3_be_11 5 rfl rfl)
theorem dX3_be_264 : decode cX3_be 264 = .ok (.invokestatic 111, 3) := dk_184 0 111 (dk_at dksX3_be_11 8 rfl rfl)
theorem dX3_be_267 : decode cX3_be 267 = .ok (.aload_n 1, 1) := dk_43 (dk_at dksX3_be_11 11 rfl rfl)
theorem dX3_be_268 : decode cX3_be 268 = .ok (.getfield 49, 3) := dk_180 0 49 (dk_at dksX3_be_11 12 rfl rfl)
theorem dX3_be_271 : decode cX3_be 271 = .ok (.iconst 0, 1) := dk_3 (dk_at dksX3_be_11 15 rfl rfl)
theorem dX3_be_272 : decode cX3_be 272 = .ok (.aload_n 0, 1) := dk_42 (dk_at dksX3_be_11 16 rfl rfl)
theorem dX3_be_273 : decode cX3_be 273 = .ok (.getfield 49, 3) := dk_180 0 49 (dk_at dksX3_be_11 17 rfl rfl)
theorem dX3_be_276 : decode cX3_be 276 = .ok (.iconst 0, 1) := dk_3 (dk_at dksX3_be_11 20 rfl rfl)
theorem dX3_be_277 : decode cX3_be 277 = .ok (.aload_n 0, 1) := dk_42 (dk_at dksX3_be_11 21 rfl rfl)
theorem dX3_be_278 : decode cX3_be 278 = .ok (.getfield 90, 3) := dk_180 0 90 (dk_at dksX3_be_12 0 rfl rfl)
theorem dX3_be_281 : decode cX3_be 281 = .ok (.invokestatic 111, 3) := dk_184 0 111 (dk_at dksX3_be_12 3 rfl rfl)
theorem dX3_be_284 : decode cX3_be 284 = .ok (.aload_n 1, 1) := dk_43 (dk_at dksX3_be_12 6 rfl rfl)
theorem dX3_be_285 : decode cX3_be 285 = .ok (.getfield 52, 3) := dk_180 0 52 (dk_at dksX3_be_12 7 rfl rfl)
theorem dX3_be_288 : decode cX3_be 288 = .ok (.iconst 0, 1) := dk_3 (dk_at dksX3_be_12 10 rfl rfl)
theorem dX3_be_289 : decode cX3_be 289 = .ok (.aload_n 0, 1) := dk_42 (dk_at dksX3_be_12 11 rfl rfl)
theorem dX3_be_290 : decode cX3_be 290 = .ok (.getfield 52, 3) := dk_180 0 52 (dk_at dksX3_be_12 12 rfl rfl)
theorem dX3_be_293 : decode cX3_be 293 = .ok (.iconst 0, 1) := dk_3 (dk_at dksX3_be_12 15 rfl rfl)
theorem dX3_be_294 : decode cX3_be 294 = .ok (.aload_n 0, 1) := dk_42 (dk_at dksX3_be_12 16 rfl rfl)
theorem dX3_be_295 : decode cX3_be 295 = .ok (.getfield 90, 3) := dk_180 0 90 (dk_at dksX3_be_12 17 rfl rfl)
theorem dX3_be_298 : decode cX3_be 298 = .ok (.invokestatic 111, 3) := dk_184 0 111 (dk_at dksX3_be_12 20 rfl rfl)
theorem dX3_be_301 : decode cX3_be 301 = .ok (.aload_n 1, 1) := dk_43 (dk_at dksX3_be_12 23 rfl rfl)
theorem dX3_be_302 : decode cX3_be 302 = .ok (.getfield 55, 3) := dk_180 0 55 (dk_at dksX3_be_13 0 rfl rfl)
theorem dX3_be_305 : decode cX3_be 305 = .ok (.iconst 0, 1) := dk_3 (dk_at dksX3_be_13 3 rfl rfl)
theorem dX3_be_306 : decode cX3_be 306 = .ok (.aload_n 0, 1) := dk_42 (dk_at dksX3_be_13 4 rfl rfl)
theorem dX3_be_307 : decode cX3_be 307 = .ok (.getfield 55, 3) := dk_180 0 55 (dk_at dksX3_be_13 5 rfl rfl)
theorem dX3_be_310 : decode cX3_be 310 = .ok (.iconst 0, 1) := dk_3 (dk_at dksX3_be_13 8 rfl rfl)
theorem dX3_be_311 : decode cX3_be 311 = .ok (.aload_n 0, 1) := dk_42 (dk_at dksX3_be_13 9 rfl rfl)
theorem dX3_be_312 : decode cX3_be 312 = .ok (.getfield 90, 3) := dk_180 0 90 (dk_at dksX3_be_13 10 rfl rfl)
theorem dX3_be_315 : decode cX3_be 315 = .ok (.invokestatic 111, 3) := dk_184 0 111 (dk_at dksX3_be_13 13 rfl rfl)
theorem dX3_be_318 : decode cX3_be 318 = .ok (.aload_n 1, 1) := dk_43 (dk_at dksX3_be_13 16 rfl rfl)
theorem dX3_be_319 : decode cX3_be 319 = .ok (.getfield 59, 3) := dk_180 0 59 (dk_at dksX3_be_13 17 rfl rfl)
theorem dX3_be_322 : decode cX3_be 322 = .ok (.iconst 0, 1) := dk_3 (dk_at dksX3_be_13 20 rfl rfl)
theorem dX3_be_323 : decode cX3_be 323 = .ok (.aload_n 0, 1) := dk_42 (dk_at dksX3_be_13 21 rfl rfl)
theorem dX3_be_324 : decode cX3_be 324 = .ok (.getfield 59, 3) := dk_180 0 59 (dk_at dksX3_be_14 0 rfl rfl)
theorem dX3_be_327 : decode cX3_be 327 = .ok (.iconst 0, 1) := dk_3 (dk_at dksX3_be_14 3 rfl rfl)
theorem dX3_be_328 : decode cX3_be 328 = .ok (.aload_n 0, 1) := dk_42 (dk_at dksX3_be_14 4 rfl rfl)
theorem dX3_be_329 : decode cX3_be 329 = .ok (.getfield 93, 3) := dk_180 0 93 (dk_at dksX3_be_14 5 rfl rfl)
theorem dX3_be_332 : decode cX3_be 332 = .ok (.invokestatic 111, 3) := dk_184 0 111 (dk_at dksX3_be_14 8 rfl rfl)
theorem dX3_be_335 : decode cX3_be 335 = .ok (.aload_n 1, 1) := dk_43 (dk_at dksX3_be_14 11 rfl rfl)
theorem dX3_be_336 : decode cX3_be 336 = .ok (.getfield 62, 3) := dk_180 0 62 (dk_at dksX3_be_14 12 rfl rfl)
theorem dX3_be_339 : decode cX3_be 339 = .ok (.iconst 0, 1) := dk_3 (dk_at dksX3_be_14 15 rfl rfl)
theorem dX3_be_340 : decode cX3_be 340 = .ok (.aload_n 0, 1) := dk_42 (dk_at dksX3_be_14 16 rfl rfl)
theorem dX3_be_341 : decode cX3_be 341 = .ok (.getfield 62, 3) := dk_180 0 62 (dk_at dksX3_be_14 17 rfl rfl)
theorem dX3_be_344 : decode cX3_be 344 = .ok (.iconst 0, 1) := dk_3 (dk_at dksX3_be_14 20 rfl rfl)
theorem dX3_be_345 : decode cX3_be 345 = .ok (.aload_n 0, 1) := dk_42 (dk_at dksX3_be_14 21 rfl rfl)
theorem dX3_be_346 : decode cX3_be 346 = .ok (.getfield 93, 3) := dk_180 0 93 (dk_at dksX3_be_15 0 rfl rfl)
theorem dX3_be_349 : decode cX3_be 349 = .ok (.invokestatic 111, 3) := dk_184 0 111 (dk_at dksX3_be_15 3 rfl rfl)
theorem dX3_be_352 : decode cX3_be 352 = .ok (.aload_n 1, 1) := dk_43 (dk_at dksX3_be_15 6 rfl rfl)
theorem dX3_be_353 : decode cX3_be 353 = .ok (.getfield 65, 3) := dk_180 0 65 (dk_at dksX3_be_15 7 rfl rfl)
theorem dX3_be_356 : decode cX3_be 356 = .ok (.iconst 0, 1) := dk_3 (dk_at dksX3_be_15 10 rfl rfl)
theorem dX3_be_357 : decode cX3_be 357 = .ok (.aload_n 0, 1) := dk_42 (dk_at dksX3_be_15 11 rfl rfl)
theorem dX3_be_358 : decode cX3_be 358 = .ok (.getfield 65, 3) := dk_180 0 65 (dk_at dksX3_be_15 12 rfl rfl)
theorem dX3_be_361 : decode cX3_be 361 = .ok (.iconst 0, 1) := dk_3 (dk_at dksX3_be_15 15 rfl rfl)
theorem dX3_be_362 : decode cX3_be 362 = .ok (.aload_n 0, 1) := dk_42 (dk_at dksX3_be_15 16 rfl rfl)
theorem dX3_be_363 : decode cX3_be 363 = .ok (.getfield 93, 3) := dk_180 0 93 (dk_at dksX3_be_15 17 rfl rfl)
theorem dX3_be_366 : decode cX3_be 366 = .ok (.invokestatic 111, 3) := dk_184 0 111 (dk_at dksX3_be_15 20 rfl rfl)
theorem dX3_be_369 : decode cX3_be 369 = .ok (.aload_n 1, 1) := dk_43 (dk_at dksX3_be_15 23 rfl rfl)
theorem dX3_be_370 : decode cX3_be 370 = .ok (.getfield 68, 3) := dk_180 0 68 (dk_at dksX3_be_16 0 rfl rfl)
theorem dX3_be_373 : decode cX3_be 373 = .ok (.iconst 0, 1) := dk_3 (dk_at dksX3_be_16 3 rfl rfl)
theorem dX3_be_374 : decode cX3_be 374 = .ok (.aload_n 0, 1) := dk_42 (dk_at dksX3_be_16 4 rfl rfl)
theorem dX3_be_375 : decode cX3_be 375 = .ok (.getfield 68, 3) := dk_180 0 68 (dk_at dksX3_be_16 5 rfl rfl)
theorem dX3_be_378 : decode cX3_be 378 = .ok (.iconst 0, 1) := dk_3 (dk_at dksX3_be_16 8 rfl rfl)
theorem dX3_be_379 : decode cX3_be 379 = .ok (.aload_n 0, 1) := dk_42 (dk_at dksX3_be_16 9 rfl rfl)
theorem dX3_be_380 : decode cX3_be 380 = .ok (.getfield 93, 3) := dk_180 0 93 (dk_at dksX3_be_16 10 rfl rfl)
theorem dX3_be_383 : decode cX3_be 383 = .ok (.invokestatic 111, 3) := dk_184 0 111 (dk_at dksX3_be_16 13 rfl rfl)
theorem dX3_be_386 : decode cX3_be 386 = .ok (.aload_n 1, 1) := dk_43 (dk_at dksX3_be_16 16 rfl rfl)
theorem dX3_be_387 : decode cX3_be 387 = .ok (.getfield 71, 3) := dk_180 0 71 (dk_at dksX3_be_16 17 rfl rfl)
theorem dX3_be_390 : decode cX3_be 390 = .ok (.iconst 0, 1) := dk_3 (dk_at dksX3_be_16 20 rfl rfl)
theorem dX3_be_391 : decode cX3_be 391 = .ok (.aload_n 0, 1) := dk_42 (dk_at dksX3_be_16 21 rfl rfl)
theorem dX3_be_392 : decode cX3_be 392 = .ok (.getfield 71, 3) := dk_180 0 71 (dk_at dksX3_be_17 0 rfl rfl)
theorem dX3_be_395 : decode cX3_be 395 = .ok (.iconst 0, 1) := dk_3 (dk_at dksX3_be_17 3 rfl rfl)
theorem dX3_be_396 : decode cX3_be 396 = .ok (.aload_n 0, 1) := dk_42 (dk_at dksX3_be_17 4 rfl rfl)
theorem dX3_be_397 : decode cX3_be 397 = .ok (.getfield 93, 3) := dk_180 0 93 (dk_at dksX3_be_17 5 rfl rfl)
theorem dX3_be_400 : decode cX3_be 400 = .ok (.invokestatic 111, 3) := dk_184 0 111 (dk_at dksX3_be_17 8 rfl rfl)
theorem dX3_be_403 : decode cX3_be 403 = .ok (.aload_n 1, 1) := dk_43 (dk_at dksX3_be_17 11 rfl rfl)
theorem dX3_be_404 : decode cX3_be 404 = .ok (.getfield 74, 3) := dk_180 0 74 (dk_at dksX3_be_17 12 rfl rfl)
theorem dX3_be_407 : decode cX3_be 407 = .ok (.iconst 0, 1) := dk_3 (dk_at dksX3_be_17 15 rfl rfl)
theorem dX3_be_408 : decode cX3_be 408 = .ok (.aload_n 0, 1) := dk_42 (dk_at dksX3_be_17 16 rfl rfl)
theorem dX3_be_409 : decode cX3_be 409 = .ok (.getfield 74, 3) := dk_180 0 74 (dk_at dksX3_be_17 17 rfl rfl)
theorem dX3_be_412 : decode cX3_be 412 = .ok (.iconst 0, 1) := dk_3 (dk_at dksX3_be_17 20 rfl rfl)
theorem dX3_be_413 : decode cX3_be 413 = .ok (.aload_n 0, 1) := dk_42 (dk_at dksX3_be_17 21 rfl rfl)
theorem dX3_be_414 : decode cX3_be 414 = .ok (.getfield 93, 3) := dk_180 0 93 (dk_at dksX3_be_18 0 rfl rfl)
theorem dX3_be_417 : decode cX3_be 417 = .ok (.invokestatic 111, 3) := dk_184 0 111 (dk_at dksX3_be_18 3 rfl rfl)
theorem dX3_be_420 : decode cX3_be 420 = .ok (.aload_n 1, 1) := dk_43 (dk_at dksX3_be_18 6 rfl rfl)
theorem dX3_be_421 : decode cX3_be 421 = .ok (.getfield 77, 3) := dk_180 0 77 (dk_at dksX3_be_18 7 rfl rfl)
theorem dX3_be_424 : decode cX3_be 424 = .ok (.iconst 0, 1) := dk_3 (dk_at dksX3_be_18 10 rfl rfl)
theorem dX3_be_425 : decode cX3_be 425 = .ok (.aload_n 0, 1) := dk_42 (dk_at dksX3_be_18 11 rfl rfl)
theorem dX3_be_426 : decode cX3_be 426 = .ok (.getfield 77, 3) := dk_180 0 77 (dk_at dksX3_be_18 12 rfl rfl)
theorem dX3_be_429 : decode cX3_be 429 = .ok (.iconst 0, 1) := dk_3 (dk_at dksX3_be_18 15 rfl rfl)
theorem dX3_be_430 : decode cX3_be 430 = .ok (.aload_n 0, 1) := dk_42 (dk_at dksX3_be_18 16 rfl rfl)
theorem dX3_be_431 : decode cX3_be 431 = .ok (.getfield 93, 3) := dk_180 0 93 (dk_at dksX3_be_18 17 rfl rfl)
theorem dX3_be_434 : decode cX3_be 434 = .ok (.invokestatic 111, 3) := dk_184 0 111 (dk_at dksX3_be_18 20 rfl rfl)
theorem dX3_be_437 : decode cX3_be 437 = .ok (.return_, 1) := dk_177 (dk_at dksX3_be_18 23 rfl rfl)
abbrev cX3_bar : ByteArray := prog_15_method_5_code
def yX3_bar : MethodName := ⟨RX3, "bar", "(III)I"⟩
def dkwX3_bar_2 : List UInt8 := [180, 0, 133, 161, 0, 8, 16, 6, 167, 0, 4, 3, 172]
abbrev dktX3_bar_2 : List UInt8 := dkwX3_bar_2 ++ []
def dkwX3_bar_1 : List UInt8 := [50, 180, 0, 125, 100, 42, 180, 0, 12, 180, 0, 130, 162, 0, 7, 8, 167, 0, 20, 28, 42, 180, 0, 12]
abbrev dktX3_bar_1 : List UInt8 := dkwX3_bar_1 ++ dktX3_bar_2
def dkwX3_bar_0 : List UInt8 := [42, 180, 0, 102, 29, 184, 0, 117, 153, 0, 7, 7, 167, 0, 48, 27, 42, 180, 0, 12, 180, 0, 121, 29]
abbrev dktX3_bar_0 : List UInt8 := dkwX3_bar_0 ++ dktX3_bar_1
theorem dksX3_bar_0 : cX3_bar.data.toList.drop 0 = dktX3_bar_0 := by decide +kernel
theorem dksX3_bar_1 : cX3_bar.data.toList.drop 24 = dktX3_bar_1 := dk_seg dksX3_bar_0 24 rfl rfl
theorem dksX3_bar_2 : cX3_bar.data.toList.drop 48 = dktX3_bar_2 := dk_seg dksX3_bar_1 24 rfl rfl
theorem dX3_bar_0 : decode cX3_bar 0 = .ok (.aload_n 0, 1) := dk_42 (dk_at dksX3_bar_0 0 rfl rfl)
theorem dX3_bar_1 : decode cX3_bar 1 = .ok (.getfield 102, 3) := dk_180 0 102 (dk_at dksX3_bar_0 1 rfl rfl)
theorem dX3_bar_4 : decode cX3_bar 4 = .ok (.iload_n 3, 1) := dk_29 (dk_at dksX3_bar_0 4 rfl rfl)
theorem dX3_bar_5 : decode cX3_bar 5 = .ok (.invokestatic 117, 3) := dk_184 0 117 (dk_at dksX3_bar_0 5 rfl rfl)
theorem dX3_bar_8 : decode cX3_bar 8 = .ok (.ifCond .eq 7, 3) := dk_153 0 7 (dk_at dksX3_bar_0 8 rfl rfl)
theorem dX3_bar_11 : decode cX3_bar 11 = .ok (.iconst 4, 1) := dk_7 (dk_at dksX3_bar_0 11 rfl rfl)
theorem dX3_bar_12 : decode cX3_bar 12 = .ok (.goto 48, 3) := dk_167 0 48 (dk_at dksX3_bar_0 12 rfl rfl)
theorem dX3_bar_15 : decode cX3_bar 15 = .ok (.iload_n 1, 1) := dk_27 (dk_at dksX3_bar_0 15 rfl rfl)
theorem dX3_bar_16 : decode cX3_bar 16 = .ok (.aload_n 0, 1) := dk_42 (dk_at dksX3_bar_0 16 rfl rfl)
theorem dX3_bar_17 : decode cX3_bar 17 = .ok (.getfield 12, 3) := dk_180 0 12 (dk_at dksX3_bar_0 17 rfl rfl)
theorem dX3_bar_20 : decode cX3_bar 20 = .ok (.getfield 121, 3) := dk_180 0 121 (dk_at dksX3_bar_0 20 rfl rfl)
theorem dX3_bar_23 : decode cX3_bar 23 = .ok (.iload_n 3, 1) := dk_29 (dk_at dksX3_bar_0 23 rfl rfl)
theorem dX3_bar_24 : decode cX3_bar 24 = .ok (.aaload, 1) := dk_50 (dk_at dksX3_bar_1 0 rfl rfl)
theorem dX3_bar_25 : decode cX3_bar 25 = .ok (.getfield 125, 3) := dk_180 0 125 (dk_at dksX3_bar_1 1 rfl rfl)
theorem dX3_bar_28 : decode cX3_bar 28 = .ok (.isub, 1) := dk_100 (dk_at dksX3_bar_1 4 rfl rfl)
theorem dX3_bar_29 : decode cX3_bar 29 = .ok (.aload_n 0, 1) := dk_42 (dk_at dksX3_bar_1 5 rfl rfl)
theorem dX3_bar_30 : decode cX3_bar 30 = .ok (.getfield 12, 3) := dk_180 0 12 (dk_at dksX3_bar_1 6 rfl rfl)
theorem dX3_bar_33 : decode cX3_bar 33 = .ok (.getfield 130, 3) := dk_180 0 130 (dk_at dksX3_bar_1 9 rfl rfl)
theorem dX3_bar_36 : decode cX3_bar 36 = .ok (.if_icmp .ge 7, 3) := dk_162 0 7 (dk_at dksX3_bar_1 12 rfl rfl)
theorem dX3_bar_39 : decode cX3_bar 39 = .ok (.iconst 5, 1) := dk_8 (dk_at dksX3_bar_1 15 rfl rfl)
theorem dX3_bar_40 : decode cX3_bar 40 = .ok (.goto 20, 3) := dk_167 0 20 (dk_at dksX3_bar_1 16 rfl rfl)
theorem dX3_bar_43 : decode cX3_bar 43 = .ok (.iload_n 2, 1) := dk_28 (dk_at dksX3_bar_1 19 rfl rfl)
theorem dX3_bar_44 : decode cX3_bar 44 = .ok (.aload_n 0, 1) := dk_42 (dk_at dksX3_bar_1 20 rfl rfl)
theorem dX3_bar_45 : decode cX3_bar 45 = .ok (.getfield 12, 3) := dk_180 0 12 (dk_at dksX3_bar_1 21 rfl rfl)
theorem dX3_bar_48 : decode cX3_bar 48 = .ok (.getfield 133, 3) := dk_180 0 133 (dk_at dksX3_bar_2 0 rfl rfl)
theorem dX3_bar_51 : decode cX3_bar 51 = .ok (.if_icmp .lt 8, 3) := dk_161 0 8 (dk_at dksX3_bar_2 3 rfl rfl)
theorem dX3_bar_54 : decode cX3_bar 54 = .ok (.bipush 6, 2) := dk_16 6 (dk_at dksX3_bar_2 6 rfl rfl)
theorem dX3_bar_56 : decode cX3_bar 56 = .ok (.goto 4, 3) := dk_167 0 4 (dk_at dksX3_bar_2 8 rfl rfl)
theorem dX3_bar_59 : decode cX3_bar 59 = .ok (.iconst 0, 1) := dk_3 (dk_at dksX3_bar_2 11 rfl rfl)
theorem dX3_bar_60 : decode cX3_bar 60 = .ok (.ireturn, 1) := dk_172 (dk_at dksX3_bar_2 12 rfl rfl)
abbrev cX3_strike : ByteArray := prog_15_method_6_code
def yX3_strike : MethodName := ⟨RX3, "strike", "(IIIIZ)V"⟩
def dkwX3_strike_15 : List UInt8 := [180, 0, 90, 4, 96, 181, 0, 90, 177]
abbrev dktX3_strike_15 : List UInt8 := dkwX3_strike_15 ++ []
def dkwX3_strike_14 : List UInt8 := [180, 0, 52, 42, 180, 0, 90, 21, 4, 79, 42, 180, 0, 55, 42, 180, 0, 90, 21, 5, 84, 42, 89]
abbrev dktX3_strike_14 : List UInt8 := dkwX3_strike_14 ++ dktX3_strike_15
def dkwX3_strike_13 : List UInt8 := [42, 180, 0, 46, 42, 180, 0, 90, 29, 79, 42, 180, 0, 49, 42, 180, 0, 90, 42, 180, 0, 96, 79, 42]
abbrev dktX3_strike_13 : List UInt8 := dkwX3_strike_13 ++ dktX3_strike_14
def dkwX3_strike_12 : List UInt8 := [96, 181, 0, 108, 42, 180, 0, 40, 42, 180, 0, 90, 27, 79, 42, 180, 0, 43, 42, 180, 0, 90, 28, 79]
abbrev dktX3_strike_12 : List UInt8 := dkwX3_strike_12 ++ dktX3_strike_13
def dkwX3_strike_11 : List UInt8 := [29, 50, 180, 0, 125, 100, 79, 42, 89, 180, 0, 108, 42, 180, 0, 12, 180, 0, 121, 29, 50, 180, 0, 125]
abbrev dktX3_strike_11 : List UInt8 := dkwX3_strike_11 ++ dktX3_strike_12
def dkwX3_strike_10 : List UInt8 := [42, 180, 0, 25, 27, 92, 46, 4, 96, 79, 42, 180, 0, 18, 27, 92, 46, 42, 180, 0, 12, 180, 0, 121]
abbrev dktX3_strike_10 : List UInt8 := dkwX3_strike_10 ++ dktX3_strike_11
def dkwX3_strike_9 : List UInt8 := [16, 9, 79, 42, 180, 0, 37, 21, 6, 42, 180, 0, 90, 79, 42, 180, 0, 28, 27, 21, 7, 4, 96, 79]
abbrev dktX3_strike_9 : List UInt8 := dkwX3_strike_9 ++ dktX3_strike_10
def dkwX3_strike_8 : List UInt8 := [100, 46, 79, 132, 8, 255, 167, 255, 182, 42, 180, 0, 31, 21, 6, 28, 79, 42, 180, 0, 34, 21, 6]
abbrev dktX3_strike_8 : List UInt8 := dkwX3_strike_8 ++ dktX3_strike_9
def dkwX3_strike_7 : List UInt8 := [96, 4, 100, 46, 79, 42, 180, 0, 37, 21, 6, 21, 8, 96, 42, 180, 0, 37, 21, 6, 21, 8, 96, 4]
abbrev dktX3_strike_7 : List UInt8 := dkwX3_strike_7 ++ dktX3_strike_8
def dkwX3_strike_6 : List UInt8 := [21, 8, 96, 4, 100, 46, 79, 42, 180, 0, 34, 21, 6, 21, 8, 96, 42, 180, 0, 34, 21, 6, 21, 8]
abbrev dktX3_strike_6 : List UInt8 := dkwX3_strike_6 ++ dktX3_strike_7
def dkwX3_strike_5 : List UInt8 := [21, 7, 54, 8, 21, 8, 158, 0, 75, 42, 180, 0, 31, 21, 6, 21, 8, 96, 42, 180, 0, 31, 21, 6]
abbrev dktX3_strike_5 : List UInt8 := dkwX3_strike_5 ++ dktX3_strike_6
def dkwX3_strike_4 : List UInt8 := [21, 7, 96, 42, 180, 0, 37, 21, 6, 21, 8, 96, 46, 79, 132, 7, 1, 132, 8, 1, 167, 255, 154]
abbrev dktX3_strike_4 : List UInt8 := dkwX3_strike_4 ++ dktX3_strike_5
def dkwX3_strike_3 : List UInt8 := [21, 8, 96, 46, 79, 42, 180, 0, 34, 21, 6, 21, 7, 96, 21, 9, 79, 42, 180, 0, 37, 21, 6]
abbrev dktX3_strike_3 : List UInt8 := dkwX3_strike_3 ++ dktX3_strike_4
def dkwX3_strike_2 : List UInt8 := [21, 9, 157, 0, 6, 167, 0, 58, 42, 180, 0, 31, 21, 6, 21, 7, 96, 42, 180, 0, 31, 21, 6]
abbrev dktX3_strike_2 : List UInt8 := dkwX3_strike_2 ++ dktX3_strike_3
def dkwX3_strike_1 : List UInt8 := [180, 0, 34, 21, 6, 21, 8, 96, 46, 42, 180, 0, 12, 180, 0, 121, 29, 50, 180, 0, 136, 100, 54, 9]
abbrev dktX3_strike_1 : List UInt8 := dkwX3_strike_1 ++ dktX3_strike_2
def dkwX3_strike_0 : List UInt8 := [16, 9, 27, 104, 54, 6, 3, 54, 7, 3, 54, 8, 21, 8, 42, 180, 0, 28, 27, 46, 162, 0, 97, 42]
abbrev dktX3_strike_0 : List UInt8 := dkwX3_strike_0 ++ dktX3_strike_1
theorem dksX3_strike_0 : cX3_strike.data.toList.drop 0 = dktX3_strike_0 := by decide +kernel
theorem dksX3_strike_1 : cX3_strike.data.toList.drop 24 = dktX3_strike_1 := dk_seg dksX3_strike_0 24 rfl rfl
theorem dksX3_strike_2 : cX3_strike.data.toList.drop 48 = dktX3_strike_2 := dk_seg dksX3_strike_1 24 rfl rfl
theorem dksX3_strike_3 : cX3_strike.data.toList.drop 71 = dktX3_strike_3 := dk_seg dksX3_strike_2 23 rfl rfl
theorem dksX3_strike_4 : cX3_strike.data.toList.drop 94 = dktX3_strike_4 := dk_seg dksX3_strike_3 23 rfl rfl
theorem dksX3_strike_5 : cX3_strike.data.toList.drop 117 = dktX3_strike_5 := dk_seg dksX3_strike_4 23 rfl rfl
theorem dksX3_strike_6 : cX3_strike.data.toList.drop 141 = dktX3_strike_6 := dk_seg dksX3_strike_5 24 rfl rfl
theorem dksX3_strike_7 : cX3_strike.data.toList.drop 165 = dktX3_strike_7 := dk_seg dksX3_strike_6 24 rfl rfl
theorem dksX3_strike_8 : cX3_strike.data.toList.drop 189 = dktX3_strike_8 := dk_seg dksX3_strike_7 24 rfl rfl
theorem dksX3_strike_9 : cX3_strike.data.toList.drop 212 = dktX3_strike_9 := dk_seg dksX3_strike_8 23 rfl rfl
theorem dksX3_strike_10 : cX3_strike.data.toList.drop 236 = dktX3_strike_10 := dk_seg dksX3_strike_9 24 rfl rfl
theorem dksX3_strike_11 : cX3_strike.data.toList.drop 260 = dktX3_strike_11 := dk_seg dksX3_strike_10 24 rfl rfl
theorem dksX3_strike_12 : cX3_strike.data.toList.drop 284 = dktX3_strike_12 := dk_seg dksX3_strike_11 24 rfl rfl
theorem dksX3_strike_13 : cX3_strike.data.toList.drop 308 = dktX3_strike_13 := dk_seg dksX3_strike_12 24 rfl rfl
theorem dksX3_strike_14 : cX3_strike.data.toList.drop 332 = dktX3_strike_14 := dk_seg dksX3_strike_13 24 rfl rfl
theorem dksX3_strike_15 : cX3_strike.data.toList.drop 355 = dktX3_strike_15 := dk_seg dksX3_strike_14 23 rfl rfl
theorem dX3_strike_0 : decode cX3_strike 0 = .ok (.bipush 9, 2) := dk_16 9 (dk_at dksX3_strike_0 0 rfl rfl)
theorem dX3_strike_2 : decode cX3_strike 2 = .ok (.iload_n 1, 1) := dk_27 (dk_at dksX3_strike_0 2 rfl rfl)
theorem dX3_strike_3 : decode cX3_strike 3 = .ok (.imul, 1) := dk_104 (dk_at dksX3_strike_0 3 rfl rfl)
theorem dX3_strike_4 : decode cX3_strike 4 = .ok (.istore 6, 2) := dk_54 6 (dk_at dksX3_strike_0 4 rfl rfl)
theorem dX3_strike_6 : decode cX3_strike 6 = .ok (.iconst 0, 1) := dk_3 (dk_at dksX3_strike_0 6 rfl rfl)
theorem dX3_strike_7 : decode cX3_strike 7 = .ok (.istore 7, 2) := dk_54 7 (dk_at dksX3_strike_0 7 rfl rfl)
theorem dX3_strike_9 : decode cX3_strike 9 = .ok (.iconst 0, 1) := dk_3 (dk_at dksX3_strike_0 9 rfl rfl)
theorem dX3_strike_10 : decode cX3_strike 10 = .ok (.istore 8, 2) := dk_54 8 (dk_at dksX3_strike_0 10 rfl rfl)
theorem dX3_strike_12 : decode cX3_strike 12 = .ok (.iload 8, 2) := dk_21 8 (dk_at dksX3_strike_0 12 rfl rfl)
theorem dX3_strike_14 : decode cX3_strike 14 = .ok (.aload_n 0, 1) := dk_42 (dk_at dksX3_strike_0 14 rfl rfl)
theorem dX3_strike_15 : decode cX3_strike 15 = .ok (.getfield 28, 3) := dk_180 0 28 (dk_at dksX3_strike_0 15 rfl rfl)
theorem dX3_strike_18 : decode cX3_strike 18 = .ok (.iload_n 1, 1) := dk_27 (dk_at dksX3_strike_0 18 rfl rfl)
theorem dX3_strike_19 : decode cX3_strike 19 = .ok (.iaload, 1) := dk_46 (dk_at dksX3_strike_0 19 rfl rfl)
theorem dX3_strike_20 : decode cX3_strike 20 = .ok (.if_icmp .ge 97, 3) := dk_162 0 97 (dk_at dksX3_strike_0 20 rfl rfl)
theorem dX3_strike_23 : decode cX3_strike 23 = .ok (.aload_n 0, 1) := dk_42 (dk_at dksX3_strike_0 23 rfl rfl)
theorem dX3_strike_24 : decode cX3_strike 24 = .ok (.getfield 34, 3) := dk_180 0 34 (dk_at dksX3_strike_1 0 rfl rfl)
theorem dX3_strike_27 : decode cX3_strike 27 = .ok (.iload 6, 2) := dk_21 6 (dk_at dksX3_strike_1 3 rfl rfl)
theorem dX3_strike_29 : decode cX3_strike 29 = .ok (.iload 8, 2) := dk_21 8 (dk_at dksX3_strike_1 5 rfl rfl)
theorem dX3_strike_31 : decode cX3_strike 31 = .ok (.iadd, 1) := dk_96 (dk_at dksX3_strike_1 7 rfl rfl)
theorem dX3_strike_32 : decode cX3_strike 32 = .ok (.iaload, 1) := dk_46 (dk_at dksX3_strike_1 8 rfl rfl)
theorem dX3_strike_33 : decode cX3_strike 33 = .ok (.aload_n 0, 1) := dk_42 (dk_at dksX3_strike_1 9 rfl rfl)
theorem dX3_strike_34 : decode cX3_strike 34 = .ok (.getfield 12, 3) := dk_180 0 12 (dk_at dksX3_strike_1 10 rfl rfl)
theorem dX3_strike_37 : decode cX3_strike 37 = .ok (.getfield 121, 3) := dk_180 0 121 (dk_at dksX3_strike_1 13 rfl rfl)
theorem dX3_strike_40 : decode cX3_strike 40 = .ok (.iload_n 3, 1) := dk_29 (dk_at dksX3_strike_1 16 rfl rfl)
theorem dX3_strike_41 : decode cX3_strike 41 = .ok (.aaload, 1) := dk_50 (dk_at dksX3_strike_1 17 rfl rfl)
theorem dX3_strike_42 : decode cX3_strike 42 = .ok (.getfield 136, 3) := dk_180 0 136 (dk_at dksX3_strike_1 18 rfl rfl)
theorem dX3_strike_45 : decode cX3_strike 45 = .ok (.isub, 1) := dk_100 (dk_at dksX3_strike_1 21 rfl rfl)
theorem dX3_strike_46 : decode cX3_strike 46 = .ok (.istore 9, 2) := dk_54 9 (dk_at dksX3_strike_1 22 rfl rfl)
theorem dX3_strike_48 : decode cX3_strike 48 = .ok (.iload 9, 2) := dk_21 9 (dk_at dksX3_strike_2 0 rfl rfl)
theorem dX3_strike_50 : decode cX3_strike 50 = .ok (.ifCond .gt 6, 3) := dk_157 0 6 (dk_at dksX3_strike_2 2 rfl rfl)
theorem dX3_strike_53 : decode cX3_strike 53 = .ok (.goto 58, 3) := dk_167 0 58 (dk_at dksX3_strike_2 5 rfl rfl)
theorem dX3_strike_56 : decode cX3_strike 56 = .ok (.aload_n 0, 1) := dk_42 (dk_at dksX3_strike_2 8 rfl rfl)
theorem dX3_strike_57 : decode cX3_strike 57 = .ok (.getfield 31, 3) := dk_180 0 31 (dk_at dksX3_strike_2 9 rfl rfl)
theorem dX3_strike_60 : decode cX3_strike 60 = .ok (.iload 6, 2) := dk_21 6 (dk_at dksX3_strike_2 12 rfl rfl)
theorem dX3_strike_62 : decode cX3_strike 62 = .ok (.iload 7, 2) := dk_21 7 (dk_at dksX3_strike_2 14 rfl rfl)
theorem dX3_strike_64 : decode cX3_strike 64 = .ok (.iadd, 1) := dk_96 (dk_at dksX3_strike_2 16 rfl rfl)
theorem dX3_strike_65 : decode cX3_strike 65 = .ok (.aload_n 0, 1) := dk_42 (dk_at dksX3_strike_2 17 rfl rfl)
theorem dX3_strike_66 : decode cX3_strike 66 = .ok (.getfield 31, 3) := dk_180 0 31 (dk_at dksX3_strike_2 18 rfl rfl)
theorem dX3_strike_69 : decode cX3_strike 69 = .ok (.iload 6, 2) := dk_21 6 (dk_at dksX3_strike_2 21 rfl rfl)
theorem dX3_strike_71 : decode cX3_strike 71 = .ok (.iload 8, 2) := dk_21 8 (dk_at dksX3_strike_3 0 rfl rfl)
theorem dX3_strike_73 : decode cX3_strike 73 = .ok (.iadd, 1) := dk_96 (dk_at dksX3_strike_3 2 rfl rfl)
theorem dX3_strike_74 : decode cX3_strike 74 = .ok (.iaload, 1) := dk_46 (dk_at dksX3_strike_3 3 rfl rfl)
theorem dX3_strike_75 : decode cX3_strike 75 = .ok (.iastore, 1) := dk_79 (dk_at dksX3_strike_3 4 rfl rfl)
theorem dX3_strike_76 : decode cX3_strike 76 = .ok (.aload_n 0, 1) := dk_42 (dk_at dksX3_strike_3 5 rfl rfl)
theorem dX3_strike_77 : decode cX3_strike 77 = .ok (.getfield 34, 3) := dk_180 0 34 (dk_at dksX3_strike_3 6 rfl rfl)
theorem dX3_strike_80 : decode cX3_strike 80 = .ok (.iload 6, 2) := dk_21 6 (dk_at dksX3_strike_3 9 rfl rfl)
theorem dX3_strike_82 : decode cX3_strike 82 = .ok (.iload 7, 2) := dk_21 7 (dk_at dksX3_strike_3 11 rfl rfl)
theorem dX3_strike_84 : decode cX3_strike 84 = .ok (.iadd, 1) := dk_96 (dk_at dksX3_strike_3 13 rfl rfl)
theorem dX3_strike_85 : decode cX3_strike 85 = .ok (.iload 9, 2) := dk_21 9 (dk_at dksX3_strike_3 14 rfl rfl)
theorem dX3_strike_87 : decode cX3_strike 87 = .ok (.iastore, 1) := dk_79 (dk_at dksX3_strike_3 16 rfl rfl)
theorem dX3_strike_88 : decode cX3_strike 88 = .ok (.aload_n 0, 1) := dk_42 (dk_at dksX3_strike_3 17 rfl rfl)
theorem dX3_strike_89 : decode cX3_strike 89 = .ok (.getfield 37, 3) := dk_180 0 37 (dk_at dksX3_strike_3 18 rfl rfl)
theorem dX3_strike_92 : decode cX3_strike 92 = .ok (.iload 6, 2) := dk_21 6 (dk_at dksX3_strike_3 21 rfl rfl)
theorem dX3_strike_94 : decode cX3_strike 94 = .ok (.iload 7, 2) := dk_21 7 (dk_at dksX3_strike_4 0 rfl rfl)
theorem dX3_strike_96 : decode cX3_strike 96 = .ok (.iadd, 1) := dk_96 (dk_at dksX3_strike_4 2 rfl rfl)
theorem dX3_strike_97 : decode cX3_strike 97 = .ok (.aload_n 0, 1) := dk_42 (dk_at dksX3_strike_4 3 rfl rfl)
theorem dX3_strike_98 : decode cX3_strike 98 = .ok (.getfield 37, 3) := dk_180 0 37 (dk_at dksX3_strike_4 4 rfl rfl)
theorem dX3_strike_101 : decode cX3_strike 101 = .ok (.iload 6, 2) := dk_21 6 (dk_at dksX3_strike_4 7 rfl rfl)
theorem dX3_strike_103 : decode cX3_strike 103 = .ok (.iload 8, 2) := dk_21 8 (dk_at dksX3_strike_4 9 rfl rfl)
theorem dX3_strike_105 : decode cX3_strike 105 = .ok (.iadd, 1) := dk_96 (dk_at dksX3_strike_4 11 rfl rfl)
theorem dX3_strike_106 : decode cX3_strike 106 = .ok (.iaload, 1) := dk_46 (dk_at dksX3_strike_4 12 rfl rfl)
theorem dX3_strike_107 : decode cX3_strike 107 = .ok (.iastore, 1) := dk_79 (dk_at dksX3_strike_4 13 rfl rfl)
theorem dX3_strike_108 : decode cX3_strike 108 = .ok (.iinc 7 1, 3) := dk_132 7 1 (dk_at dksX3_strike_4 14 rfl rfl)
theorem dX3_strike_111 : decode cX3_strike 111 = .ok (.iinc 8 1, 3) := dk_132 8 1 (dk_at dksX3_strike_4 17 rfl rfl)
theorem dX3_strike_114 : decode cX3_strike 114 = .ok (.goto (-102), 3) := dk_167 255 154 (dk_at dksX3_strike_4 20 rfl rfl)
theorem dX3_strike_117 : decode cX3_strike 117 = .ok (.iload 7, 2) := dk_21 7 (dk_at dksX3_strike_5 0 rfl rfl)
theorem dX3_strike_119 : decode cX3_strike 119 = .ok (.istore 8, 2) := dk_54 8 (dk_at dksX3_strike_5 2 rfl rfl)
theorem dX3_strike_121 : decode cX3_strike 121 = .ok (.iload 8, 2) := dk_21 8 (dk_at dksX3_strike_5 4 rfl rfl)
theorem dX3_strike_123 : decode cX3_strike 123 = .ok (.ifCond .le 75, 3) := dk_158 0 75 (dk_at dksX3_strike_5 6 rfl rfl)
theorem dX3_strike_126 : decode cX3_strike 126 = .ok (.aload_n 0, 1) := dk_42 (dk_at dksX3_strike_5 9 rfl rfl)
theorem dX3_strike_127 : decode cX3_strike 127 = .ok (.getfield 31, 3) := dk_180 0 31 (dk_at dksX3_strike_5 10 rfl rfl)
theorem dX3_strike_130 : decode cX3_strike 130 = .ok (.iload 6, 2) := dk_21 6 (dk_at dksX3_strike_5 13 rfl rfl)
theorem dX3_strike_132 : decode cX3_strike 132 = .ok (.iload 8, 2) := dk_21 8 (dk_at dksX3_strike_5 15 rfl rfl)
theorem dX3_strike_134 : decode cX3_strike 134 = .ok (.iadd, 1) := dk_96 (dk_at dksX3_strike_5 17 rfl rfl)
theorem dX3_strike_135 : decode cX3_strike 135 = .ok (.aload_n 0, 1) := dk_42 (dk_at dksX3_strike_5 18 rfl rfl)
theorem dX3_strike_136 : decode cX3_strike 136 = .ok (.getfield 31, 3) := dk_180 0 31 (dk_at dksX3_strike_5 19 rfl rfl)
theorem dX3_strike_139 : decode cX3_strike 139 = .ok (.iload 6, 2) := dk_21 6 (dk_at dksX3_strike_5 22 rfl rfl)
theorem dX3_strike_141 : decode cX3_strike 141 = .ok (.iload 8, 2) := dk_21 8 (dk_at dksX3_strike_6 0 rfl rfl)
theorem dX3_strike_143 : decode cX3_strike 143 = .ok (.iadd, 1) := dk_96 (dk_at dksX3_strike_6 2 rfl rfl)
theorem dX3_strike_144 : decode cX3_strike 144 = .ok (.iconst 1, 1) := dk_4 (dk_at dksX3_strike_6 3 rfl rfl)
theorem dX3_strike_145 : decode cX3_strike 145 = .ok (.isub, 1) := dk_100 (dk_at dksX3_strike_6 4 rfl rfl)
theorem dX3_strike_146 : decode cX3_strike 146 = .ok (.iaload, 1) := dk_46 (dk_at dksX3_strike_6 5 rfl rfl)
theorem dX3_strike_147 : decode cX3_strike 147 = .ok (.iastore, 1) := dk_79 (dk_at dksX3_strike_6 6 rfl rfl)
theorem dX3_strike_148 : decode cX3_strike 148 = .ok (.aload_n 0, 1) := dk_42 (dk_at dksX3_strike_6 7 rfl rfl)
theorem dX3_strike_149 : decode cX3_strike 149 = .ok (.getfield 34, 3) := dk_180 0 34 (dk_at dksX3_strike_6 8 rfl rfl)
theorem dX3_strike_152 : decode cX3_strike 152 = .ok (.iload 6, 2) := dk_21 6 (dk_at dksX3_strike_6 11 rfl rfl)
theorem dX3_strike_154 : decode cX3_strike 154 = .ok (.iload 8, 2) := dk_21 8 (dk_at dksX3_strike_6 13 rfl rfl)
theorem dX3_strike_156 : decode cX3_strike 156 = .ok (.iadd, 1) := dk_96 (dk_at dksX3_strike_6 15 rfl rfl)
theorem dX3_strike_157 : decode cX3_strike 157 = .ok (.aload_n 0, 1) := dk_42 (dk_at dksX3_strike_6 16 rfl rfl)
theorem dX3_strike_158 : decode cX3_strike 158 = .ok (.getfield 34, 3) := dk_180 0 34 (dk_at dksX3_strike_6 17 rfl rfl)
theorem dX3_strike_161 : decode cX3_strike 161 = .ok (.iload 6, 2) := dk_21 6 (dk_at dksX3_strike_6 20 rfl rfl)
theorem dX3_strike_163 : decode cX3_strike 163 = .ok (.iload 8, 2) := dk_21 8 (dk_at dksX3_strike_6 22 rfl rfl)
theorem dX3_strike_165 : decode cX3_strike 165 = .ok (.iadd, 1) := dk_96 (dk_at dksX3_strike_7 0 rfl rfl)
theorem dX3_strike_166 : decode cX3_strike 166 = .ok (.iconst 1, 1) := dk_4 (dk_at dksX3_strike_7 1 rfl rfl)
theorem dX3_strike_167 : decode cX3_strike 167 = .ok (.isub, 1) := dk_100 (dk_at dksX3_strike_7 2 rfl rfl)
theorem dX3_strike_168 : decode cX3_strike 168 = .ok (.iaload, 1) := dk_46 (dk_at dksX3_strike_7 3 rfl rfl)
theorem dX3_strike_169 : decode cX3_strike 169 = .ok (.iastore, 1) := dk_79 (dk_at dksX3_strike_7 4 rfl rfl)
theorem dX3_strike_170 : decode cX3_strike 170 = .ok (.aload_n 0, 1) := dk_42 (dk_at dksX3_strike_7 5 rfl rfl)
theorem dX3_strike_171 : decode cX3_strike 171 = .ok (.getfield 37, 3) := dk_180 0 37 (dk_at dksX3_strike_7 6 rfl rfl)
theorem dX3_strike_174 : decode cX3_strike 174 = .ok (.iload 6, 2) := dk_21 6 (dk_at dksX3_strike_7 9 rfl rfl)
theorem dX3_strike_176 : decode cX3_strike 176 = .ok (.iload 8, 2) := dk_21 8 (dk_at dksX3_strike_7 11 rfl rfl)
theorem dX3_strike_178 : decode cX3_strike 178 = .ok (.iadd, 1) := dk_96 (dk_at dksX3_strike_7 13 rfl rfl)
theorem dX3_strike_179 : decode cX3_strike 179 = .ok (.aload_n 0, 1) := dk_42 (dk_at dksX3_strike_7 14 rfl rfl)
theorem dX3_strike_180 : decode cX3_strike 180 = .ok (.getfield 37, 3) := dk_180 0 37 (dk_at dksX3_strike_7 15 rfl rfl)
theorem dX3_strike_183 : decode cX3_strike 183 = .ok (.iload 6, 2) := dk_21 6 (dk_at dksX3_strike_7 18 rfl rfl)
theorem dX3_strike_185 : decode cX3_strike 185 = .ok (.iload 8, 2) := dk_21 8 (dk_at dksX3_strike_7 20 rfl rfl)
theorem dX3_strike_187 : decode cX3_strike 187 = .ok (.iadd, 1) := dk_96 (dk_at dksX3_strike_7 22 rfl rfl)
theorem dX3_strike_188 : decode cX3_strike 188 = .ok (.iconst 1, 1) := dk_4 (dk_at dksX3_strike_7 23 rfl rfl)
theorem dX3_strike_189 : decode cX3_strike 189 = .ok (.isub, 1) := dk_100 (dk_at dksX3_strike_8 0 rfl rfl)
theorem dX3_strike_190 : decode cX3_strike 190 = .ok (.iaload, 1) := dk_46 (dk_at dksX3_strike_8 1 rfl rfl)
theorem dX3_strike_191 : decode cX3_strike 191 = .ok (.iastore, 1) := dk_79 (dk_at dksX3_strike_8 2 rfl rfl)
theorem dX3_strike_192 : decode cX3_strike 192 = .ok (.iinc 8 (-1), 3) := dk_132 8 255 (dk_at dksX3_strike_8 3 rfl rfl)
theorem dX3_strike_195 : decode cX3_strike 195 = .ok (.goto (-74), 3) := dk_167 255 182 (dk_at dksX3_strike_8 6 rfl rfl)
theorem dX3_strike_198 : decode cX3_strike 198 = .ok (.aload_n 0, 1) := dk_42 (dk_at dksX3_strike_8 9 rfl rfl)
theorem dX3_strike_199 : decode cX3_strike 199 = .ok (.getfield 31, 3) := dk_180 0 31 (dk_at dksX3_strike_8 10 rfl rfl)
theorem dX3_strike_202 : decode cX3_strike 202 = .ok (.iload 6, 2) := dk_21 6 (dk_at dksX3_strike_8 13 rfl rfl)
theorem dX3_strike_204 : decode cX3_strike 204 = .ok (.iload_n 2, 1) := dk_28 (dk_at dksX3_strike_8 15 rfl rfl)
theorem dX3_strike_205 : decode cX3_strike 205 = .ok (.iastore, 1) := dk_79 (dk_at dksX3_strike_8 16 rfl rfl)
theorem dX3_strike_206 : decode cX3_strike 206 = .ok (.aload_n 0, 1) := dk_42 (dk_at dksX3_strike_8 17 rfl rfl)
theorem dX3_strike_207 : decode cX3_strike 207 = .ok (.getfield 34, 3) := dk_180 0 34 (dk_at dksX3_strike_8 18 rfl rfl)
theorem dX3_strike_210 : decode cX3_strike 210 = .ok (.iload 6, 2) := dk_21 6 (dk_at dksX3_strike_8 21 rfl rfl)
theorem dX3_strike_212 : decode cX3_strike 212 = .ok (.bipush 9, 2) := dk_16 9 (dk_at dksX3_strike_9 0 rfl rfl)
theorem dX3_strike_214 : decode cX3_strike 214 = .ok (.iastore, 1) := dk_79 (dk_at dksX3_strike_9 2 rfl rfl)
theorem dX3_strike_215 : decode cX3_strike 215 = .ok (.aload_n 0, 1) := dk_42 (dk_at dksX3_strike_9 3 rfl rfl)
theorem dX3_strike_216 : decode cX3_strike 216 = .ok (.getfield 37, 3) := dk_180 0 37 (dk_at dksX3_strike_9 4 rfl rfl)
theorem dX3_strike_219 : decode cX3_strike 219 = .ok (.iload 6, 2) := dk_21 6 (dk_at dksX3_strike_9 7 rfl rfl)
theorem dX3_strike_221 : decode cX3_strike 221 = .ok (.aload_n 0, 1) := dk_42 (dk_at dksX3_strike_9 9 rfl rfl)
theorem dX3_strike_222 : decode cX3_strike 222 = .ok (.getfield 90, 3) := dk_180 0 90 (dk_at dksX3_strike_9 10 rfl rfl)
theorem dX3_strike_225 : decode cX3_strike 225 = .ok (.iastore, 1) := dk_79 (dk_at dksX3_strike_9 13 rfl rfl)
theorem dX3_strike_226 : decode cX3_strike 226 = .ok (.aload_n 0, 1) := dk_42 (dk_at dksX3_strike_9 14 rfl rfl)
theorem dX3_strike_227 : decode cX3_strike 227 = .ok (.getfield 28, 3) := dk_180 0 28 (dk_at dksX3_strike_9 15 rfl rfl)
theorem dX3_strike_230 : decode cX3_strike 230 = .ok (.iload_n 1, 1) := dk_27 (dk_at dksX3_strike_9 18 rfl rfl)
theorem dX3_strike_231 : decode cX3_strike 231 = .ok (.iload 7, 2) := dk_21 7 (dk_at dksX3_strike_9 19 rfl rfl)
theorem dX3_strike_233 : decode cX3_strike 233 = .ok (.iconst 1, 1) := dk_4 (dk_at dksX3_strike_9 21 rfl rfl)
theorem dX3_strike_234 : decode cX3_strike 234 = .ok (.iadd, 1) := dk_96 (dk_at dksX3_strike_9 22 rfl rfl)
theorem dX3_strike_235 : decode cX3_strike 235 = .ok (.iastore, 1) := dk_79 (dk_at dksX3_strike_9 23 rfl rfl)
theorem dX3_strike_236 : decode cX3_strike 236 = .ok (.aload_n 0, 1) := dk_42 (dk_at dksX3_strike_10 0 rfl rfl)
theorem dX3_strike_237 : decode cX3_strike 237 = .ok (.getfield 25, 3) := dk_180 0 25 (dk_at dksX3_strike_10 1 rfl rfl)
theorem dX3_strike_240 : decode cX3_strike 240 = .ok (.iload_n 1, 1) := dk_27 (dk_at dksX3_strike_10 4 rfl rfl)
theorem dX3_strike_241 : decode cX3_strike 241 = .ok (.dup2, 1) := dk_92 (dk_at dksX3_strike_10 5 rfl rfl)
theorem dX3_strike_242 : decode cX3_strike 242 = .ok (.iaload, 1) := dk_46 (dk_at dksX3_strike_10 6 rfl rfl)
theorem dX3_strike_243 : decode cX3_strike 243 = .ok (.iconst 1, 1) := dk_4 (dk_at dksX3_strike_10 7 rfl rfl)
theorem dX3_strike_244 : decode cX3_strike 244 = .ok (.iadd, 1) := dk_96 (dk_at dksX3_strike_10 8 rfl rfl)
theorem dX3_strike_245 : decode cX3_strike 245 = .ok (.iastore, 1) := dk_79 (dk_at dksX3_strike_10 9 rfl rfl)
theorem dX3_strike_246 : decode cX3_strike 246 = .ok (.aload_n 0, 1) := dk_42 (dk_at dksX3_strike_10 10 rfl rfl)
theorem dX3_strike_247 : decode cX3_strike 247 = .ok (.getfield 18, 3) := dk_180 0 18 (dk_at dksX3_strike_10 11 rfl rfl)
theorem dX3_strike_250 : decode cX3_strike 250 = .ok (.iload_n 1, 1) := dk_27 (dk_at dksX3_strike_10 14 rfl rfl)
theorem dX3_strike_251 : decode cX3_strike 251 = .ok (.dup2, 1) := dk_92 (dk_at dksX3_strike_10 15 rfl rfl)
theorem dX3_strike_252 : decode cX3_strike 252 = .ok (.iaload, 1) := dk_46 (dk_at dksX3_strike_10 16 rfl rfl)
theorem dX3_strike_253 : decode cX3_strike 253 = .ok (.aload_n 0, 1) := dk_42 (dk_at dksX3_strike_10 17 rfl rfl)
theorem dX3_strike_254 : decode cX3_strike 254 = .ok (.getfield 12, 3) := dk_180 0 12 (dk_at dksX3_strike_10 18 rfl rfl)
theorem dX3_strike_257 : decode cX3_strike 257 = .ok (.getfield 121, 3) := dk_180 0 121 (dk_at dksX3_strike_10 21 rfl rfl)
theorem dX3_strike_260 : decode cX3_strike 260 = .ok (.iload_n 3, 1) := dk_29 (dk_at dksX3_strike_11 0 rfl rfl)
theorem dX3_strike_261 : decode cX3_strike 261 = .ok (.aaload, 1) := dk_50 (dk_at dksX3_strike_11 1 rfl rfl)
theorem dX3_strike_262 : decode cX3_strike 262 = .ok (.getfield 125, 3) := dk_180 0 125 (dk_at dksX3_strike_11 2 rfl rfl)
theorem dX3_strike_265 : decode cX3_strike 265 = .ok (.isub, 1) := dk_100 (dk_at dksX3_strike_11 5 rfl rfl)
theorem dX3_strike_266 : decode cX3_strike 266 = .ok (.iastore, 1) := dk_79 (dk_at dksX3_strike_11 6 rfl rfl)
theorem dX3_strike_267 : decode cX3_strike 267 = .ok (.aload_n 0, 1) := dk_42 (dk_at dksX3_strike_11 7 rfl rfl)
theorem dX3_strike_268 : decode cX3_strike 268 = .ok (.dup, 1) := dk_89 (dk_at dksX3_strike_11 8 rfl rfl)
theorem dX3_strike_269 : decode cX3_strike 269 = .ok (.getfield 108, 3) := dk_180 0 108 (dk_at dksX3_strike_11 9 rfl rfl)
theorem dX3_strike_272 : decode cX3_strike 272 = .ok (.aload_n 0, 1) := dk_42 (dk_at dksX3_strike_11 12 rfl rfl)
theorem dX3_strike_273 : decode cX3_strike 273 = .ok (.getfield 12, 3) := dk_180 0 12 (dk_at dksX3_strike_11 13 rfl rfl)
theorem dX3_strike_276 : decode cX3_strike 276 = .ok (.getfield 121, 3) := dk_180 0 121 (dk_at dksX3_strike_11 16 rfl rfl)
theorem dX3_strike_279 : decode cX3_strike 279 = .ok (.iload_n 3, 1) := dk_29 (dk_at dksX3_strike_11 19 rfl rfl)
theorem dX3_strike_280 : decode cX3_strike 280 = .ok (.aaload, 1) := dk_50 (dk_at dksX3_strike_11 20 rfl rfl)
theorem dX3_strike_281 : decode cX3_strike 281 = .ok (.getfield 125, 3) := dk_180 0 125 (dk_at dksX3_strike_11 21 rfl rfl)
theorem dX3_strike_284 : decode cX3_strike 284 = .ok (.iadd, 1) := dk_96 (dk_at dksX3_strike_12 0 rfl rfl)
theorem dX3_strike_285 : decode cX3_strike 285 = .ok (.putfield 108, 3) := dk_181 0 108 (dk_at dksX3_strike_12 1 rfl rfl)
theorem dX3_strike_288 : decode cX3_strike 288 = .ok (.aload_n 0, 1) := dk_42 (dk_at dksX3_strike_12 4 rfl rfl)
theorem dX3_strike_289 : decode cX3_strike 289 = .ok (.getfield 40, 3) := dk_180 0 40 (dk_at dksX3_strike_12 5 rfl rfl)
theorem dX3_strike_292 : decode cX3_strike 292 = .ok (.aload_n 0, 1) := dk_42 (dk_at dksX3_strike_12 8 rfl rfl)
theorem dX3_strike_293 : decode cX3_strike 293 = .ok (.getfield 90, 3) := dk_180 0 90 (dk_at dksX3_strike_12 9 rfl rfl)
theorem dX3_strike_296 : decode cX3_strike 296 = .ok (.iload_n 1, 1) := dk_27 (dk_at dksX3_strike_12 12 rfl rfl)
theorem dX3_strike_297 : decode cX3_strike 297 = .ok (.iastore, 1) := dk_79 (dk_at dksX3_strike_12 13 rfl rfl)
theorem dX3_strike_298 : decode cX3_strike 298 = .ok (.aload_n 0, 1) := dk_42 (dk_at dksX3_strike_12 14 rfl rfl)
theorem dX3_strike_299 : decode cX3_strike 299 = .ok (.getfield 43, 3) := dk_180 0 43 (dk_at dksX3_strike_12 15 rfl rfl)
theorem dX3_strike_302 : decode cX3_strike 302 = .ok (.aload_n 0, 1) := dk_42 (dk_at dksX3_strike_12 18 rfl rfl)
theorem dX3_strike_303 : decode cX3_strike 303 = .ok (.getfield 90, 3) := dk_180 0 90 (dk_at dksX3_strike_12 19 rfl rfl)
theorem dX3_strike_306 : decode cX3_strike 306 = .ok (.iload_n 2, 1) := dk_28 (dk_at dksX3_strike_12 22 rfl rfl)
theorem dX3_strike_307 : decode cX3_strike 307 = .ok (.iastore, 1) := dk_79 (dk_at dksX3_strike_12 23 rfl rfl)
theorem dX3_strike_308 : decode cX3_strike 308 = .ok (.aload_n 0, 1) := dk_42 (dk_at dksX3_strike_13 0 rfl rfl)
theorem dX3_strike_309 : decode cX3_strike 309 = .ok (.getfield 46, 3) := dk_180 0 46 (dk_at dksX3_strike_13 1 rfl rfl)
theorem dX3_strike_312 : decode cX3_strike 312 = .ok (.aload_n 0, 1) := dk_42 (dk_at dksX3_strike_13 4 rfl rfl)
theorem dX3_strike_313 : decode cX3_strike 313 = .ok (.getfield 90, 3) := dk_180 0 90 (dk_at dksX3_strike_13 5 rfl rfl)
theorem dX3_strike_316 : decode cX3_strike 316 = .ok (.iload_n 3, 1) := dk_29 (dk_at dksX3_strike_13 8 rfl rfl)
theorem dX3_strike_317 : decode cX3_strike 317 = .ok (.iastore, 1) := dk_79 (dk_at dksX3_strike_13 9 rfl rfl)
theorem dX3_strike_318 : decode cX3_strike 318 = .ok (.aload_n 0, 1) := dk_42 (dk_at dksX3_strike_13 10 rfl rfl)
theorem dX3_strike_319 : decode cX3_strike 319 = .ok (.getfield 49, 3) := dk_180 0 49 (dk_at dksX3_strike_13 11 rfl rfl)
theorem dX3_strike_322 : decode cX3_strike 322 = .ok (.aload_n 0, 1) := dk_42 (dk_at dksX3_strike_13 14 rfl rfl)
theorem dX3_strike_323 : decode cX3_strike 323 = .ok (.getfield 90, 3) := dk_180 0 90 (dk_at dksX3_strike_13 15 rfl rfl)
theorem dX3_strike_326 : decode cX3_strike 326 = .ok (.aload_n 0, 1) := dk_42 (dk_at dksX3_strike_13 18 rfl rfl)
theorem dX3_strike_327 : decode cX3_strike 327 = .ok (.getfield 96, 3) := dk_180 0 96 (dk_at dksX3_strike_13 19 rfl rfl)
theorem dX3_strike_330 : decode cX3_strike 330 = .ok (.iastore, 1) := dk_79 (dk_at dksX3_strike_13 22 rfl rfl)
theorem dX3_strike_331 : decode cX3_strike 331 = .ok (.aload_n 0, 1) := dk_42 (dk_at dksX3_strike_13 23 rfl rfl)
theorem dX3_strike_332 : decode cX3_strike 332 = .ok (.getfield 52, 3) := dk_180 0 52 (dk_at dksX3_strike_14 0 rfl rfl)
theorem dX3_strike_335 : decode cX3_strike 335 = .ok (.aload_n 0, 1) := dk_42 (dk_at dksX3_strike_14 3 rfl rfl)
theorem dX3_strike_336 : decode cX3_strike 336 = .ok (.getfield 90, 3) := dk_180 0 90 (dk_at dksX3_strike_14 4 rfl rfl)
theorem dX3_strike_339 : decode cX3_strike 339 = .ok (.iload 4, 2) := dk_21 4 (dk_at dksX3_strike_14 7 rfl rfl)
theorem dX3_strike_341 : decode cX3_strike 341 = .ok (.iastore, 1) := dk_79 (dk_at dksX3_strike_14 9 rfl rfl)
theorem dX3_strike_342 : decode cX3_strike 342 = .ok (.aload_n 0, 1) := dk_42 (dk_at dksX3_strike_14 10 rfl rfl)
theorem dX3_strike_343 : decode cX3_strike 343 = .ok (.getfield 55, 3) := dk_180 0 55 (dk_at dksX3_strike_14 11 rfl rfl)
theorem dX3_strike_346 : decode cX3_strike 346 = .ok (.aload_n 0, 1) := dk_42 (dk_at dksX3_strike_14 14 rfl rfl)
theorem dX3_strike_347 : decode cX3_strike 347 = .ok (.getfield 90, 3) := dk_180 0 90 (dk_at dksX3_strike_14 15 rfl rfl)
theorem dX3_strike_350 : decode cX3_strike 350 = .ok (.iload 5, 2) := dk_21 5 (dk_at dksX3_strike_14 18 rfl rfl)
theorem dX3_strike_352 : decode cX3_strike 352 = .ok (.bastore, 1) := dk_84 (dk_at dksX3_strike_14 20 rfl rfl)
theorem dX3_strike_353 : decode cX3_strike 353 = .ok (.aload_n 0, 1) := dk_42 (dk_at dksX3_strike_14 21 rfl rfl)
theorem dX3_strike_354 : decode cX3_strike 354 = .ok (.dup, 1) := dk_89 (dk_at dksX3_strike_14 22 rfl rfl)
theorem dX3_strike_355 : decode cX3_strike 355 = .ok (.getfield 90, 3) := dk_180 0 90 (dk_at dksX3_strike_15 0 rfl rfl)
theorem dX3_strike_358 : decode cX3_strike 358 = .ok (.iconst 1, 1) := dk_4 (dk_at dksX3_strike_15 3 rfl rfl)
theorem dX3_strike_359 : decode cX3_strike 359 = .ok (.iadd, 1) := dk_96 (dk_at dksX3_strike_15 4 rfl rfl)
theorem dX3_strike_360 : decode cX3_strike 360 = .ok (.putfield 90, 3) := dk_181 0 90 (dk_at dksX3_strike_15 5 rfl rfl)
theorem dX3_strike_363 : decode cX3_strike 363 = .ok (.return_, 1) := dk_177 (dk_at dksX3_strike_15 8 rfl rfl)
abbrev cX3_luck : ByteArray := prog_15_method_7_code
def yX3_luck : MethodName := ⟨RX3, "luck", "()I"⟩
def dkwX3_luck_2 : List UInt8 := [42, 180, 0, 12, 180, 0, 153, 27, 100, 184, 0, 156, 172]
abbrev dktX3_luck_2 : List UInt8 := dkwX3_luck_2 ++ []
def dkwX3_luck_1 : List UInt8 := [182, 0, 143, 50, 180, 0, 147, 153, 0, 7, 4, 167, 0, 4, 3, 96, 60, 132, 2, 1, 167, 255, 218, 3]
abbrev dktX3_luck_1 : List UInt8 := dkwX3_luck_1 ++ dktX3_luck_2
def dkwX3_luck_0 : List UInt8 := [3, 60, 3, 61, 28, 42, 180, 0, 87, 162, 0, 36, 27, 42, 180, 0, 12, 180, 0, 139, 42, 28]
abbrev dktX3_luck_0 : List UInt8 := dkwX3_luck_0 ++ dktX3_luck_1
theorem dksX3_luck_0 : cX3_luck.data.toList.drop 0 = dktX3_luck_0 := by decide +kernel
theorem dksX3_luck_1 : cX3_luck.data.toList.drop 22 = dktX3_luck_1 := dk_seg dksX3_luck_0 22 rfl rfl
theorem dksX3_luck_2 : cX3_luck.data.toList.drop 46 = dktX3_luck_2 := dk_seg dksX3_luck_1 24 rfl rfl
theorem dX3_luck_0 : decode cX3_luck 0 = .ok (.iconst 0, 1) := dk_3 (dk_at dksX3_luck_0 0 rfl rfl)
theorem dX3_luck_1 : decode cX3_luck 1 = .ok (.istore_n 1, 1) := dk_60 (dk_at dksX3_luck_0 1 rfl rfl)
theorem dX3_luck_2 : decode cX3_luck 2 = .ok (.iconst 0, 1) := dk_3 (dk_at dksX3_luck_0 2 rfl rfl)
theorem dX3_luck_3 : decode cX3_luck 3 = .ok (.istore_n 2, 1) := dk_61 (dk_at dksX3_luck_0 3 rfl rfl)
theorem dX3_luck_4 : decode cX3_luck 4 = .ok (.iload_n 2, 1) := dk_28 (dk_at dksX3_luck_0 4 rfl rfl)
theorem dX3_luck_5 : decode cX3_luck 5 = .ok (.aload_n 0, 1) := dk_42 (dk_at dksX3_luck_0 5 rfl rfl)
theorem dX3_luck_6 : decode cX3_luck 6 = .ok (.getfield 87, 3) := dk_180 0 87 (dk_at dksX3_luck_0 6 rfl rfl)
theorem dX3_luck_9 : decode cX3_luck 9 = .ok (.if_icmp .ge 36, 3) := dk_162 0 36 (dk_at dksX3_luck_0 9 rfl rfl)
theorem dX3_luck_12 : decode cX3_luck 12 = .ok (.iload_n 1, 1) := dk_27 (dk_at dksX3_luck_0 12 rfl rfl)
theorem dX3_luck_13 : decode cX3_luck 13 = .ok (.aload_n 0, 1) := dk_42 (dk_at dksX3_luck_0 13 rfl rfl)
theorem dX3_luck_14 : decode cX3_luck 14 = .ok (.getfield 12, 3) := dk_180 0 12 (dk_at dksX3_luck_0 14 rfl rfl)
theorem dX3_luck_17 : decode cX3_luck 17 = .ok (.getfield 139, 3) := dk_180 0 139 (dk_at dksX3_luck_0 17 rfl rfl)
theorem dX3_luck_20 : decode cX3_luck 20 = .ok (.aload_n 0, 1) := dk_42 (dk_at dksX3_luck_0 20 rfl rfl)
theorem dX3_luck_21 : decode cX3_luck 21 = .ok (.iload_n 2, 1) := dk_28 (dk_at dksX3_luck_0 21 rfl rfl)
theorem dX3_luck_22 : decode cX3_luck 22 = .ok (.invokevirtual 143, 3) := dk_182 0 143 (dk_at dksX3_luck_1 0 rfl rfl)
theorem dX3_luck_25 : decode cX3_luck 25 = .ok (.aaload, 1) := dk_50 (dk_at dksX3_luck_1 3 rfl rfl)
theorem dX3_luck_26 : decode cX3_luck 26 = .ok (.getfield 147, 3) := dk_180 0 147 (dk_at dksX3_luck_1 4 rfl rfl)
theorem dX3_luck_29 : decode cX3_luck 29 = .ok (.ifCond .eq 7, 3) := dk_153 0 7 (dk_at dksX3_luck_1 7 rfl rfl)
theorem dX3_luck_32 : decode cX3_luck 32 = .ok (.iconst 1, 1) := dk_4 (dk_at dksX3_luck_1 10 rfl rfl)
theorem dX3_luck_33 : decode cX3_luck 33 = .ok (.goto 4, 3) := dk_167 0 4 (dk_at dksX3_luck_1 11 rfl rfl)
theorem dX3_luck_36 : decode cX3_luck 36 = .ok (.iconst 0, 1) := dk_3 (dk_at dksX3_luck_1 14 rfl rfl)
theorem dX3_luck_37 : decode cX3_luck 37 = .ok (.iadd, 1) := dk_96 (dk_at dksX3_luck_1 15 rfl rfl)
theorem dX3_luck_38 : decode cX3_luck 38 = .ok (.istore_n 1, 1) := dk_60 (dk_at dksX3_luck_1 16 rfl rfl)
theorem dX3_luck_39 : decode cX3_luck 39 = .ok (.iinc 2 1, 3) := dk_132 2 1 (dk_at dksX3_luck_1 17 rfl rfl)
theorem dX3_luck_42 : decode cX3_luck 42 = .ok (.goto (-38), 3) := dk_167 255 218 (dk_at dksX3_luck_1 20 rfl rfl)
theorem dX3_luck_45 : decode cX3_luck 45 = .ok (.iconst 0, 1) := dk_3 (dk_at dksX3_luck_1 23 rfl rfl)
theorem dX3_luck_46 : decode cX3_luck 46 = .ok (.aload_n 0, 1) := dk_42 (dk_at dksX3_luck_2 0 rfl rfl)
theorem dX3_luck_47 : decode cX3_luck 47 = .ok (.getfield 12, 3) := dk_180 0 12 (dk_at dksX3_luck_2 1 rfl rfl)
theorem dX3_luck_50 : decode cX3_luck 50 = .ok (.getfield 153, 3) := dk_180 0 153 (dk_at dksX3_luck_2 4 rfl rfl)
theorem dX3_luck_53 : decode cX3_luck 53 = .ok (.iload_n 1, 1) := dk_27 (dk_at dksX3_luck_2 7 rfl rfl)
theorem dX3_luck_54 : decode cX3_luck 54 = .ok (.isub, 1) := dk_100 (dk_at dksX3_luck_2 8 rfl rfl)
theorem dX3_luck_55 : decode cX3_luck 55 = .ok (.invokestatic 156, 3) := dk_184 0 156 (dk_at dksX3_luck_2 9 rfl rfl)
theorem dX3_luck_58 : decode cX3_luck 58 = .ok (.ireturn, 1) := dk_172 (dk_at dksX3_luck_2 12 rfl rfl)
abbrev cX3_top : ByteArray := prog_15_method_4_code
def yX3_top : MethodName := ⟨RX3, "top", "(I)I"⟩
def dkwX3_top_0 : List UInt8 := [42, 180, 0, 31, 16, 9, 27, 104, 46, 172]
abbrev dktX3_top_0 : List UInt8 := dkwX3_top_0 ++ []
theorem dksX3_top_0 : cX3_top.data.toList.drop 0 = dktX3_top_0 := by decide +kernel
theorem dX3_top_0 : decode cX3_top 0 = .ok (.aload_n 0, 1) := dk_42 (dk_at dksX3_top_0 0 rfl rfl)
theorem dX3_top_1 : decode cX3_top 1 = .ok (.getfield 31, 3) := dk_180 0 31 (dk_at dksX3_top_0 1 rfl rfl)
theorem dX3_top_4 : decode cX3_top 4 = .ok (.bipush 9, 2) := dk_16 9 (dk_at dksX3_top_0 4 rfl rfl)
theorem dX3_top_6 : decode cX3_top 6 = .ok (.iload_n 1, 1) := dk_27 (dk_at dksX3_top_0 6 rfl rfl)
theorem dX3_top_7 : decode cX3_top 7 = .ok (.imul, 1) := dk_104 (dk_at dksX3_top_0 7 rfl rfl)
theorem dX3_top_8 : decode cX3_top 8 = .ok (.iaload, 1) := dk_46 (dk_at dksX3_top_0 8 rfl rfl)
theorem dX3_top_9 : decode cX3_top 9 = .ok (.ireturn, 1) := dk_172 (dk_at dksX3_top_0 9 rfl rfl)
abbrev cX3_hundredths : ByteArray := prog_15_method_8_code
def yX3_hundredths : MethodName := ⟨RX3, "hundredths", "(III)I"⟩
def dkwX3_hundredths_4 : List UInt8 := [180, 0, 147, 153, 0, 7, 29, 167, 0, 4, 3, 96, 172]
abbrev dktX3_hundredths_4 : List UInt8 := dkwX3_hundredths_4 ++ []
def dkwX3_hundredths_3 : List UInt8 := [167, 0, 17, 42, 180, 0, 12, 180, 0, 139, 27, 50, 180, 0, 166, 28, 46, 54, 5, 21, 5, 25, 4]
abbrev dktX3_hundredths_3 : List UInt8 := dkwX3_hundredths_3 ++ dktX3_hundredths_4
def dkwX3_hundredths_2 : List UInt8 := [167, 0, 40, 42, 180, 0, 12, 180, 0, 139, 27, 50, 180, 0, 166, 28, 46, 2, 160, 0, 8, 16, 100]
abbrev dktX3_hundredths_2 : List UInt8 := dkwX3_hundredths_2 ++ dktX3_hundredths_3
def dkwX3_hundredths_1 : List UInt8 := [153, 0, 5, 3, 172, 42, 180, 0, 99, 28, 184, 0, 117, 153, 0, 13, 42, 180, 0, 12, 180, 0, 165]
abbrev dktX3_hundredths_1 : List UInt8 := dkwX3_hundredths_1 ++ dktX3_hundredths_2
def dkwX3_hundredths_0 : List UInt8 := [28, 27, 160, 0, 6, 16, 100, 172, 42, 180, 0, 12, 180, 0, 139, 28, 50, 58, 4, 25, 4, 180, 0, 162]
abbrev dktX3_hundredths_0 : List UInt8 := dkwX3_hundredths_0 ++ dktX3_hundredths_1
theorem dksX3_hundredths_0 : cX3_hundredths.data.toList.drop 0 = dktX3_hundredths_0 := by decide +kernel
theorem dksX3_hundredths_1 : cX3_hundredths.data.toList.drop 24 = dktX3_hundredths_1 := dk_seg dksX3_hundredths_0 24 rfl rfl
theorem dksX3_hundredths_2 : cX3_hundredths.data.toList.drop 47 = dktX3_hundredths_2 := dk_seg dksX3_hundredths_1 23 rfl rfl
theorem dksX3_hundredths_3 : cX3_hundredths.data.toList.drop 70 = dktX3_hundredths_3 := dk_seg dksX3_hundredths_2 23 rfl rfl
theorem dksX3_hundredths_4 : cX3_hundredths.data.toList.drop 93 = dktX3_hundredths_4 := dk_seg dksX3_hundredths_3 23 rfl rfl
theorem dX3_hundredths_0 : decode cX3_hundredths 0 = .ok (.iload_n 2, 1) := dk_28 (dk_at dksX3_hundredths_0 0 rfl rfl)
theorem dX3_hundredths_1 : decode cX3_hundredths 1 = .ok (.iload_n 1, 1) := dk_27 (dk_at dksX3_hundredths_0 1 rfl rfl)
theorem dX3_hundredths_2 : decode cX3_hundredths 2 = .ok (.if_icmp .ne 6, 3) := dk_160 0 6 (dk_at dksX3_hundredths_0 2 rfl rfl)
theorem dX3_hundredths_5 : decode cX3_hundredths 5 = .ok (.bipush 100, 2) := dk_16 100 (dk_at dksX3_hundredths_0 5 rfl rfl)
theorem dX3_hundredths_7 : decode cX3_hundredths 7 = .ok (.ireturn, 1) := dk_172 (dk_at dksX3_hundredths_0 7 rfl rfl)
theorem dX3_hundredths_8 : decode cX3_hundredths 8 = .ok (.aload_n 0, 1) := dk_42 (dk_at dksX3_hundredths_0 8 rfl rfl)
theorem dX3_hundredths_9 : decode cX3_hundredths 9 = .ok (.getfield 12, 3) := dk_180 0 12 (dk_at dksX3_hundredths_0 9 rfl rfl)
theorem dX3_hundredths_12 : decode cX3_hundredths 12 = .ok (.getfield 139, 3) := dk_180 0 139 (dk_at dksX3_hundredths_0 12 rfl rfl)
theorem dX3_hundredths_15 : decode cX3_hundredths 15 = .ok (.iload_n 2, 1) := dk_28 (dk_at dksX3_hundredths_0 15 rfl rfl)
theorem dX3_hundredths_16 : decode cX3_hundredths 16 = .ok (.aaload, 1) := dk_50 (dk_at dksX3_hundredths_0 16 rfl rfl)
theorem dX3_hundredths_17 : decode cX3_hundredths 17 = .ok (.astore 4, 2) := dk_58 4 (dk_at dksX3_hundredths_0 17 rfl rfl)
theorem dX3_hundredths_19 : decode cX3_hundredths 19 = .ok (.aload 4, 2) := dk_25 4 (dk_at dksX3_hundredths_0 19 rfl rfl)
theorem dX3_hundredths_21 : decode cX3_hundredths 21 = .ok (.getfield 162, 3) := dk_180 0 162 (dk_at dksX3_hundredths_0 21 rfl rfl)
theorem dX3_hundredths_24 : decode cX3_hundredths 24 = .ok (.ifCond .eq 5, 3) := dk_153 0 5 (dk_at dksX3_hundredths_1 0 rfl rfl)
theorem dX3_hundredths_27 : decode cX3_hundredths 27 = .ok (.iconst 0, 1) := dk_3 (dk_at dksX3_hundredths_1 3 rfl rfl)
theorem dX3_hundredths_28 : decode cX3_hundredths 28 = .ok (.ireturn, 1) := dk_172 (dk_at dksX3_hundredths_1 4 rfl rfl)
theorem dX3_hundredths_29 : decode cX3_hundredths 29 = .ok (.aload_n 0, 1) := dk_42 (dk_at dksX3_hundredths_1 5 rfl rfl)
theorem dX3_hundredths_30 : decode cX3_hundredths 30 = .ok (.getfield 99, 3) := dk_180 0 99 (dk_at dksX3_hundredths_1 6 rfl rfl)
theorem dX3_hundredths_33 : decode cX3_hundredths 33 = .ok (.iload_n 2, 1) := dk_28 (dk_at dksX3_hundredths_1 9 rfl rfl)
theorem dX3_hundredths_34 : decode cX3_hundredths 34 = .ok (.invokestatic 117, 3) := dk_184 0 117 (dk_at dksX3_hundredths_1 10 rfl rfl)
theorem dX3_hundredths_37 : decode cX3_hundredths 37 = .ok (.ifCond .eq 13, 3) := dk_153 0 13 (dk_at dksX3_hundredths_1 13 rfl rfl)
theorem dX3_hundredths_40 : decode cX3_hundredths 40 = .ok (.aload_n 0, 1) := dk_42 (dk_at dksX3_hundredths_1 16 rfl rfl)
theorem dX3_hundredths_41 : decode cX3_hundredths 41 = .ok (.getfield 12, 3) := dk_180 0 12 (dk_at dksX3_hundredths_1 17 rfl rfl)
theorem dX3_hundredths_44 : decode cX3_hundredths 44 = .ok (.getfield 165, 3) := dk_180 0 165 (dk_at dksX3_hundredths_1 20 rfl rfl)
theorem dX3_hundredths_47 : decode cX3_hundredths 47 = .ok (.goto 40, 3) := dk_167 0 40 (dk_at dksX3_hundredths_2 0 rfl rfl)
theorem dX3_hundredths_50 : decode cX3_hundredths 50 = .ok (.aload_n 0, 1) := dk_42 (dk_at dksX3_hundredths_2 3 rfl rfl)
theorem dX3_hundredths_51 : decode cX3_hundredths 51 = .ok (.getfield 12, 3) := dk_180 0 12 (dk_at dksX3_hundredths_2 4 rfl rfl)
theorem dX3_hundredths_54 : decode cX3_hundredths 54 = .ok (.getfield 139, 3) := dk_180 0 139 (dk_at dksX3_hundredths_2 7 rfl rfl)
theorem dX3_hundredths_57 : decode cX3_hundredths 57 = .ok (.iload_n 1, 1) := dk_27 (dk_at dksX3_hundredths_2 10 rfl rfl)
theorem dX3_hundredths_58 : decode cX3_hundredths 58 = .ok (.aaload, 1) := dk_50 (dk_at dksX3_hundredths_2 11 rfl rfl)
theorem dX3_hundredths_59 : decode cX3_hundredths 59 = .ok (.getfield 166, 3) := dk_180 0 166 (dk_at dksX3_hundredths_2 12 rfl rfl)
theorem dX3_hundredths_62 : decode cX3_hundredths 62 = .ok (.iload_n 2, 1) := dk_28 (dk_at dksX3_hundredths_2 15 rfl rfl)
theorem dX3_hundredths_63 : decode cX3_hundredths 63 = .ok (.iaload, 1) := dk_46 (dk_at dksX3_hundredths_2 16 rfl rfl)
theorem dX3_hundredths_64 : decode cX3_hundredths 64 = .ok (.iconst (-1), 1) := dk_2 (dk_at dksX3_hundredths_2 17 rfl rfl)
theorem dX3_hundredths_65 : decode cX3_hundredths 65 = .ok (.if_icmp .ne 8, 3) := dk_160 0 8 (dk_at dksX3_hundredths_2 18 rfl rfl)
theorem dX3_hundredths_68 : decode cX3_hundredths 68 = .ok (.bipush 100, 2) := dk_16 100 (dk_at dksX3_hundredths_2 21 rfl rfl)
theorem dX3_hundredths_70 : decode cX3_hundredths 70 = .ok (.goto 17, 3) := dk_167 0 17 (dk_at dksX3_hundredths_3 0 rfl rfl)
theorem dX3_hundredths_73 : decode cX3_hundredths 73 = .ok (.aload_n 0, 1) := dk_42 (dk_at dksX3_hundredths_3 3 rfl rfl)
theorem dX3_hundredths_74 : decode cX3_hundredths 74 = .ok (.getfield 12, 3) := dk_180 0 12 (dk_at dksX3_hundredths_3 4 rfl rfl)
theorem dX3_hundredths_77 : decode cX3_hundredths 77 = .ok (.getfield 139, 3) := dk_180 0 139 (dk_at dksX3_hundredths_3 7 rfl rfl)
theorem dX3_hundredths_80 : decode cX3_hundredths 80 = .ok (.iload_n 1, 1) := dk_27 (dk_at dksX3_hundredths_3 10 rfl rfl)
theorem dX3_hundredths_81 : decode cX3_hundredths 81 = .ok (.aaload, 1) := dk_50 (dk_at dksX3_hundredths_3 11 rfl rfl)
theorem dX3_hundredths_82 : decode cX3_hundredths 82 = .ok (.getfield 166, 3) := dk_180 0 166 (dk_at dksX3_hundredths_3 12 rfl rfl)
theorem dX3_hundredths_85 : decode cX3_hundredths 85 = .ok (.iload_n 2, 1) := dk_28 (dk_at dksX3_hundredths_3 15 rfl rfl)
theorem dX3_hundredths_86 : decode cX3_hundredths 86 = .ok (.iaload, 1) := dk_46 (dk_at dksX3_hundredths_3 16 rfl rfl)
theorem dX3_hundredths_87 : decode cX3_hundredths 87 = .ok (.istore 5, 2) := dk_54 5 (dk_at dksX3_hundredths_3 17 rfl rfl)
theorem dX3_hundredths_89 : decode cX3_hundredths 89 = .ok (.iload 5, 2) := dk_21 5 (dk_at dksX3_hundredths_3 19 rfl rfl)
theorem dX3_hundredths_91 : decode cX3_hundredths 91 = .ok (.aload 4, 2) := dk_25 4 (dk_at dksX3_hundredths_3 21 rfl rfl)
theorem dX3_hundredths_93 : decode cX3_hundredths 93 = .ok (.getfield 147, 3) := dk_180 0 147 (dk_at dksX3_hundredths_4 0 rfl rfl)
theorem dX3_hundredths_96 : decode cX3_hundredths 96 = .ok (.ifCond .eq 7, 3) := dk_153 0 7 (dk_at dksX3_hundredths_4 3 rfl rfl)
theorem dX3_hundredths_99 : decode cX3_hundredths 99 = .ok (.iload_n 3, 1) := dk_29 (dk_at dksX3_hundredths_4 6 rfl rfl)
theorem dX3_hundredths_100 : decode cX3_hundredths 100 = .ok (.goto 4, 3) := dk_167 0 4 (dk_at dksX3_hundredths_4 7 rfl rfl)
theorem dX3_hundredths_103 : decode cX3_hundredths 103 = .ok (.iconst 0, 1) := dk_3 (dk_at dksX3_hundredths_4 10 rfl rfl)
theorem dX3_hundredths_104 : decode cX3_hundredths 104 = .ok (.iadd, 1) := dk_96 (dk_at dksX3_hundredths_4 11 rfl rfl)
theorem dX3_hundredths_105 : decode cX3_hundredths 105 = .ok (.ireturn, 1) := dk_172 (dk_at dksX3_hundredths_4 12 rfl rfl)
abbrev cX3_value : ByteArray := prog_15_method_9_code
def yX3_value : MethodName := ⟨RX3, "value", "(III)I"⟩
def dkwX3_value_0 : List UInt8 := [42, 180, 0, 18, 28, 46, 42, 27, 42, 28, 182, 0, 143, 29, 182, 0, 169, 104, 16, 100, 108, 172]
abbrev dktX3_value_0 : List UInt8 := dkwX3_value_0 ++ []
theorem dksX3_value_0 : cX3_value.data.toList.drop 0 = dktX3_value_0 := by decide +kernel
theorem dX3_value_0 : decode cX3_value 0 = .ok (.aload_n 0, 1) := dk_42 (dk_at dksX3_value_0 0 rfl rfl)
theorem dX3_value_1 : decode cX3_value 1 = .ok (.getfield 18, 3) := dk_180 0 18 (dk_at dksX3_value_0 1 rfl rfl)
theorem dX3_value_4 : decode cX3_value 4 = .ok (.iload_n 2, 1) := dk_28 (dk_at dksX3_value_0 4 rfl rfl)
theorem dX3_value_5 : decode cX3_value 5 = .ok (.iaload, 1) := dk_46 (dk_at dksX3_value_0 5 rfl rfl)
theorem dX3_value_6 : decode cX3_value 6 = .ok (.aload_n 0, 1) := dk_42 (dk_at dksX3_value_0 6 rfl rfl)
theorem dX3_value_7 : decode cX3_value 7 = .ok (.iload_n 1, 1) := dk_27 (dk_at dksX3_value_0 7 rfl rfl)
theorem dX3_value_8 : decode cX3_value 8 = .ok (.aload_n 0, 1) := dk_42 (dk_at dksX3_value_0 8 rfl rfl)
theorem dX3_value_9 : decode cX3_value 9 = .ok (.iload_n 2, 1) := dk_28 (dk_at dksX3_value_0 9 rfl rfl)
theorem dX3_value_10 : decode cX3_value 10 = .ok (.invokevirtual 143, 3) := dk_182 0 143 (dk_at dksX3_value_0 10 rfl rfl)
theorem dX3_value_13 : decode cX3_value 13 = .ok (.iload_n 3, 1) := dk_29 (dk_at dksX3_value_0 13 rfl rfl)
theorem dX3_value_14 : decode cX3_value 14 = .ok (.invokevirtual 169, 3) := dk_182 0 169 (dk_at dksX3_value_0 14 rfl rfl)
theorem dX3_value_17 : decode cX3_value 17 = .ok (.imul, 1) := dk_104 (dk_at dksX3_value_0 17 rfl rfl)
theorem dX3_value_18 : decode cX3_value 18 = .ok (.bipush 100, 2) := dk_16 100 (dk_at dksX3_value_0 18 rfl rfl)
theorem dX3_value_20 : decode cX3_value 20 = .ok (.idiv, 1) := dk_108 (dk_at dksX3_value_0 20 rfl rfl)
theorem dX3_value_21 : decode cX3_value 21 = .ok (.ireturn, 1) := dk_172 (dk_at dksX3_value_0 21 rfl rfl)
abbrev cX3_backs : ByteArray := prog_15_method_12_code
def yX3_backs : MethodName := ⟨RX3, "backs", "()V"⟩
def dkwX3_backs_0 : List UInt8 := [42, 2, 181, 0, 80, 42, 2, 181, 0, 84, 177]
abbrev dktX3_backs_0 : List UInt8 := dkwX3_backs_0 ++ []
theorem dksX3_backs_0 : cX3_backs.data.toList.drop 0 = dktX3_backs_0 := by decide +kernel
theorem dX3_backs_0 : decode cX3_backs 0 = .ok (.aload_n 0, 1) := dk_42 (dk_at dksX3_backs_0 0 rfl rfl)
theorem dX3_backs_1 : decode cX3_backs 1 = .ok (.iconst (-1), 1) := dk_2 (dk_at dksX3_backs_0 1 rfl rfl)
theorem dX3_backs_2 : decode cX3_backs 2 = .ok (.putfield 80, 3) := dk_181 0 80 (dk_at dksX3_backs_0 2 rfl rfl)
theorem dX3_backs_5 : decode cX3_backs 5 = .ok (.aload_n 0, 1) := dk_42 (dk_at dksX3_backs_0 5 rfl rfl)
theorem dX3_backs_6 : decode cX3_backs 6 = .ok (.iconst (-1), 1) := dk_2 (dk_at dksX3_backs_0 6 rfl rfl)
theorem dX3_backs_7 : decode cX3_backs 7 = .ok (.putfield 84, 3) := dk_181 0 84 (dk_at dksX3_backs_0 7 rfl rfl)
theorem dX3_backs_10 : decode cX3_backs 10 = .ok (.return_, 1) := dk_177 (dk_at dksX3_backs_0 10 rfl rfl)
abbrev cX3_shows : ByteArray := prog_15_method_11_code
def yX3_shows : MethodName := ⟨RX3, "shows", "(I)I"⟩
def dkwX3_shows_1 : List UInt8 := [29, 96, 46, 120, 128, 61, 132, 3, 1, 167, 255, 227, 28, 172]
abbrev dktX3_shows_1 : List UInt8 := dkwX3_shows_1 ++ []
def dkwX3_shows_0 : List UInt8 := [3, 61, 3, 62, 29, 42, 180, 0, 28, 27, 46, 162, 0, 25, 28, 4, 42, 180, 0, 31, 16, 9, 27, 104]
abbrev dktX3_shows_0 : List UInt8 := dkwX3_shows_0 ++ dktX3_shows_1
theorem dksX3_shows_0 : cX3_shows.data.toList.drop 0 = dktX3_shows_0 := by decide +kernel
theorem dksX3_shows_1 : cX3_shows.data.toList.drop 24 = dktX3_shows_1 := dk_seg dksX3_shows_0 24 rfl rfl
theorem dX3_shows_0 : decode cX3_shows 0 = .ok (.iconst 0, 1) := dk_3 (dk_at dksX3_shows_0 0 rfl rfl)
theorem dX3_shows_1 : decode cX3_shows 1 = .ok (.istore_n 2, 1) := dk_61 (dk_at dksX3_shows_0 1 rfl rfl)
theorem dX3_shows_2 : decode cX3_shows 2 = .ok (.iconst 0, 1) := dk_3 (dk_at dksX3_shows_0 2 rfl rfl)
theorem dX3_shows_3 : decode cX3_shows 3 = .ok (.istore_n 3, 1) := dk_62 (dk_at dksX3_shows_0 3 rfl rfl)
theorem dX3_shows_4 : decode cX3_shows 4 = .ok (.iload_n 3, 1) := dk_29 (dk_at dksX3_shows_0 4 rfl rfl)
theorem dX3_shows_5 : decode cX3_shows 5 = .ok (.aload_n 0, 1) := dk_42 (dk_at dksX3_shows_0 5 rfl rfl)
theorem dX3_shows_6 : decode cX3_shows 6 = .ok (.getfield 28, 3) := dk_180 0 28 (dk_at dksX3_shows_0 6 rfl rfl)
theorem dX3_shows_9 : decode cX3_shows 9 = .ok (.iload_n 1, 1) := dk_27 (dk_at dksX3_shows_0 9 rfl rfl)
theorem dX3_shows_10 : decode cX3_shows 10 = .ok (.iaload, 1) := dk_46 (dk_at dksX3_shows_0 10 rfl rfl)
theorem dX3_shows_11 : decode cX3_shows 11 = .ok (.if_icmp .ge 25, 3) := dk_162 0 25 (dk_at dksX3_shows_0 11 rfl rfl)
theorem dX3_shows_14 : decode cX3_shows 14 = .ok (.iload_n 2, 1) := dk_28 (dk_at dksX3_shows_0 14 rfl rfl)
theorem dX3_shows_15 : decode cX3_shows 15 = .ok (.iconst 1, 1) := dk_4 (dk_at dksX3_shows_0 15 rfl rfl)
theorem dX3_shows_16 : decode cX3_shows 16 = .ok (.aload_n 0, 1) := dk_42 (dk_at dksX3_shows_0 16 rfl rfl)
theorem dX3_shows_17 : decode cX3_shows 17 = .ok (.getfield 31, 3) := dk_180 0 31 (dk_at dksX3_shows_0 17 rfl rfl)
theorem dX3_shows_20 : decode cX3_shows 20 = .ok (.bipush 9, 2) := dk_16 9 (dk_at dksX3_shows_0 20 rfl rfl)
theorem dX3_shows_22 : decode cX3_shows 22 = .ok (.iload_n 1, 1) := dk_27 (dk_at dksX3_shows_0 22 rfl rfl)
theorem dX3_shows_23 : decode cX3_shows 23 = .ok (.imul, 1) := dk_104 (dk_at dksX3_shows_0 23 rfl rfl)
theorem dX3_shows_24 : decode cX3_shows 24 = .ok (.iload_n 3, 1) := dk_29 (dk_at dksX3_shows_1 0 rfl rfl)
theorem dX3_shows_25 : decode cX3_shows 25 = .ok (.iadd, 1) := dk_96 (dk_at dksX3_shows_1 1 rfl rfl)
theorem dX3_shows_26 : decode cX3_shows 26 = .ok (.iaload, 1) := dk_46 (dk_at dksX3_shows_1 2 rfl rfl)
theorem dX3_shows_27 : decode cX3_shows 27 = .ok (.ishl, 1) := dk_120 (dk_at dksX3_shows_1 3 rfl rfl)
theorem dX3_shows_28 : decode cX3_shows 28 = .ok (.ior, 1) := dk_128 (dk_at dksX3_shows_1 4 rfl rfl)
theorem dX3_shows_29 : decode cX3_shows 29 = .ok (.istore_n 2, 1) := dk_61 (dk_at dksX3_shows_1 5 rfl rfl)
theorem dX3_shows_30 : decode cX3_shows 30 = .ok (.iinc 3 1, 3) := dk_132 3 1 (dk_at dksX3_shows_1 6 rfl rfl)
theorem dX3_shows_33 : decode cX3_shows 33 = .ok (.goto (-29), 3) := dk_167 255 227 (dk_at dksX3_shows_1 9 rfl rfl)
theorem dX3_shows_36 : decode cX3_shows 36 = .ok (.iload_n 2, 1) := dk_28 (dk_at dksX3_shows_1 12 rfl rfl)
theorem dX3_shows_37 : decode cX3_shows 37 = .ok (.ireturn, 1) := dk_172 (dk_at dksX3_shows_1 13 rfl rfl)
abbrev cX3_showsFalse : ByteArray := prog_15_method_10_code
def yX3_showsFalse : MethodName := ⟨RX3, "showsFalse", "(I)Z"⟩
def dkwX3_showsFalse_1 : List UInt8 := [28, 96, 46, 51, 153, 0, 5, 4, 172, 132, 2, 1, 167, 255, 222, 3, 172]
abbrev dktX3_showsFalse_1 : List UInt8 := dkwX3_showsFalse_1 ++ []
def dkwX3_showsFalse_0 : List UInt8 := [3, 61, 28, 42, 180, 0, 28, 27, 46, 162, 0, 30, 42, 180, 0, 55, 42, 180, 0, 37, 16, 9, 27, 104]
abbrev dktX3_showsFalse_0 : List UInt8 := dkwX3_showsFalse_0 ++ dktX3_showsFalse_1
theorem dksX3_showsFalse_0 : cX3_showsFalse.data.toList.drop 0 = dktX3_showsFalse_0 := by decide +kernel
theorem dksX3_showsFalse_1 : cX3_showsFalse.data.toList.drop 24 = dktX3_showsFalse_1 := dk_seg dksX3_showsFalse_0 24 rfl rfl
theorem dX3_showsFalse_0 : decode cX3_showsFalse 0 = .ok (.iconst 0, 1) := dk_3 (dk_at dksX3_showsFalse_0 0 rfl rfl)
theorem dX3_showsFalse_1 : decode cX3_showsFalse 1 = .ok (.istore_n 2, 1) := dk_61 (dk_at dksX3_showsFalse_0 1 rfl rfl)
theorem dX3_showsFalse_2 : decode cX3_showsFalse 2 = .ok (.iload_n 2, 1) := dk_28 (dk_at dksX3_showsFalse_0 2 rfl rfl)
theorem dX3_showsFalse_3 : decode cX3_showsFalse 3 = .ok (.aload_n 0, 1) := dk_42 (dk_at dksX3_showsFalse_0 3 rfl rfl)
theorem dX3_showsFalse_4 : decode cX3_showsFalse 4 = .ok (.getfield 28, 3) := dk_180 0 28 (dk_at dksX3_showsFalse_0 4 rfl rfl)
theorem dX3_showsFalse_7 : decode cX3_showsFalse 7 = .ok (.iload_n 1, 1) := dk_27 (dk_at dksX3_showsFalse_0 7 rfl rfl)
theorem dX3_showsFalse_8 : decode cX3_showsFalse 8 = .ok (.iaload, 1) := dk_46 (dk_at dksX3_showsFalse_0 8 rfl rfl)
theorem dX3_showsFalse_9 : decode cX3_showsFalse 9 = .ok (.if_icmp .ge 30, 3) := dk_162 0 30 (dk_at dksX3_showsFalse_0 9 rfl rfl)
theorem dX3_showsFalse_12 : decode cX3_showsFalse 12 = .ok (.aload_n 0, 1) := dk_42 (dk_at dksX3_showsFalse_0 12 rfl rfl)
theorem dX3_showsFalse_13 : decode cX3_showsFalse 13 = .ok (.getfield 55, 3) := dk_180 0 55 (dk_at dksX3_showsFalse_0 13 rfl rfl)
theorem dX3_showsFalse_16 : decode cX3_showsFalse 16 = .ok (.aload_n 0, 1) := dk_42 (dk_at dksX3_showsFalse_0 16 rfl rfl)
theorem dX3_showsFalse_17 : decode cX3_showsFalse 17 = .ok (.getfield 37, 3) := dk_180 0 37 (dk_at dksX3_showsFalse_0 17 rfl rfl)
theorem dX3_showsFalse_20 : decode cX3_showsFalse 20 = .ok (.bipush 9, 2) := dk_16 9 (dk_at dksX3_showsFalse_0 20 rfl rfl)
theorem dX3_showsFalse_22 : decode cX3_showsFalse 22 = .ok (.iload_n 1, 1) := dk_27 (dk_at dksX3_showsFalse_0 22 rfl rfl)
theorem dX3_showsFalse_23 : decode cX3_showsFalse 23 = .ok (.imul, 1) := dk_104 (dk_at dksX3_showsFalse_0 23 rfl rfl)
theorem dX3_showsFalse_24 : decode cX3_showsFalse 24 = .ok (.iload_n 2, 1) := dk_28 (dk_at dksX3_showsFalse_1 0 rfl rfl)
theorem dX3_showsFalse_25 : decode cX3_showsFalse 25 = .ok (.iadd, 1) := dk_96 (dk_at dksX3_showsFalse_1 1 rfl rfl)
theorem dX3_showsFalse_26 : decode cX3_showsFalse 26 = .ok (.iaload, 1) := dk_46 (dk_at dksX3_showsFalse_1 2 rfl rfl)
theorem dX3_showsFalse_27 : decode cX3_showsFalse 27 = .ok (.baload, 1) := dk_51 (dk_at dksX3_showsFalse_1 3 rfl rfl)
theorem dX3_showsFalse_28 : decode cX3_showsFalse 28 = .ok (.ifCond .eq 5, 3) := dk_153 0 5 (dk_at dksX3_showsFalse_1 4 rfl rfl)
theorem dX3_showsFalse_31 : decode cX3_showsFalse 31 = .ok (.iconst 1, 1) := dk_4 (dk_at dksX3_showsFalse_1 7 rfl rfl)
theorem dX3_showsFalse_32 : decode cX3_showsFalse 32 = .ok (.ireturn, 1) := dk_172 (dk_at dksX3_showsFalse_1 8 rfl rfl)
theorem dX3_showsFalse_33 : decode cX3_showsFalse 33 = .ok (.iinc 2 1, 3) := dk_132 2 1 (dk_at dksX3_showsFalse_1 9 rfl rfl)
theorem dX3_showsFalse_36 : decode cX3_showsFalse 36 = .ok (.goto (-34), 3) := dk_167 255 222 (dk_at dksX3_showsFalse_1 12 rfl rfl)
theorem dX3_showsFalse_39 : decode cX3_showsFalse 39 = .ok (.iconst 0, 1) := dk_3 (dk_at dksX3_showsFalse_1 15 rfl rfl)
theorem dX3_showsFalse_40 : decode cX3_showsFalse 40 = .ok (.ireturn, 1) := dk_172 (dk_at dksX3_showsFalse_1 16 rfl rfl)
theorem q100 : (Jvm.Cond.initialized "FaceCoins$State") ∈ lw_all := lw_g (lw_at lw_m1 5 rfl) rfl
theorem q222 : (Jvm.Cond.instantiable "FaceCoins$State" (31 : Nat)) ∈ lw_all := lw_g (lw_at lw_m1 127 rfl) rfl
theorem q224 : (Jvm.Cond.instanceMethod ({ cls := "FaceCoins$State", name := "<init>", desc := "()V" } : Jvm.MethodName)) ∈ lw_all := lw_g (lw_at lw_m1 129 rfl) rfl
theorem q225 : (Jvm.Cond.code ({ cls := "FaceCoins$State", name := "<init>", desc := "()V" } : Jvm.MethodName) prog_15_method_1_code (1 : Nat) (Option.none : Option Jvm.ClassFile.FieldType)) ∈ lw_all := lw_g (lw_at lw_m1 130 rfl) rfl
theorem q226 : (Jvm.Cond.methodLink "FaceCoins$State" (3 : Nat) ({ cls := "java/lang/Object", name := "<init>", desc := "()V" } : Jvm.MethodName)) ∈ lw_all := lw_g (lw_at lw_m1 131 rfl) rfl
theorem q227 : (Jvm.Cond.classLink "FaceCoins$State" (9 : Nat) "FaceCoins$Law") ∈ lw_all := lw_g (lw_at lw_m1 132 rfl) rfl
theorem q229 : (Jvm.Cond.methodLinkNest "FaceCoins$State" (11 : Nat) ({ cls := "FaceCoins$Law", name := "<init>", desc := "()V" } : Jvm.MethodName) "FaceCoins") ∈ lw_tbl := lw_at lw_m1 134 rfl
theorem q240 : (Jvm.Cond.fieldLinkNest "FaceCoins$State" (139 : Nat) "FaceCoins$Law" "people" "[LFaceCoins$Who;" "FaceCoins") ∈ lw_tbl := lw_at lw_m1 145 rfl
theorem q244 : (Jvm.Cond.fieldLinkNest "FaceCoins$State" (121 : Nat) "FaceCoins$Law" "mints" "[LFaceCoins$Mint;" "FaceCoins") ∈ lw_tbl := lw_at lw_m1 149 rfl
theorem q254 : (Jvm.Cond.fieldLinkNest "FaceCoins$State" (153 : Nat) "FaceCoins$Law" "lucky" "I" "FaceCoins") ∈ lw_tbl := lw_at lw_m1 159 rfl
theorem q258 : (Jvm.Cond.fieldLinkNest "FaceCoins$State" (165 : Nat) "FaceCoins$Law" "dead" "I" "FaceCoins") ∈ lw_tbl := lw_at lw_m1 163 rfl
theorem q261 : (Jvm.Cond.fieldLinkNest "FaceCoins$State" (130 : Nat) "FaceCoins$Law" "thin" "I" "FaceCoins") ∈ lw_tbl := lw_at lw_m1 166 rfl
theorem q265 : (Jvm.Cond.fieldLinkNest "FaceCoins$State" (133 : Nat) "FaceCoins$Law" "faces" "I" "FaceCoins") ∈ lw_tbl := lw_at lw_m1 170 rfl
theorem q287 : (Jvm.Cond.fieldLink "FaceCoins$State" (12 : Nat) "FaceCoins$State" "law" "LFaceCoins$Law;") ∈ lw_all := lw_g (lw_at lw_m1 192 rfl) rfl
theorem q290 : (Jvm.Cond.fieldLink "FaceCoins$State" (18 : Nat) "FaceCoins$State" "grains" "[I") ∈ lw_all := lw_g (lw_at lw_m1 195 rfl) rfl
theorem q293 : (Jvm.Cond.fieldLink "FaceCoins$State" (22 : Nat) "FaceCoins$State" "owner" "[I") ∈ lw_all := lw_g (lw_at lw_m1 198 rfl) rfl
theorem q296 : (Jvm.Cond.fieldLink "FaceCoins$State" (25 : Nat) "FaceCoins$State" "struck" "[I") ∈ lw_all := lw_g (lw_at lw_m1 201 rfl) rfl
theorem q299 : (Jvm.Cond.fieldLink "FaceCoins$State" (28 : Nat) "FaceCoins$State" "layers" "[I") ∈ lw_all := lw_g (lw_at lw_m1 204 rfl) rfl
theorem q302 : (Jvm.Cond.fieldLink "FaceCoins$State" (31 : Nat) "FaceCoins$State" "who" "[I") ∈ lw_all := lw_g (lw_at lw_m1 207 rfl) rfl
theorem q304 : (Jvm.Cond.fieldLink "FaceCoins$State" (34 : Nat) "FaceCoins$State" "depth" "[I") ∈ lw_all := lw_g (lw_at lw_m1 209 rfl) rfl
theorem q306 : (Jvm.Cond.fieldLink "FaceCoins$State" (37 : Nat) "FaceCoins$State" "by" "[I") ∈ lw_all := lw_g (lw_at lw_m1 211 rfl) rfl
theorem q308 : (Jvm.Cond.fieldLink "FaceCoins$State" (40 : Nat) "FaceCoins$State" "strokeCoin" "[I") ∈ lw_all := lw_g (lw_at lw_m1 213 rfl) rfl
theorem q310 : (Jvm.Cond.fieldLink "FaceCoins$State" (43 : Nat) "FaceCoins$State" "strokeWho" "[I") ∈ lw_all := lw_g (lw_at lw_m1 215 rfl) rfl
theorem q312 : (Jvm.Cond.fieldLink "FaceCoins$State" (46 : Nat) "FaceCoins$State" "strokeMint" "[I") ∈ lw_all := lw_g (lw_at lw_m1 217 rfl) rfl
theorem q314 : (Jvm.Cond.fieldLink "FaceCoins$State" (49 : Nat) "FaceCoins$State" "strokeDay" "[I") ∈ lw_all := lw_g (lw_at lw_m1 219 rfl) rfl
theorem q316 : (Jvm.Cond.fieldLink "FaceCoins$State" (52 : Nat) "FaceCoins$State" "strokeSale" "[I") ∈ lw_all := lw_g (lw_at lw_m1 221 rfl) rfl
theorem q318 : (Jvm.Cond.fieldLink "FaceCoins$State" (55 : Nat) "FaceCoins$State" "strokeFalse" "[Z") ∈ lw_all := lw_g (lw_at lw_m1 223 rfl) rfl
theorem q320 : (Jvm.Cond.fieldLink "FaceCoins$State" (59 : Nat) "FaceCoins$State" "buyer" "[I") ∈ lw_all := lw_g (lw_at lw_m1 225 rfl) rfl
theorem q322 : (Jvm.Cond.fieldLink "FaceCoins$State" (62 : Nat) "FaceCoins$State" "seller" "[I") ∈ lw_all := lw_g (lw_at lw_m1 227 rfl) rfl
theorem q324 : (Jvm.Cond.fieldLink "FaceCoins$State" (65 : Nat) "FaceCoins$State" "saleMint" "[I") ∈ lw_all := lw_g (lw_at lw_m1 229 rfl) rfl
theorem q326 : (Jvm.Cond.fieldLink "FaceCoins$State" (68 : Nat) "FaceCoins$State" "price" "[I") ∈ lw_all := lw_g (lw_at lw_m1 231 rfl) rfl
theorem q328 : (Jvm.Cond.fieldLink "FaceCoins$State" (71 : Nat) "FaceCoins$State" "saleDay" "[I") ∈ lw_all := lw_g (lw_at lw_m1 233 rfl) rfl
theorem q330 : (Jvm.Cond.fieldLink "FaceCoins$State" (74 : Nat) "FaceCoins$State" "saleCoins" "[I") ∈ lw_all := lw_g (lw_at lw_m1 235 rfl) rfl
theorem q332 : (Jvm.Cond.fieldLink "FaceCoins$State" (77 : Nat) "FaceCoins$State" "worth" "[I") ∈ lw_all := lw_g (lw_at lw_m1 237 rfl) rfl
theorem q334 : (Jvm.Cond.fieldLink "FaceCoins$State" (87 : Nat) "FaceCoins$State" "coins" "I") ∈ lw_all := lw_g (lw_at lw_m1 239 rfl) rfl
theorem q336 : (Jvm.Cond.fieldLink "FaceCoins$State" (90 : Nat) "FaceCoins$State" "strokes" "I") ∈ lw_all := lw_g (lw_at lw_m2 1 rfl) rfl
theorem q338 : (Jvm.Cond.fieldLink "FaceCoins$State" (93 : Nat) "FaceCoins$State" "sales" "I") ∈ lw_all := lw_g (lw_at lw_m2 3 rfl) rfl
theorem q340 : (Jvm.Cond.fieldLink "FaceCoins$State" (96 : Nat) "FaceCoins$State" "day" "I") ∈ lw_all := lw_g (lw_at lw_m2 5 rfl) rfl
theorem q342 : (Jvm.Cond.fieldLink "FaceCoins$State" (99 : Nat) "FaceCoins$State" "dead" "I") ∈ lw_all := lw_g (lw_at lw_m2 7 rfl) rfl
theorem q344 : (Jvm.Cond.fieldLink "FaceCoins$State" (102 : Nat) "FaceCoins$State" "closed" "I") ∈ lw_all := lw_g (lw_at lw_m2 9 rfl) rfl
theorem q346 : (Jvm.Cond.fieldLink "FaceCoins$State" (80 : Nat) "FaceCoins$State" "victim" "I") ∈ lw_all := lw_g (lw_at lw_m2 11 rfl) rfl
theorem q348 : (Jvm.Cond.fieldLink "FaceCoins$State" (84 : Nat) "FaceCoins$State" "thief" "I") ∈ lw_all := lw_g (lw_at lw_m2 13 rfl) rfl
theorem q350 : (Jvm.Cond.fieldLink "FaceCoins$State" (105 : Nat) "FaceCoins$State" "made" "I") ∈ lw_all := lw_g (lw_at lw_m2 15 rfl) rfl
theorem q352 : (Jvm.Cond.fieldLink "FaceCoins$State" (108 : Nat) "FaceCoins$State" "lost" "I") ∈ lw_all := lw_g (lw_at lw_m2 17 rfl) rfl
theorem q354 : (Jvm.Cond.lays "FaceCoins$State" "FaceCoins$State" "law" "LFaceCoins$Law;") ∈ lw_all := lw_g (lw_at lw_m2 19 rfl) rfl
theorem q355 : (Jvm.Cond.soleField "FaceCoins$State" "law") ∈ lw_all := lw_g (lw_at lw_m2 20 rfl) rfl
theorem q356 : (Jvm.Cond.laysFinal "FaceCoins$State" "FaceCoins$State" "grains" "[I") ∈ lw_all := lw_g (lw_at lw_m2 21 rfl) rfl
theorem q357 : (Jvm.Cond.soleField "FaceCoins$State" "grains") ∈ lw_all := lw_g (lw_at lw_m2 22 rfl) rfl
theorem q358 : (Jvm.Cond.laysFinal "FaceCoins$State" "FaceCoins$State" "owner" "[I") ∈ lw_all := lw_g (lw_at lw_m2 23 rfl) rfl
theorem q359 : (Jvm.Cond.soleField "FaceCoins$State" "owner") ∈ lw_all := lw_g (lw_at lw_m2 24 rfl) rfl
theorem q360 : (Jvm.Cond.laysFinal "FaceCoins$State" "FaceCoins$State" "struck" "[I") ∈ lw_all := lw_g (lw_at lw_m2 25 rfl) rfl
theorem q361 : (Jvm.Cond.soleField "FaceCoins$State" "struck") ∈ lw_all := lw_g (lw_at lw_m2 26 rfl) rfl
theorem q362 : (Jvm.Cond.laysFinal "FaceCoins$State" "FaceCoins$State" "layers" "[I") ∈ lw_all := lw_g (lw_at lw_m2 27 rfl) rfl
theorem q363 : (Jvm.Cond.soleField "FaceCoins$State" "layers") ∈ lw_all := lw_g (lw_at lw_m2 28 rfl) rfl
theorem q364 : (Jvm.Cond.laysFinal "FaceCoins$State" "FaceCoins$State" "who" "[I") ∈ lw_all := lw_g (lw_at lw_m2 29 rfl) rfl
theorem q365 : (Jvm.Cond.soleField "FaceCoins$State" "who") ∈ lw_all := lw_g (lw_at lw_m2 30 rfl) rfl
theorem q366 : (Jvm.Cond.laysFinal "FaceCoins$State" "FaceCoins$State" "depth" "[I") ∈ lw_all := lw_g (lw_at lw_m2 31 rfl) rfl
theorem q367 : (Jvm.Cond.soleField "FaceCoins$State" "depth") ∈ lw_all := lw_g (lw_at lw_m2 32 rfl) rfl
theorem q368 : (Jvm.Cond.laysFinal "FaceCoins$State" "FaceCoins$State" "by" "[I") ∈ lw_all := lw_g (lw_at lw_m2 33 rfl) rfl
theorem q369 : (Jvm.Cond.soleField "FaceCoins$State" "by") ∈ lw_all := lw_g (lw_at lw_m2 34 rfl) rfl
theorem q370 : (Jvm.Cond.laysFinal "FaceCoins$State" "FaceCoins$State" "strokeCoin" "[I") ∈ lw_all := lw_g (lw_at lw_m2 35 rfl) rfl
theorem q371 : (Jvm.Cond.soleField "FaceCoins$State" "strokeCoin") ∈ lw_all := lw_g (lw_at lw_m2 36 rfl) rfl
theorem q372 : (Jvm.Cond.laysFinal "FaceCoins$State" "FaceCoins$State" "strokeWho" "[I") ∈ lw_all := lw_g (lw_at lw_m2 37 rfl) rfl
theorem q373 : (Jvm.Cond.soleField "FaceCoins$State" "strokeWho") ∈ lw_all := lw_g (lw_at lw_m2 38 rfl) rfl
theorem q374 : (Jvm.Cond.laysFinal "FaceCoins$State" "FaceCoins$State" "strokeMint" "[I") ∈ lw_all := lw_g (lw_at lw_m2 39 rfl) rfl
theorem q375 : (Jvm.Cond.soleField "FaceCoins$State" "strokeMint") ∈ lw_all := lw_g (lw_at lw_m2 40 rfl) rfl
theorem q376 : (Jvm.Cond.laysFinal "FaceCoins$State" "FaceCoins$State" "strokeDay" "[I") ∈ lw_all := lw_g (lw_at lw_m2 41 rfl) rfl
theorem q377 : (Jvm.Cond.soleField "FaceCoins$State" "strokeDay") ∈ lw_all := lw_g (lw_at lw_m2 42 rfl) rfl
theorem q378 : (Jvm.Cond.laysFinal "FaceCoins$State" "FaceCoins$State" "strokeSale" "[I") ∈ lw_all := lw_g (lw_at lw_m2 43 rfl) rfl
theorem q379 : (Jvm.Cond.soleField "FaceCoins$State" "strokeSale") ∈ lw_all := lw_g (lw_at lw_m2 44 rfl) rfl
theorem q380 : (Jvm.Cond.laysFinal "FaceCoins$State" "FaceCoins$State" "strokeFalse" "[Z") ∈ lw_all := lw_g (lw_at lw_m2 45 rfl) rfl
theorem q381 : (Jvm.Cond.soleField "FaceCoins$State" "strokeFalse") ∈ lw_all := lw_g (lw_at lw_m2 46 rfl) rfl
theorem q382 : (Jvm.Cond.laysFinal "FaceCoins$State" "FaceCoins$State" "buyer" "[I") ∈ lw_all := lw_g (lw_at lw_m2 47 rfl) rfl
theorem q383 : (Jvm.Cond.soleField "FaceCoins$State" "buyer") ∈ lw_all := lw_g (lw_at lw_m2 48 rfl) rfl
theorem q384 : (Jvm.Cond.laysFinal "FaceCoins$State" "FaceCoins$State" "seller" "[I") ∈ lw_all := lw_g (lw_at lw_m2 49 rfl) rfl
theorem q385 : (Jvm.Cond.soleField "FaceCoins$State" "seller") ∈ lw_all := lw_g (lw_at lw_m2 50 rfl) rfl
theorem q386 : (Jvm.Cond.laysFinal "FaceCoins$State" "FaceCoins$State" "saleMint" "[I") ∈ lw_all := lw_g (lw_at lw_m2 51 rfl) rfl
theorem q387 : (Jvm.Cond.soleField "FaceCoins$State" "saleMint") ∈ lw_all := lw_g (lw_at lw_m2 52 rfl) rfl
theorem q388 : (Jvm.Cond.laysFinal "FaceCoins$State" "FaceCoins$State" "price" "[I") ∈ lw_all := lw_g (lw_at lw_m2 53 rfl) rfl
theorem q389 : (Jvm.Cond.soleField "FaceCoins$State" "price") ∈ lw_all := lw_g (lw_at lw_m2 54 rfl) rfl
theorem q390 : (Jvm.Cond.laysFinal "FaceCoins$State" "FaceCoins$State" "saleDay" "[I") ∈ lw_all := lw_g (lw_at lw_m2 55 rfl) rfl
theorem q391 : (Jvm.Cond.soleField "FaceCoins$State" "saleDay") ∈ lw_all := lw_g (lw_at lw_m2 56 rfl) rfl
theorem q392 : (Jvm.Cond.laysFinal "FaceCoins$State" "FaceCoins$State" "saleCoins" "[I") ∈ lw_all := lw_g (lw_at lw_m2 57 rfl) rfl
theorem q393 : (Jvm.Cond.soleField "FaceCoins$State" "saleCoins") ∈ lw_all := lw_g (lw_at lw_m2 58 rfl) rfl
theorem q394 : (Jvm.Cond.laysFinal "FaceCoins$State" "FaceCoins$State" "worth" "[I") ∈ lw_all := lw_g (lw_at lw_m2 59 rfl) rfl
theorem q395 : (Jvm.Cond.soleField "FaceCoins$State" "worth") ∈ lw_all := lw_g (lw_at lw_m2 60 rfl) rfl
theorem q396 : (Jvm.Cond.lays "FaceCoins$State" "FaceCoins$State" "coins" "I") ∈ lw_all := lw_g (lw_at lw_m2 61 rfl) rfl
theorem q397 : (Jvm.Cond.soleField "FaceCoins$State" "coins") ∈ lw_all := lw_g (lw_at lw_m2 62 rfl) rfl
theorem q398 : (Jvm.Cond.lays "FaceCoins$State" "FaceCoins$State" "strokes" "I") ∈ lw_all := lw_g (lw_at lw_m2 63 rfl) rfl
theorem q399 : (Jvm.Cond.soleField "FaceCoins$State" "strokes") ∈ lw_all := lw_g (lw_at lw_m2 64 rfl) rfl
theorem q400 : (Jvm.Cond.lays "FaceCoins$State" "FaceCoins$State" "sales" "I") ∈ lw_all := lw_g (lw_at lw_m2 65 rfl) rfl
theorem q401 : (Jvm.Cond.soleField "FaceCoins$State" "sales") ∈ lw_all := lw_g (lw_at lw_m2 66 rfl) rfl
theorem q402 : (Jvm.Cond.lays "FaceCoins$State" "FaceCoins$State" "day" "I") ∈ lw_all := lw_g (lw_at lw_m2 67 rfl) rfl
theorem q403 : (Jvm.Cond.soleField "FaceCoins$State" "day") ∈ lw_all := lw_g (lw_at lw_m2 68 rfl) rfl
theorem q404 : (Jvm.Cond.lays "FaceCoins$State" "FaceCoins$State" "dead" "I") ∈ lw_all := lw_g (lw_at lw_m2 69 rfl) rfl
theorem q405 : (Jvm.Cond.soleField "FaceCoins$State" "dead") ∈ lw_all := lw_g (lw_at lw_m2 70 rfl) rfl
theorem q406 : (Jvm.Cond.lays "FaceCoins$State" "FaceCoins$State" "closed" "I") ∈ lw_all := lw_g (lw_at lw_m2 71 rfl) rfl
theorem q407 : (Jvm.Cond.soleField "FaceCoins$State" "closed") ∈ lw_all := lw_g (lw_at lw_m2 72 rfl) rfl
theorem q408 : (Jvm.Cond.lays "FaceCoins$State" "FaceCoins$State" "victim" "I") ∈ lw_all := lw_g (lw_at lw_m2 73 rfl) rfl
theorem q409 : (Jvm.Cond.soleField "FaceCoins$State" "victim") ∈ lw_all := lw_g (lw_at lw_m2 74 rfl) rfl
theorem q410 : (Jvm.Cond.lays "FaceCoins$State" "FaceCoins$State" "thief" "I") ∈ lw_all := lw_g (lw_at lw_m2 75 rfl) rfl
theorem q411 : (Jvm.Cond.soleField "FaceCoins$State" "thief") ∈ lw_all := lw_g (lw_at lw_m2 76 rfl) rfl
theorem q412 : (Jvm.Cond.lays "FaceCoins$State" "FaceCoins$State" "made" "I") ∈ lw_all := lw_g (lw_at lw_m2 77 rfl) rfl
theorem q413 : (Jvm.Cond.soleField "FaceCoins$State" "made") ∈ lw_all := lw_g (lw_at lw_m2 78 rfl) rfl
theorem q414 : (Jvm.Cond.lays "FaceCoins$State" "FaceCoins$State" "lost" "I") ∈ lw_all := lw_g (lw_at lw_m2 79 rfl) rfl
theorem q415 : (Jvm.Cond.soleField "FaceCoins$State" "lost") ∈ lw_all := lw_g (lw_at lw_m2 80 rfl) rfl
theorem q416 : (Jvm.Cond.superclass "FaceCoins$State" "java/lang/Object") ∈ lw_all := lw_g (lw_at lw_m2 81 rfl) rfl
theorem q770 : (Jvm.Cond.fieldLinkNest "FaceCoins$State" (147 : Nat) "FaceCoins$Who" "begs" "Z" "FaceCoins") ∈ lw_tbl := lw_at lw_m3 195 rfl
theorem q773 : (Jvm.Cond.fieldLinkNest "FaceCoins$State" (162 : Nat) "FaceCoins$Who" "owes" "Z" "FaceCoins") ∈ lw_tbl := lw_at lw_m3 198 rfl
theorem q777 : (Jvm.Cond.fieldLinkNest "FaceCoins$State" (166 : Nat) "FaceCoins$Who" "takes" "[I" "FaceCoins") ∈ lw_tbl := lw_at lw_m3 202 rfl
theorem q813 : (Jvm.Cond.fieldLinkNest "FaceCoins$State" (125 : Nat) "FaceCoins$Mint" "loss" "I" "FaceCoins") ∈ lw_tbl := lw_at lw_m3 238 rfl
theorem q816 : (Jvm.Cond.fieldLinkNest "FaceCoins$State" (136 : Nat) "FaceCoins$Mint" "blur" "I" "FaceCoins") ∈ lw_tbl := lw_at lw_m4 1 rfl
theorem q845 : (Jvm.Cond.instanceMethod ({ cls := "FaceCoins$State", name := "begin", desc := "(LFaceCoins$Law;)V" } : Jvm.MethodName)) ∈ lw_all := lw_g (lw_at lw_m4 30 rfl) rfl
theorem q846 : (Jvm.Cond.selects "FaceCoins$State" ({ cls := "FaceCoins$State", name := "begin", desc := "(LFaceCoins$Law;)V" } : Jvm.MethodName) ({ cls := "FaceCoins$State", name := "begin", desc := "(LFaceCoins$Law;)V" } : Jvm.MethodName)) ∈ lw_all := lw_g (lw_at lw_m4 31 rfl) rfl
theorem q847 : (Jvm.Cond.code ({ cls := "FaceCoins$State", name := "begin", desc := "(LFaceCoins$Law;)V" } : Jvm.MethodName) prog_15_method_2_code (2 : Nat) (Option.none : Option Jvm.ClassFile.FieldType)) ∈ lw_all := lw_g (lw_at lw_m4 32 rfl) rfl
theorem q857 : (Jvm.Cond.instanceMethod ({ cls := "FaceCoins$State", name := "be", desc := "(LFaceCoins$State;)V" } : Jvm.MethodName)) ∈ lw_all := lw_g (lw_at lw_m4 42 rfl) rfl
theorem q858 : (Jvm.Cond.selects "FaceCoins$State" ({ cls := "FaceCoins$State", name := "be", desc := "(LFaceCoins$State;)V" } : Jvm.MethodName) ({ cls := "FaceCoins$State", name := "be", desc := "(LFaceCoins$State;)V" } : Jvm.MethodName)) ∈ lw_all := lw_g (lw_at lw_m4 43 rfl) rfl
theorem q859 : (Jvm.Cond.code ({ cls := "FaceCoins$State", name := "be", desc := "(LFaceCoins$State;)V" } : Jvm.MethodName) prog_15_method_3_code (2 : Nat) (Option.none : Option Jvm.ClassFile.FieldType)) ∈ lw_all := lw_g (lw_at lw_m4 44 rfl) rfl
theorem q860 : (Jvm.Cond.methodLink "FaceCoins$State" (111 : Nat) ({ cls := "java/lang/System", name := "arraycopy", desc := "(Ljava/lang/Object;ILjava/lang/Object;II)V" } : Jvm.MethodName)) ∈ lw_all := lw_g (lw_at lw_m4 45 rfl) rfl
theorem q882 : (Jvm.Cond.instanceMethod ({ cls := "FaceCoins$State", name := "bar", desc := "(III)I" } : Jvm.MethodName)) ∈ lw_all := lw_g (lw_at lw_m4 67 rfl) rfl
theorem q883 : (Jvm.Cond.selects "FaceCoins$State" ({ cls := "FaceCoins$State", name := "bar", desc := "(III)I" } : Jvm.MethodName) ({ cls := "FaceCoins$State", name := "bar", desc := "(III)I" } : Jvm.MethodName)) ∈ lw_all := lw_g (lw_at lw_m4 68 rfl) rfl
theorem q884 : (Jvm.Cond.code ({ cls := "FaceCoins$State", name := "bar", desc := "(III)I" } : Jvm.MethodName) prog_15_method_5_code (4 : Nat) (Option.some Jvm.ClassFile.FieldType.int)) ∈ lw_all := lw_g (lw_at lw_m4 69 rfl) rfl
theorem q885 : (Jvm.Cond.methodLinkNest "FaceCoins$State" (117 : Nat) ({ cls := "FaceCoins", name := "has", desc := "(II)Z" } : Jvm.MethodName) "FaceCoins") ∈ lw_tbl := lw_at lw_m4 70 rfl
theorem q891 : (Jvm.Cond.instanceMethod ({ cls := "FaceCoins$State", name := "strike", desc := "(IIIIZ)V" } : Jvm.MethodName)) ∈ lw_all := lw_g (lw_at lw_m4 76 rfl) rfl
theorem q892 : (Jvm.Cond.selects "FaceCoins$State" ({ cls := "FaceCoins$State", name := "strike", desc := "(IIIIZ)V" } : Jvm.MethodName) ({ cls := "FaceCoins$State", name := "strike", desc := "(IIIIZ)V" } : Jvm.MethodName)) ∈ lw_all := lw_g (lw_at lw_m4 77 rfl) rfl
theorem q893 : (Jvm.Cond.code ({ cls := "FaceCoins$State", name := "strike", desc := "(IIIIZ)V" } : Jvm.MethodName) prog_15_method_6_code (10 : Nat) (Option.none : Option Jvm.ClassFile.FieldType)) ∈ lw_all := lw_g (lw_at lw_m4 78 rfl) rfl
theorem q907 : (Jvm.Cond.instanceMethod ({ cls := "FaceCoins$State", name := "luck", desc := "()I" } : Jvm.MethodName)) ∈ lw_all := lw_g (lw_at lw_m4 92 rfl) rfl
theorem q908 : (Jvm.Cond.selects "FaceCoins$State" ({ cls := "FaceCoins$State", name := "luck", desc := "()I" } : Jvm.MethodName) ({ cls := "FaceCoins$State", name := "luck", desc := "()I" } : Jvm.MethodName)) ∈ lw_all := lw_g (lw_at lw_m4 93 rfl) rfl
theorem q909 : (Jvm.Cond.code ({ cls := "FaceCoins$State", name := "luck", desc := "()I" } : Jvm.MethodName) prog_15_method_7_code (3 : Nat) (Option.some Jvm.ClassFile.FieldType.int)) ∈ lw_all := lw_g (lw_at lw_m4 94 rfl) rfl
theorem q910 : (Jvm.Cond.methodLink "FaceCoins$State" (143 : Nat) ({ cls := "FaceCoins$State", name := "top", desc := "(I)I" } : Jvm.MethodName)) ∈ lw_all := lw_g (lw_at lw_m4 95 rfl) rfl
theorem q911 : (Jvm.Cond.instanceMethod ({ cls := "FaceCoins$State", name := "top", desc := "(I)I" } : Jvm.MethodName)) ∈ lw_all := lw_g (lw_at lw_m4 96 rfl) rfl
theorem q912 : (Jvm.Cond.selects "FaceCoins$State" ({ cls := "FaceCoins$State", name := "top", desc := "(I)I" } : Jvm.MethodName) ({ cls := "FaceCoins$State", name := "top", desc := "(I)I" } : Jvm.MethodName)) ∈ lw_all := lw_g (lw_at lw_m4 97 rfl) rfl
theorem q913 : (Jvm.Cond.code ({ cls := "FaceCoins$State", name := "top", desc := "(I)I" } : Jvm.MethodName) prog_15_method_4_code (2 : Nat) (Option.some Jvm.ClassFile.FieldType.int)) ∈ lw_all := lw_g (lw_at lw_m4 98 rfl) rfl
theorem q914 : (Jvm.Cond.methodLink "FaceCoins$State" (156 : Nat) ({ cls := "java/lang/Math", name := "max", desc := "(II)I" } : Jvm.MethodName)) ∈ lw_all := lw_g (lw_at lw_m4 99 rfl) rfl
theorem q919 : (Jvm.Cond.instanceMethod ({ cls := "FaceCoins$State", name := "hundredths", desc := "(III)I" } : Jvm.MethodName)) ∈ lw_all := lw_g (lw_at lw_m4 104 rfl) rfl
theorem q920 : (Jvm.Cond.selects "FaceCoins$State" ({ cls := "FaceCoins$State", name := "hundredths", desc := "(III)I" } : Jvm.MethodName) ({ cls := "FaceCoins$State", name := "hundredths", desc := "(III)I" } : Jvm.MethodName)) ∈ lw_all := lw_g (lw_at lw_m4 105 rfl) rfl
theorem q921 : (Jvm.Cond.code ({ cls := "FaceCoins$State", name := "hundredths", desc := "(III)I" } : Jvm.MethodName) prog_15_method_8_code (6 : Nat) (Option.some Jvm.ClassFile.FieldType.int)) ∈ lw_all := lw_g (lw_at lw_m4 106 rfl) rfl
theorem q923 : (Jvm.Cond.instanceMethod ({ cls := "FaceCoins$State", name := "value", desc := "(III)I" } : Jvm.MethodName)) ∈ lw_all := lw_g (lw_at lw_m4 108 rfl) rfl
theorem q924 : (Jvm.Cond.selects "FaceCoins$State" ({ cls := "FaceCoins$State", name := "value", desc := "(III)I" } : Jvm.MethodName) ({ cls := "FaceCoins$State", name := "value", desc := "(III)I" } : Jvm.MethodName)) ∈ lw_all := lw_g (lw_at lw_m4 109 rfl) rfl
theorem q925 : (Jvm.Cond.code ({ cls := "FaceCoins$State", name := "value", desc := "(III)I" } : Jvm.MethodName) prog_15_method_9_code (4 : Nat) (Option.some Jvm.ClassFile.FieldType.int)) ∈ lw_all := lw_g (lw_at lw_m4 110 rfl) rfl
theorem q926 : (Jvm.Cond.methodLink "FaceCoins$State" (169 : Nat) ({ cls := "FaceCoins$State", name := "hundredths", desc := "(III)I" } : Jvm.MethodName)) ∈ lw_all := lw_g (lw_at lw_m4 111 rfl) rfl
theorem q1017 : (Jvm.Cond.instanceMethod ({ cls := "FaceCoins$State", name := "backs", desc := "()V" } : Jvm.MethodName)) ∈ lw_all := lw_g (lw_at lw_m4 202 rfl) rfl
theorem q1018 : (Jvm.Cond.selects "FaceCoins$State" ({ cls := "FaceCoins$State", name := "backs", desc := "()V" } : Jvm.MethodName) ({ cls := "FaceCoins$State", name := "backs", desc := "()V" } : Jvm.MethodName)) ∈ lw_all := lw_g (lw_at lw_m4 203 rfl) rfl
theorem q1019 : (Jvm.Cond.code ({ cls := "FaceCoins$State", name := "backs", desc := "()V" } : Jvm.MethodName) prog_15_method_12_code (1 : Nat) (Option.none : Option Jvm.ClassFile.FieldType)) ∈ lw_all := lw_g (lw_at lw_m4 204 rfl) rfl
theorem q1211 : (Jvm.Cond.instanceMethod ({ cls := "FaceCoins$State", name := "shows", desc := "(I)I" } : Jvm.MethodName)) ∈ lw_all := lw_g (lw_at lw_m5 156 rfl) rfl
theorem q1212 : (Jvm.Cond.selects "FaceCoins$State" ({ cls := "FaceCoins$State", name := "shows", desc := "(I)I" } : Jvm.MethodName) ({ cls := "FaceCoins$State", name := "shows", desc := "(I)I" } : Jvm.MethodName)) ∈ lw_all := lw_g (lw_at lw_m5 157 rfl) rfl
theorem q1213 : (Jvm.Cond.code ({ cls := "FaceCoins$State", name := "shows", desc := "(I)I" } : Jvm.MethodName) prog_15_method_11_code (4 : Nat) (Option.some Jvm.ClassFile.FieldType.int)) ∈ lw_all := lw_g (lw_at lw_m5 158 rfl) rfl
theorem q1216 : (Jvm.Cond.instanceMethod ({ cls := "FaceCoins$State", name := "showsFalse", desc := "(I)Z" } : Jvm.MethodName)) ∈ lw_all := lw_g (lw_at lw_m5 161 rfl) rfl
theorem q1217 : (Jvm.Cond.selects "FaceCoins$State" ({ cls := "FaceCoins$State", name := "showsFalse", desc := "(I)Z" } : Jvm.MethodName) ({ cls := "FaceCoins$State", name := "showsFalse", desc := "(I)Z" } : Jvm.MethodName)) ∈ lw_all := lw_g (lw_at lw_m5 162 rfl) rfl
theorem q1218 : (Jvm.Cond.code ({ cls := "FaceCoins$State", name := "showsFalse", desc := "(I)Z" } : Jvm.MethodName) prog_15_method_10_code (3 : Nat) (Option.some Jvm.ClassFile.FieldType.boolean)) ∈ lw_all := lw_g (lw_at lw_m5 163 rfl) rfl
theorem q1916 : (Jvm.Cond.castable "FaceCoins$State" "java/lang/Object") ∈ lw_tbl := lw_at lw_m8 141 rfl
theorem in_X3 : ∀ w ∈ wsX30, w ∈ lw_all := lw_in wsX30 [354, 356, 358, 360, 362, 364, 366, 368, 370, 372, 374, 376, 378, 380, 382, 384, 386, 388, 390, 392, 394, 396, 398, 400, 402, 404, 406, 408, 410, 412, 414] (by decide +kernel) (by decide +kernel)
/-! FaceCoins$Law -/
set_option maxRecDepth 100000
def RX4 : String := "FaceCoins$Law"
def TX4 : u_T := fun k => match k with
  | 0 => ("FaceCoins$Law", "people", "[LFaceCoins$Who;", true)
  | 1 => ("FaceCoins$Law", "mints", "[LFaceCoins$Mint;", true)
  | 2 => ("FaceCoins$Law", "whoMany", "I", false)
  | 3 => ("FaceCoins$Law", "mintMany", "I", false)
  | 4 => ("FaceCoins$Law", "takesMany", "I", false)
  | 5 => ("FaceCoins$Law", "lucky", "I", false)
  | 6 => ("FaceCoins$Law", "dead", "I", false)
  | 7 => ("FaceCoins$Law", "thin", "I", false)
  | _ => ("FaceCoins$Law", "faces", "I", false)
def tyX4 : Nat → FieldType := fun k => match k with
  | 0 => .array (.object "FaceCoins$Who")
  | 1 => .array (.object "FaceCoins$Mint")
  | 2 => .int
  | 3 => .int
  | 4 => .int
  | 5 => .int
  | 6 => .int
  | 7 => .int
  | _ => .int
abbrev wsX40 : List Cond := u_ws RX4 TX4 9
theorem nmX4 : ∀ a, a < 9 → ∀ b, b < 9 → a ≠ b → (TX4 a).2.1 ≠ (TX4 b).2.1 := by decide +kernel
theorem tyX4_ok : ∀ k, k < 9 → parseFieldDescriptor (TX4 k).2.2.1 = some (tyX4 k) := by decide +kernel
abbrev cX4_init : ByteArray := prog_7_method_1_code
def yX4_init : MethodName := ⟨RX4, "<init>", "()V"⟩
def dkwX4_init_1 : List UInt8 := [181, 0, 23, 42, 16, 50, 181, 0, 27, 42, 8, 181, 0, 30, 177]
abbrev dktX4_init_1 : List UInt8 := dkwX4_init_1 ++ []
def dkwX4_init_0 : List UInt8 := [42, 183, 0, 3, 42, 16, 8, 189, 0, 9, 181, 0, 11, 42, 7, 189, 0, 17, 181, 0, 19, 42, 16, 50]
abbrev dktX4_init_0 : List UInt8 := dkwX4_init_0 ++ dktX4_init_1
theorem dksX4_init_0 : cX4_init.data.toList.drop 0 = dktX4_init_0 := by decide +kernel
theorem dksX4_init_1 : cX4_init.data.toList.drop 24 = dktX4_init_1 := dk_seg dksX4_init_0 24 rfl rfl
theorem dX4_init_0 : decode cX4_init 0 = .ok (.aload_n 0, 1) := dk_42 (dk_at dksX4_init_0 0 rfl rfl)
theorem dX4_init_1 : decode cX4_init 1 = .ok (.invokespecial 3, 3) := dk_183 0 3 (dk_at dksX4_init_0 1 rfl rfl)
theorem dX4_init_4 : decode cX4_init 4 = .ok (.aload_n 0, 1) := dk_42 (dk_at dksX4_init_0 4 rfl rfl)
theorem dX4_init_5 : decode cX4_init 5 = .ok (.bipush 8, 2) := dk_16 8 (dk_at dksX4_init_0 5 rfl rfl)
theorem dX4_init_7 : decode cX4_init 7 = .ok (.anewarray 9, 3) := dk_189 0 9 (dk_at dksX4_init_0 7 rfl rfl)
theorem dX4_init_10 : decode cX4_init 10 = .ok (.putfield 11, 3) := dk_181 0 11 (dk_at dksX4_init_0 10 rfl rfl)
theorem dX4_init_13 : decode cX4_init 13 = .ok (.aload_n 0, 1) := dk_42 (dk_at dksX4_init_0 13 rfl rfl)
theorem dX4_init_14 : decode cX4_init 14 = .ok (.iconst 4, 1) := dk_7 (dk_at dksX4_init_0 14 rfl rfl)
theorem dX4_init_15 : decode cX4_init 15 = .ok (.anewarray 17, 3) := dk_189 0 17 (dk_at dksX4_init_0 15 rfl rfl)
theorem dX4_init_18 : decode cX4_init 18 = .ok (.putfield 19, 3) := dk_181 0 19 (dk_at dksX4_init_0 18 rfl rfl)
theorem dX4_init_21 : decode cX4_init 21 = .ok (.aload_n 0, 1) := dk_42 (dk_at dksX4_init_0 21 rfl rfl)
theorem dX4_init_22 : decode cX4_init 22 = .ok (.bipush 50, 2) := dk_16 50 (dk_at dksX4_init_0 22 rfl rfl)
theorem dX4_init_24 : decode cX4_init 24 = .ok (.putfield 23, 3) := dk_181 0 23 (dk_at dksX4_init_1 0 rfl rfl)
theorem dX4_init_27 : decode cX4_init 27 = .ok (.aload_n 0, 1) := dk_42 (dk_at dksX4_init_1 3 rfl rfl)
theorem dX4_init_28 : decode cX4_init 28 = .ok (.bipush 50, 2) := dk_16 50 (dk_at dksX4_init_1 4 rfl rfl)
theorem dX4_init_30 : decode cX4_init 30 = .ok (.putfield 27, 3) := dk_181 0 27 (dk_at dksX4_init_1 6 rfl rfl)
theorem dX4_init_33 : decode cX4_init 33 = .ok (.aload_n 0, 1) := dk_42 (dk_at dksX4_init_1 9 rfl rfl)
theorem dX4_init_34 : decode cX4_init 34 = .ok (.iconst 5, 1) := dk_8 (dk_at dksX4_init_1 10 rfl rfl)
theorem dX4_init_35 : decode cX4_init 35 = .ok (.putfield 30, 3) := dk_181 0 30 (dk_at dksX4_init_1 11 rfl rfl)
theorem dX4_init_38 : decode cX4_init 38 = .ok (.return_, 1) := dk_177 (dk_at dksX4_init_1 14 rfl rfl)
theorem q101 : (Jvm.Cond.initialized "FaceCoins$Law") ∈ lw_all := lw_g (lw_at lw_m1 6 rfl) rfl
theorem q228 : (Jvm.Cond.instantiable "FaceCoins$Law" (9 : Nat)) ∈ lw_all := lw_g (lw_at lw_m1 133 rfl) rfl
theorem q230 : (Jvm.Cond.instanceMethod ({ cls := "FaceCoins$Law", name := "<init>", desc := "()V" } : Jvm.MethodName)) ∈ lw_all := lw_g (lw_at lw_m1 135 rfl) rfl
theorem q231 : (Jvm.Cond.code ({ cls := "FaceCoins$Law", name := "<init>", desc := "()V" } : Jvm.MethodName) prog_7_method_1_code (1 : Nat) (Option.none : Option Jvm.ClassFile.FieldType)) ∈ lw_all := lw_g (lw_at lw_m1 136 rfl) rfl
theorem q232 : (Jvm.Cond.methodLink "FaceCoins$Law" (3 : Nat) ({ cls := "java/lang/Object", name := "<init>", desc := "()V" } : Jvm.MethodName)) ∈ lw_all := lw_g (lw_at lw_m1 137 rfl) rfl
theorem q233 : (Jvm.Cond.classLink "FaceCoins$Law" (9 : Nat) "FaceCoins$Who") ∈ lw_all := lw_g (lw_at lw_m1 138 rfl) rfl
theorem q235 : (Jvm.Cond.classLink "FaceCoins$Law" (17 : Nat) "FaceCoins$Mint") ∈ lw_all := lw_g (lw_at lw_m1 140 rfl) rfl
theorem q237 : (Jvm.Cond.fieldLink "FaceCoins$Law" (11 : Nat) "FaceCoins$Law" "people" "[LFaceCoins$Who;") ∈ lw_all := lw_g (lw_at lw_m1 142 rfl) rfl
theorem q242 : (Jvm.Cond.fieldLink "FaceCoins$Law" (19 : Nat) "FaceCoins$Law" "mints" "[LFaceCoins$Mint;") ∈ lw_all := lw_g (lw_at lw_m1 147 rfl) rfl
theorem q256 : (Jvm.Cond.fieldLink "FaceCoins$Law" (23 : Nat) "FaceCoins$Law" "dead" "I") ∈ lw_all := lw_g (lw_at lw_m1 161 rfl) rfl
theorem q260 : (Jvm.Cond.fieldLink "FaceCoins$Law" (27 : Nat) "FaceCoins$Law" "thin" "I") ∈ lw_all := lw_g (lw_at lw_m1 165 rfl) rfl
theorem q264 : (Jvm.Cond.fieldLink "FaceCoins$Law" (30 : Nat) "FaceCoins$Law" "faces" "I") ∈ lw_all := lw_g (lw_at lw_m1 169 rfl) rfl
theorem q268 : (Jvm.Cond.laysFinal "FaceCoins$Law" "FaceCoins$Law" "people" "[LFaceCoins$Who;") ∈ lw_all := lw_g (lw_at lw_m1 173 rfl) rfl
theorem q269 : (Jvm.Cond.soleField "FaceCoins$Law" "people") ∈ lw_all := lw_g (lw_at lw_m1 174 rfl) rfl
theorem q270 : (Jvm.Cond.laysFinal "FaceCoins$Law" "FaceCoins$Law" "mints" "[LFaceCoins$Mint;") ∈ lw_all := lw_g (lw_at lw_m1 175 rfl) rfl
theorem q271 : (Jvm.Cond.soleField "FaceCoins$Law" "mints") ∈ lw_all := lw_g (lw_at lw_m1 176 rfl) rfl
theorem q272 : (Jvm.Cond.lays "FaceCoins$Law" "FaceCoins$Law" "whoMany" "I") ∈ lw_all := lw_g (lw_at lw_m1 177 rfl) rfl
theorem q273 : (Jvm.Cond.soleField "FaceCoins$Law" "whoMany") ∈ lw_all := lw_g (lw_at lw_m1 178 rfl) rfl
theorem q274 : (Jvm.Cond.lays "FaceCoins$Law" "FaceCoins$Law" "mintMany" "I") ∈ lw_all := lw_g (lw_at lw_m1 179 rfl) rfl
theorem q275 : (Jvm.Cond.soleField "FaceCoins$Law" "mintMany") ∈ lw_all := lw_g (lw_at lw_m1 180 rfl) rfl
theorem q276 : (Jvm.Cond.lays "FaceCoins$Law" "FaceCoins$Law" "takesMany" "I") ∈ lw_all := lw_g (lw_at lw_m1 181 rfl) rfl
theorem q277 : (Jvm.Cond.soleField "FaceCoins$Law" "takesMany") ∈ lw_all := lw_g (lw_at lw_m1 182 rfl) rfl
theorem q278 : (Jvm.Cond.lays "FaceCoins$Law" "FaceCoins$Law" "lucky" "I") ∈ lw_all := lw_g (lw_at lw_m1 183 rfl) rfl
theorem q279 : (Jvm.Cond.soleField "FaceCoins$Law" "lucky") ∈ lw_all := lw_g (lw_at lw_m1 184 rfl) rfl
theorem q280 : (Jvm.Cond.lays "FaceCoins$Law" "FaceCoins$Law" "dead" "I") ∈ lw_all := lw_g (lw_at lw_m1 185 rfl) rfl
theorem q281 : (Jvm.Cond.soleField "FaceCoins$Law" "dead") ∈ lw_all := lw_g (lw_at lw_m1 186 rfl) rfl
theorem q282 : (Jvm.Cond.lays "FaceCoins$Law" "FaceCoins$Law" "thin" "I") ∈ lw_all := lw_g (lw_at lw_m1 187 rfl) rfl
theorem q283 : (Jvm.Cond.soleField "FaceCoins$Law" "thin") ∈ lw_all := lw_g (lw_at lw_m1 188 rfl) rfl
theorem q284 : (Jvm.Cond.lays "FaceCoins$Law" "FaceCoins$Law" "faces" "I") ∈ lw_all := lw_g (lw_at lw_m1 189 rfl) rfl
theorem q285 : (Jvm.Cond.soleField "FaceCoins$Law" "faces") ∈ lw_all := lw_g (lw_at lw_m1 190 rfl) rfl
theorem q286 : (Jvm.Cond.superclass "FaceCoins$Law" "java/lang/Object") ∈ lw_all := lw_g (lw_at lw_m1 191 rfl) rfl
theorem q1917 : (Jvm.Cond.castable "FaceCoins$Law" "java/lang/Object") ∈ lw_tbl := lw_at lw_m8 142 rfl
theorem in_X4 : ∀ w ∈ wsX40, w ∈ lw_all := lw_in wsX40 [268, 270, 272, 274, 276, 278, 280, 282, 284] (by decide +kernel) (by decide +kernel)
/-! FaceCoins$Reader -/
set_option maxRecDepth 100000
def RX5 : String := "FaceCoins$Reader"
abbrev cX5_init : ByteArray := prog_13_method_1_code
def yX5_init : MethodName := ⟨RX5, "<init>", "(LFaceCoins;I)V"⟩
def dkwX5_init_0 : List UInt8 := [42, 43, 181, 0, 3, 42, 183, 0, 9, 42, 28, 181, 0, 15, 177]
abbrev dktX5_init_0 : List UInt8 := dkwX5_init_0 ++ []
theorem dksX5_init_0 : cX5_init.data.toList.drop 0 = dktX5_init_0 := by decide +kernel
theorem dX5_init_0 : decode cX5_init 0 = .ok (.aload_n 0, 1) := dk_42 (dk_at dksX5_init_0 0 rfl rfl)
theorem dX5_init_1 : decode cX5_init 1 = .ok (.aload_n 1, 1) := dk_43 (dk_at dksX5_init_0 1 rfl rfl)
theorem dX5_init_2 : decode cX5_init 2 = .ok (.putfield 3, 3) := dk_181 0 3 (dk_at dksX5_init_0 2 rfl rfl)
theorem dX5_init_5 : decode cX5_init 5 = .ok (.aload_n 0, 1) := dk_42 (dk_at dksX5_init_0 5 rfl rfl)
theorem dX5_init_6 : decode cX5_init 6 = .ok (.invokespecial 9, 3) := dk_183 0 9 (dk_at dksX5_init_0 6 rfl rfl)
theorem dX5_init_9 : decode cX5_init 9 = .ok (.aload_n 0, 1) := dk_42 (dk_at dksX5_init_0 9 rfl rfl)
theorem dX5_init_10 : decode cX5_init 10 = .ok (.iload_n 2, 1) := dk_28 (dk_at dksX5_init_0 10 rfl rfl)
theorem dX5_init_11 : decode cX5_init 11 = .ok (.putfield 15, 3) := dk_181 0 15 (dk_at dksX5_init_0 11 rfl rfl)
theorem dX5_init_14 : decode cX5_init 14 = .ok (.return_, 1) := dk_177 (dk_at dksX5_init_0 14 rfl rfl)
abbrev cX5_begin : ByteArray := prog_13_method_2_code
def yX5_begin : MethodName := ⟨RX5, "begin", "()V"⟩
def dkwX5_begin_0 : List UInt8 := [42, 3, 181, 0, 19, 42, 182, 0, 22, 177]
abbrev dktX5_begin_0 : List UInt8 := dkwX5_begin_0 ++ []
theorem dksX5_begin_0 : cX5_begin.data.toList.drop 0 = dktX5_begin_0 := by decide +kernel
theorem dX5_begin_0 : decode cX5_begin 0 = .ok (.aload_n 0, 1) := dk_42 (dk_at dksX5_begin_0 0 rfl rfl)
theorem dX5_begin_1 : decode cX5_begin 1 = .ok (.iconst 0, 1) := dk_3 (dk_at dksX5_begin_0 1 rfl rfl)
theorem dX5_begin_2 : decode cX5_begin 2 = .ok (.putfield 19, 3) := dk_181 0 19 (dk_at dksX5_begin_0 2 rfl rfl)
theorem dX5_begin_5 : decode cX5_begin 5 = .ok (.aload_n 0, 1) := dk_42 (dk_at dksX5_begin_0 5 rfl rfl)
theorem dX5_begin_6 : decode cX5_begin 6 = .ok (.invokevirtual 22, 3) := dk_182 0 22 (dk_at dksX5_begin_0 6 rfl rfl)
theorem dX5_begin_9 : decode cX5_begin 9 = .ok (.return_, 1) := dk_177 (dk_at dksX5_begin_0 9 rfl rfl)
abbrev cX5_next : ByteArray := prog_13_method_6_code
def yX5_next : MethodName := ⟨RX5, "next", "()V"⟩
def dkwX5_next_7 : List UInt8 := [42, 27, 181, 0, 57, 42, 89, 180, 0, 19, 4, 96, 181, 0, 19, 177]
abbrev dktX5_next_7 : List UInt8 := dkwX5_next_7 ++ []
def dkwX5_next_6 : List UInt8 := [16, 41, 159, 0, 14, 27, 16, 60, 16, 62, 184, 0, 32, 153, 0, 7, 6, 167, 0, 4, 7, 181, 0, 43]
abbrev dktX5_next_6 : List UInt8 := dkwX5_next_6 ++ dktX5_next_7
def dkwX5_next_5 : List UInt8 := [182, 0, 46, 182, 0, 53, 167, 0, 56, 42, 27, 16, 59, 159, 0, 26, 27, 16, 40, 159, 0, 20, 27]
abbrev dktX5_next_5 : List UInt8 := dkwX5_next_5 ++ dktX5_next_6
def dkwX5_next_4 : List UInt8 := [167, 0, 84, 42, 27, 182, 0, 46, 154, 0, 11, 42, 27, 182, 0, 50, 153, 0, 15, 42, 42, 27]
abbrev dktX5_next_4 : List UInt8 := dkwX5_next_4 ++ dktX5_next_5
def dkwX5_next_3 : List UInt8 := [181, 0, 40, 42, 7, 181, 0, 43, 177, 42, 182, 0, 36, 60, 27, 156, 0, 11, 42, 3, 181, 0, 43]
abbrev dktX5_next_3 : List UInt8 := dkwX5_next_3 ++ dktX5_next_4
def dkwX5_next_2 : List UInt8 := [180, 0, 15, 164, 0, 28, 42, 180, 0, 19, 42, 180, 0, 15, 161, 0, 17, 42, 42, 180, 0, 15]
abbrev dktX5_next_2 : List UInt8 := dkwX5_next_2 ++ dktX5_next_3
def dkwX5_next_1 : List UInt8 := [96, 181, 0, 19, 167, 255, 228, 42, 42, 180, 0, 19, 181, 0, 40, 42, 180, 0, 3, 180, 0, 25, 42]
abbrev dktX5_next_1 : List UInt8 := dkwX5_next_1 ++ dktX5_next_2
def dkwX5_next_0 : List UInt8 := [42, 182, 0, 36, 16, 32, 159, 0, 12, 42, 182, 0, 36, 16, 10, 160, 0, 16, 42, 89, 180, 0, 19, 4]
abbrev dktX5_next_0 : List UInt8 := dkwX5_next_0 ++ dktX5_next_1
theorem dksX5_next_0 : cX5_next.data.toList.drop 0 = dktX5_next_0 := by decide +kernel
theorem dksX5_next_1 : cX5_next.data.toList.drop 24 = dktX5_next_1 := dk_seg dksX5_next_0 24 rfl rfl
theorem dksX5_next_2 : cX5_next.data.toList.drop 47 = dktX5_next_2 := dk_seg dksX5_next_1 23 rfl rfl
theorem dksX5_next_3 : cX5_next.data.toList.drop 69 = dktX5_next_3 := dk_seg dksX5_next_2 22 rfl rfl
theorem dksX5_next_4 : cX5_next.data.toList.drop 92 = dktX5_next_4 := dk_seg dksX5_next_3 23 rfl rfl
theorem dksX5_next_5 : cX5_next.data.toList.drop 114 = dktX5_next_5 := dk_seg dksX5_next_4 22 rfl rfl
theorem dksX5_next_6 : cX5_next.data.toList.drop 137 = dktX5_next_6 := dk_seg dksX5_next_5 23 rfl rfl
theorem dksX5_next_7 : cX5_next.data.toList.drop 161 = dktX5_next_7 := dk_seg dksX5_next_6 24 rfl rfl
theorem dX5_next_0 : decode cX5_next 0 = .ok (.aload_n 0, 1) := dk_42 (dk_at dksX5_next_0 0 rfl rfl)
theorem dX5_next_1 : decode cX5_next 1 = .ok (.invokevirtual 36, 3) := dk_182 0 36 (dk_at dksX5_next_0 1 rfl rfl)
theorem dX5_next_4 : decode cX5_next 4 = .ok (.bipush 32, 2) := dk_16 32 (dk_at dksX5_next_0 4 rfl rfl)
theorem dX5_next_6 : decode cX5_next 6 = .ok (.if_icmp .eq 12, 3) := dk_159 0 12 (dk_at dksX5_next_0 6 rfl rfl)
theorem dX5_next_9 : decode cX5_next 9 = .ok (.aload_n 0, 1) := dk_42 (dk_at dksX5_next_0 9 rfl rfl)
theorem dX5_next_10 : decode cX5_next 10 = .ok (.invokevirtual 36, 3) := dk_182 0 36 (dk_at dksX5_next_0 10 rfl rfl)
theorem dX5_next_13 : decode cX5_next 13 = .ok (.bipush 10, 2) := dk_16 10 (dk_at dksX5_next_0 13 rfl rfl)
theorem dX5_next_15 : decode cX5_next 15 = .ok (.if_icmp .ne 16, 3) := dk_160 0 16 (dk_at dksX5_next_0 15 rfl rfl)
theorem dX5_next_18 : decode cX5_next 18 = .ok (.aload_n 0, 1) := dk_42 (dk_at dksX5_next_0 18 rfl rfl)
theorem dX5_next_19 : decode cX5_next 19 = .ok (.dup, 1) := dk_89 (dk_at dksX5_next_0 19 rfl rfl)
theorem dX5_next_20 : decode cX5_next 20 = .ok (.getfield 19, 3) := dk_180 0 19 (dk_at dksX5_next_0 20 rfl rfl)
theorem dX5_next_23 : decode cX5_next 23 = .ok (.iconst 1, 1) := dk_4 (dk_at dksX5_next_0 23 rfl rfl)
theorem dX5_next_24 : decode cX5_next 24 = .ok (.iadd, 1) := dk_96 (dk_at dksX5_next_1 0 rfl rfl)
theorem dX5_next_25 : decode cX5_next 25 = .ok (.putfield 19, 3) := dk_181 0 19 (dk_at dksX5_next_1 1 rfl rfl)
theorem dX5_next_28 : decode cX5_next 28 = .ok (.goto (-28), 3) := dk_167 255 228 (dk_at dksX5_next_1 4 rfl rfl)
theorem dX5_next_31 : decode cX5_next 31 = .ok (.aload_n 0, 1) := dk_42 (dk_at dksX5_next_1 7 rfl rfl)
theorem dX5_next_32 : decode cX5_next 32 = .ok (.aload_n 0, 1) := dk_42 (dk_at dksX5_next_1 8 rfl rfl)
theorem dX5_next_33 : decode cX5_next 33 = .ok (.getfield 19, 3) := dk_180 0 19 (dk_at dksX5_next_1 9 rfl rfl)
theorem dX5_next_36 : decode cX5_next 36 = .ok (.putfield 40, 3) := dk_181 0 40 (dk_at dksX5_next_1 12 rfl rfl)
theorem dX5_next_39 : decode cX5_next 39 = .ok (.aload_n 0, 1) := dk_42 (dk_at dksX5_next_1 15 rfl rfl)
theorem dX5_next_40 : decode cX5_next 40 = .ok (.getfield 3, 3) := dk_180 0 3 (dk_at dksX5_next_1 16 rfl rfl)
theorem dX5_next_43 : decode cX5_next 43 = .ok (.getfield 25, 3) := dk_180 0 25 (dk_at dksX5_next_1 19 rfl rfl)
theorem dX5_next_46 : decode cX5_next 46 = .ok (.aload_n 0, 1) := dk_42 (dk_at dksX5_next_1 22 rfl rfl)
theorem dX5_next_47 : decode cX5_next 47 = .ok (.getfield 15, 3) := dk_180 0 15 (dk_at dksX5_next_2 0 rfl rfl)
theorem dX5_next_50 : decode cX5_next 50 = .ok (.if_icmp .le 28, 3) := dk_164 0 28 (dk_at dksX5_next_2 3 rfl rfl)
theorem dX5_next_53 : decode cX5_next 53 = .ok (.aload_n 0, 1) := dk_42 (dk_at dksX5_next_2 6 rfl rfl)
theorem dX5_next_54 : decode cX5_next 54 = .ok (.getfield 19, 3) := dk_180 0 19 (dk_at dksX5_next_2 7 rfl rfl)
theorem dX5_next_57 : decode cX5_next 57 = .ok (.aload_n 0, 1) := dk_42 (dk_at dksX5_next_2 10 rfl rfl)
theorem dX5_next_58 : decode cX5_next 58 = .ok (.getfield 15, 3) := dk_180 0 15 (dk_at dksX5_next_2 11 rfl rfl)
theorem dX5_next_61 : decode cX5_next 61 = .ok (.if_icmp .lt 17, 3) := dk_161 0 17 (dk_at dksX5_next_2 14 rfl rfl)
theorem dX5_next_64 : decode cX5_next 64 = .ok (.aload_n 0, 1) := dk_42 (dk_at dksX5_next_2 17 rfl rfl)
theorem dX5_next_65 : decode cX5_next 65 = .ok (.aload_n 0, 1) := dk_42 (dk_at dksX5_next_2 18 rfl rfl)
theorem dX5_next_66 : decode cX5_next 66 = .ok (.getfield 15, 3) := dk_180 0 15 (dk_at dksX5_next_2 19 rfl rfl)
theorem dX5_next_69 : decode cX5_next 69 = .ok (.putfield 40, 3) := dk_181 0 40 (dk_at dksX5_next_3 0 rfl rfl)
theorem dX5_next_72 : decode cX5_next 72 = .ok (.aload_n 0, 1) := dk_42 (dk_at dksX5_next_3 3 rfl rfl)
theorem dX5_next_73 : decode cX5_next 73 = .ok (.iconst 4, 1) := dk_7 (dk_at dksX5_next_3 4 rfl rfl)
theorem dX5_next_74 : decode cX5_next 74 = .ok (.putfield 43, 3) := dk_181 0 43 (dk_at dksX5_next_3 5 rfl rfl)
theorem dX5_next_77 : decode cX5_next 77 = .ok (.return_, 1) := dk_177 (dk_at dksX5_next_3 8 rfl rfl)
theorem dX5_next_78 : decode cX5_next 78 = .ok (.aload_n 0, 1) := dk_42 (dk_at dksX5_next_3 9 rfl rfl)
theorem dX5_next_79 : decode cX5_next 79 = .ok (.invokevirtual 36, 3) := dk_182 0 36 (dk_at dksX5_next_3 10 rfl rfl)
theorem dX5_next_82 : decode cX5_next 82 = .ok (.istore_n 1, 1) := dk_60 (dk_at dksX5_next_3 13 rfl rfl)
theorem dX5_next_83 : decode cX5_next 83 = .ok (.iload_n 1, 1) := dk_27 (dk_at dksX5_next_3 14 rfl rfl)
theorem dX5_next_84 : decode cX5_next 84 = .ok (.ifCond .ge 11, 3) := dk_156 0 11 (dk_at dksX5_next_3 15 rfl rfl)
theorem dX5_next_87 : decode cX5_next 87 = .ok (.aload_n 0, 1) := dk_42 (dk_at dksX5_next_3 18 rfl rfl)
theorem dX5_next_88 : decode cX5_next 88 = .ok (.iconst 0, 1) := dk_3 (dk_at dksX5_next_3 19 rfl rfl)
theorem dX5_next_89 : decode cX5_next 89 = .ok (.putfield 43, 3) := dk_181 0 43 (dk_at dksX5_next_3 20 rfl rfl)
theorem dX5_next_92 : decode cX5_next 92 = .ok (.goto 84, 3) := dk_167 0 84 (dk_at dksX5_next_4 0 rfl rfl)
theorem dX5_next_95 : decode cX5_next 95 = .ok (.aload_n 0, 1) := dk_42 (dk_at dksX5_next_4 3 rfl rfl)
theorem dX5_next_96 : decode cX5_next 96 = .ok (.iload_n 1, 1) := dk_27 (dk_at dksX5_next_4 4 rfl rfl)
theorem dX5_next_97 : decode cX5_next 97 = .ok (.invokevirtual 46, 3) := dk_182 0 46 (dk_at dksX5_next_4 5 rfl rfl)
theorem dX5_next_100 : decode cX5_next 100 = .ok (.ifCond .ne 11, 3) := dk_154 0 11 (dk_at dksX5_next_4 8 rfl rfl)
theorem dX5_next_103 : decode cX5_next 103 = .ok (.aload_n 0, 1) := dk_42 (dk_at dksX5_next_4 11 rfl rfl)
theorem dX5_next_104 : decode cX5_next 104 = .ok (.iload_n 1, 1) := dk_27 (dk_at dksX5_next_4 12 rfl rfl)
theorem dX5_next_105 : decode cX5_next 105 = .ok (.invokevirtual 50, 3) := dk_182 0 50 (dk_at dksX5_next_4 13 rfl rfl)
theorem dX5_next_108 : decode cX5_next 108 = .ok (.ifCond .eq 15, 3) := dk_153 0 15 (dk_at dksX5_next_4 16 rfl rfl)
theorem dX5_next_111 : decode cX5_next 111 = .ok (.aload_n 0, 1) := dk_42 (dk_at dksX5_next_4 19 rfl rfl)
theorem dX5_next_112 : decode cX5_next 112 = .ok (.aload_n 0, 1) := dk_42 (dk_at dksX5_next_4 20 rfl rfl)
theorem dX5_next_113 : decode cX5_next 113 = .ok (.iload_n 1, 1) := dk_27 (dk_at dksX5_next_4 21 rfl rfl)
theorem dX5_next_114 : decode cX5_next 114 = .ok (.invokevirtual 46, 3) := dk_182 0 46 (dk_at dksX5_next_5 0 rfl rfl)
theorem dX5_next_117 : decode cX5_next 117 = .ok (.invokevirtual 53, 3) := dk_182 0 53 (dk_at dksX5_next_5 3 rfl rfl)
theorem dX5_next_120 : decode cX5_next 120 = .ok (.goto 56, 3) := dk_167 0 56 (dk_at dksX5_next_5 6 rfl rfl)
theorem dX5_next_123 : decode cX5_next 123 = .ok (.aload_n 0, 1) := dk_42 (dk_at dksX5_next_5 9 rfl rfl)
theorem dX5_next_124 : decode cX5_next 124 = .ok (.iload_n 1, 1) := dk_27 (dk_at dksX5_next_5 10 rfl rfl)
theorem dX5_next_125 : decode cX5_next 125 = .ok (.bipush 59, 2) := dk_16 59 (dk_at dksX5_next_5 11 rfl rfl)
theorem dX5_next_127 : decode cX5_next 127 = .ok (.if_icmp .eq 26, 3) := dk_159 0 26 (dk_at dksX5_next_5 13 rfl rfl)
theorem dX5_next_130 : decode cX5_next 130 = .ok (.iload_n 1, 1) := dk_27 (dk_at dksX5_next_5 16 rfl rfl)
theorem dX5_next_131 : decode cX5_next 131 = .ok (.bipush 40, 2) := dk_16 40 (dk_at dksX5_next_5 17 rfl rfl)
theorem dX5_next_133 : decode cX5_next 133 = .ok (.if_icmp .eq 20, 3) := dk_159 0 20 (dk_at dksX5_next_5 19 rfl rfl)
theorem dX5_next_136 : decode cX5_next 136 = .ok (.iload_n 1, 1) := dk_27 (dk_at dksX5_next_5 22 rfl rfl)
theorem dX5_next_137 : decode cX5_next 137 = .ok (.bipush 41, 2) := dk_16 41 (dk_at dksX5_next_6 0 rfl rfl)
theorem dX5_next_139 : decode cX5_next 139 = .ok (.if_icmp .eq 14, 3) := dk_159 0 14 (dk_at dksX5_next_6 2 rfl rfl)
theorem dX5_next_142 : decode cX5_next 142 = .ok (.iload_n 1, 1) := dk_27 (dk_at dksX5_next_6 5 rfl rfl)
theorem dX5_next_143 : decode cX5_next 143 = .ok (.bipush 60, 2) := dk_16 60 (dk_at dksX5_next_6 6 rfl rfl)
theorem dX5_next_145 : decode cX5_next 145 = .ok (.bipush 62, 2) := dk_16 62 (dk_at dksX5_next_6 8 rfl rfl)
theorem dX5_next_147 : decode cX5_next 147 = .ok (.invokestatic 32, 3) := dk_184 0 32 (dk_at dksX5_next_6 10 rfl rfl)
theorem dX5_next_150 : decode cX5_next 150 = .ok (.ifCond .eq 7, 3) := dk_153 0 7 (dk_at dksX5_next_6 13 rfl rfl)
theorem dX5_next_153 : decode cX5_next 153 = .ok (.iconst 3, 1) := dk_6 (dk_at dksX5_next_6 16 rfl rfl)
theorem dX5_next_154 : decode cX5_next 154 = .ok (.goto 4, 3) := dk_167 0 4 (dk_at dksX5_next_6 17 rfl rfl)
theorem dX5_next_157 : decode cX5_next 157 = .ok (.iconst 4, 1) := dk_7 (dk_at dksX5_next_6 20 rfl rfl)
theorem dX5_next_158 : decode cX5_next 158 = .ok (.putfield 43, 3) := dk_181 0 43 (dk_at dksX5_next_6 21 rfl rfl)
theorem dX5_next_161 : decode cX5_next 161 = .ok (.aload_n 0, 1) := dk_42 (dk_at dksX5_next_7 0 rfl rfl)
theorem dX5_next_162 : decode cX5_next 162 = .ok (.iload_n 1, 1) := dk_27 (dk_at dksX5_next_7 1 rfl rfl)
theorem dX5_next_163 : decode cX5_next 163 = .ok (.putfield 57, 3) := dk_181 0 57 (dk_at dksX5_next_7 2 rfl rfl)
theorem dX5_next_166 : decode cX5_next 166 = .ok (.aload_n 0, 1) := dk_42 (dk_at dksX5_next_7 5 rfl rfl)
theorem dX5_next_167 : decode cX5_next 167 = .ok (.dup, 1) := dk_89 (dk_at dksX5_next_7 6 rfl rfl)
theorem dX5_next_168 : decode cX5_next 168 = .ok (.getfield 19, 3) := dk_180 0 19 (dk_at dksX5_next_7 7 rfl rfl)
theorem dX5_next_171 : decode cX5_next 171 = .ok (.iconst 1, 1) := dk_4 (dk_at dksX5_next_7 10 rfl rfl)
theorem dX5_next_172 : decode cX5_next 172 = .ok (.iadd, 1) := dk_96 (dk_at dksX5_next_7 11 rfl rfl)
theorem dX5_next_173 : decode cX5_next 173 = .ok (.putfield 19, 3) := dk_181 0 19 (dk_at dksX5_next_7 12 rfl rfl)
theorem dX5_next_176 : decode cX5_next 176 = .ok (.return_, 1) := dk_177 (dk_at dksX5_next_7 15 rfl rfl)
abbrev cX5_peek : ByteArray := prog_13_method_3_code
def yX5_peek : MethodName := ⟨RX5, "peek", "()I"⟩
def dkwX5_peek_1 : List UInt8 := [180, 0, 19, 51, 17, 0, 255, 126, 167, 0, 4, 2, 172]
abbrev dktX5_peek_1 : List UInt8 := dkwX5_peek_1 ++ []
def dkwX5_peek_0 : List UInt8 := [42, 180, 0, 19, 42, 180, 0, 3, 180, 0, 25, 162, 0, 22, 42, 180, 0, 3, 180, 0, 28, 42]
abbrev dktX5_peek_0 : List UInt8 := dkwX5_peek_0 ++ dktX5_peek_1
theorem dksX5_peek_0 : cX5_peek.data.toList.drop 0 = dktX5_peek_0 := by decide +kernel
theorem dksX5_peek_1 : cX5_peek.data.toList.drop 22 = dktX5_peek_1 := dk_seg dksX5_peek_0 22 rfl rfl
theorem dX5_peek_0 : decode cX5_peek 0 = .ok (.aload_n 0, 1) := dk_42 (dk_at dksX5_peek_0 0 rfl rfl)
theorem dX5_peek_1 : decode cX5_peek 1 = .ok (.getfield 19, 3) := dk_180 0 19 (dk_at dksX5_peek_0 1 rfl rfl)
theorem dX5_peek_4 : decode cX5_peek 4 = .ok (.aload_n 0, 1) := dk_42 (dk_at dksX5_peek_0 4 rfl rfl)
theorem dX5_peek_5 : decode cX5_peek 5 = .ok (.getfield 3, 3) := dk_180 0 3 (dk_at dksX5_peek_0 5 rfl rfl)
theorem dX5_peek_8 : decode cX5_peek 8 = .ok (.getfield 25, 3) := dk_180 0 25 (dk_at dksX5_peek_0 8 rfl rfl)
theorem dX5_peek_11 : decode cX5_peek 11 = .ok (.if_icmp .ge 22, 3) := dk_162 0 22 (dk_at dksX5_peek_0 11 rfl rfl)
theorem dX5_peek_14 : decode cX5_peek 14 = .ok (.aload_n 0, 1) := dk_42 (dk_at dksX5_peek_0 14 rfl rfl)
theorem dX5_peek_15 : decode cX5_peek 15 = .ok (.getfield 3, 3) := dk_180 0 3 (dk_at dksX5_peek_0 15 rfl rfl)
theorem dX5_peek_18 : decode cX5_peek 18 = .ok (.getfield 28, 3) := dk_180 0 28 (dk_at dksX5_peek_0 18 rfl rfl)
theorem dX5_peek_21 : decode cX5_peek 21 = .ok (.aload_n 0, 1) := dk_42 (dk_at dksX5_peek_0 21 rfl rfl)
theorem dX5_peek_22 : decode cX5_peek 22 = .ok (.getfield 19, 3) := dk_180 0 19 (dk_at dksX5_peek_1 0 rfl rfl)
theorem dX5_peek_25 : decode cX5_peek 25 = .ok (.baload, 1) := dk_51 (dk_at dksX5_peek_1 3 rfl rfl)
theorem dX5_peek_26 : decode cX5_peek 26 = .ok (.sipush 255, 3) := dk_17 0 255 (dk_at dksX5_peek_1 4 rfl rfl)
theorem dX5_peek_29 : decode cX5_peek 29 = .ok (.iand, 1) := dk_126 (dk_at dksX5_peek_1 7 rfl rfl)
theorem dX5_peek_30 : decode cX5_peek 30 = .ok (.goto 4, 3) := dk_167 0 4 (dk_at dksX5_peek_1 8 rfl rfl)
theorem dX5_peek_33 : decode cX5_peek 33 = .ok (.iconst (-1), 1) := dk_2 (dk_at dksX5_peek_1 11 rfl rfl)
theorem dX5_peek_34 : decode cX5_peek 34 = .ok (.ireturn, 1) := dk_172 (dk_at dksX5_peek_1 12 rfl rfl)
abbrev cX5_isLetter : ByteArray := prog_13_method_4_code
def yX5_isLetter : MethodName := ⟨RX5, "isLetter", "(I)Z"⟩
def dkwX5_isLetter_0 : List UInt8 := [27, 16, 97, 16, 122, 184, 0, 32, 172]
abbrev dktX5_isLetter_0 : List UInt8 := dkwX5_isLetter_0 ++ []
theorem dksX5_isLetter_0 : cX5_isLetter.data.toList.drop 0 = dktX5_isLetter_0 := by decide +kernel
theorem dX5_isLetter_0 : decode cX5_isLetter 0 = .ok (.iload_n 1, 1) := dk_27 (dk_at dksX5_isLetter_0 0 rfl rfl)
theorem dX5_isLetter_1 : decode cX5_isLetter 1 = .ok (.bipush 97, 2) := dk_16 97 (dk_at dksX5_isLetter_0 1 rfl rfl)
theorem dX5_isLetter_3 : decode cX5_isLetter 3 = .ok (.bipush 122, 2) := dk_16 122 (dk_at dksX5_isLetter_0 3 rfl rfl)
theorem dX5_isLetter_5 : decode cX5_isLetter 5 = .ok (.invokestatic 32, 3) := dk_184 0 32 (dk_at dksX5_isLetter_0 5 rfl rfl)
theorem dX5_isLetter_8 : decode cX5_isLetter 8 = .ok (.ireturn, 1) := dk_172 (dk_at dksX5_isLetter_0 8 rfl rfl)
abbrev cX5_isDigit : ByteArray := prog_13_method_5_code
def yX5_isDigit : MethodName := ⟨RX5, "isDigit", "(I)Z"⟩
def dkwX5_isDigit_0 : List UInt8 := [27, 16, 48, 16, 57, 184, 0, 32, 172]
abbrev dktX5_isDigit_0 : List UInt8 := dkwX5_isDigit_0 ++ []
theorem dksX5_isDigit_0 : cX5_isDigit.data.toList.drop 0 = dktX5_isDigit_0 := by decide +kernel
theorem dX5_isDigit_0 : decode cX5_isDigit 0 = .ok (.iload_n 1, 1) := dk_27 (dk_at dksX5_isDigit_0 0 rfl rfl)
theorem dX5_isDigit_1 : decode cX5_isDigit 1 = .ok (.bipush 48, 2) := dk_16 48 (dk_at dksX5_isDigit_0 1 rfl rfl)
theorem dX5_isDigit_3 : decode cX5_isDigit 3 = .ok (.bipush 57, 2) := dk_16 57 (dk_at dksX5_isDigit_0 3 rfl rfl)
theorem dX5_isDigit_5 : decode cX5_isDigit 5 = .ok (.invokestatic 32, 3) := dk_184 0 32 (dk_at dksX5_isDigit_0 5 rfl rfl)
theorem dX5_isDigit_8 : decode cX5_isDigit 8 = .ok (.ireturn, 1) := dk_172 (dk_at dksX5_isDigit_0 8 rfl rfl)
abbrev cX5_run : ByteArray := prog_13_method_7_code
def yX5_run : MethodName := ⟨RX5, "run", "(Z)V"⟩
def dkwX5_run_7 : List UInt8 := [164, 0, 7, 7, 167, 0, 12, 27, 153, 0, 7, 4, 167, 0, 4, 5, 181, 0, 43, 177]
abbrev dktX5_run_7 : List UInt8 := dkwX5_run_7 ++ []
def dkwX5_run_6 : List UInt8 := [181, 0, 64, 42, 28, 153, 0, 20, 42, 180, 0, 64, 27, 153, 0, 8, 16, 6, 167, 0, 4, 7]
abbrev dktX5_run_6 : List UInt8 := dkwX5_run_6 ++ dktX5_run_7
def dkwX5_run_5 : List UInt8 := [42, 89, 180, 0, 19, 4, 96, 181, 0, 19, 167, 255, 139, 42, 42, 180, 0, 19, 42, 180, 0, 40, 100]
abbrev dktX5_run_5 : List UInt8 := dkwX5_run_5 ++ dktX5_run_6
def dkwX5_run_4 : List UInt8 := [100, 7, 162, 0, 22, 42, 16, 10, 42, 180, 0, 57, 104, 42, 182, 0, 36, 96, 16, 48, 100, 181, 0, 57]
abbrev dktX5_run_4 : List UInt8 := dkwX5_run_4 ++ dktX5_run_5
def dkwX5_run_3 : List UInt8 := [42, 180, 0, 60, 16, 8, 121, 42, 182, 0, 36, 133, 129, 181, 0, 60, 42, 180, 0, 19, 42, 180, 0, 40]
abbrev dktX5_run_3 : List UInt8 := dkwX5_run_3 ++ dktX5_run_4
def dkwX5_run_2 : List UInt8 := [160, 0, 7, 4, 167, 0, 4, 3, 61, 42, 180, 0, 19, 42, 180, 0, 40, 100, 16, 6, 162, 0, 20, 42]
abbrev dktX5_run_2 : List UInt8 := dkwX5_run_2 ++ dktX5_run_3
def dkwX5_run_1 : List UInt8 := [42, 182, 0, 36, 182, 0, 50, 153, 0, 101, 28, 153, 0, 19, 42, 42, 182, 0, 36, 182, 0, 46, 27]
abbrev dktX5_run_1 : List UInt8 := dkwX5_run_1 ++ dktX5_run_2
def dkwX5_run_0 : List UInt8 := [4, 61, 42, 3, 181, 0, 57, 42, 9, 181, 0, 60, 42, 42, 182, 0, 36, 182, 0, 46, 154, 0, 14, 42]
abbrev dktX5_run_0 : List UInt8 := dkwX5_run_0 ++ dktX5_run_1
theorem dksX5_run_0 : cX5_run.data.toList.drop 0 = dktX5_run_0 := by decide +kernel
theorem dksX5_run_1 : cX5_run.data.toList.drop 24 = dktX5_run_1 := dk_seg dksX5_run_0 24 rfl rfl
theorem dksX5_run_2 : cX5_run.data.toList.drop 47 = dktX5_run_2 := dk_seg dksX5_run_1 23 rfl rfl
theorem dksX5_run_3 : cX5_run.data.toList.drop 71 = dktX5_run_3 := dk_seg dksX5_run_2 24 rfl rfl
theorem dksX5_run_4 : cX5_run.data.toList.drop 95 = dktX5_run_4 := dk_seg dksX5_run_3 24 rfl rfl
theorem dksX5_run_5 : cX5_run.data.toList.drop 119 = dktX5_run_5 := dk_seg dksX5_run_4 24 rfl rfl
theorem dksX5_run_6 : cX5_run.data.toList.drop 142 = dktX5_run_6 := dk_seg dksX5_run_5 23 rfl rfl
theorem dksX5_run_7 : cX5_run.data.toList.drop 164 = dktX5_run_7 := dk_seg dksX5_run_6 22 rfl rfl
theorem dX5_run_0 : decode cX5_run 0 = .ok (.iconst 1, 1) := dk_4 (dk_at dksX5_run_0 0 rfl rfl)
theorem dX5_run_1 : decode cX5_run 1 = .ok (.istore_n 2, 1) := dk_61 (dk_at dksX5_run_0 1 rfl rfl)
theorem dX5_run_2 : decode cX5_run 2 = .ok (.aload_n 0, 1) := dk_42 (dk_at dksX5_run_0 2 rfl rfl)
theorem dX5_run_3 : decode cX5_run 3 = .ok (.iconst 0, 1) := dk_3 (dk_at dksX5_run_0 3 rfl rfl)
theorem dX5_run_4 : decode cX5_run 4 = .ok (.putfield 57, 3) := dk_181 0 57 (dk_at dksX5_run_0 4 rfl rfl)
theorem dX5_run_7 : decode cX5_run 7 = .ok (.aload_n 0, 1) := dk_42 (dk_at dksX5_run_0 7 rfl rfl)
theorem dX5_run_8 : decode cX5_run 8 = .ok (.lconst 0, 1) := dk_9 (dk_at dksX5_run_0 8 rfl rfl)
theorem dX5_run_9 : decode cX5_run 9 = .ok (.putfield 60, 3) := dk_181 0 60 (dk_at dksX5_run_0 9 rfl rfl)
theorem dX5_run_12 : decode cX5_run 12 = .ok (.aload_n 0, 1) := dk_42 (dk_at dksX5_run_0 12 rfl rfl)
theorem dX5_run_13 : decode cX5_run 13 = .ok (.aload_n 0, 1) := dk_42 (dk_at dksX5_run_0 13 rfl rfl)
theorem dX5_run_14 : decode cX5_run 14 = .ok (.invokevirtual 36, 3) := dk_182 0 36 (dk_at dksX5_run_0 14 rfl rfl)
theorem dX5_run_17 : decode cX5_run 17 = .ok (.invokevirtual 46, 3) := dk_182 0 46 (dk_at dksX5_run_0 17 rfl rfl)
theorem dX5_run_20 : decode cX5_run 20 = .ok (.ifCond .ne 14, 3) := dk_154 0 14 (dk_at dksX5_run_0 20 rfl rfl)
theorem dX5_run_23 : decode cX5_run 23 = .ok (.aload_n 0, 1) := dk_42 (dk_at dksX5_run_0 23 rfl rfl)
theorem dX5_run_24 : decode cX5_run 24 = .ok (.aload_n 0, 1) := dk_42 (dk_at dksX5_run_1 0 rfl rfl)
theorem dX5_run_25 : decode cX5_run 25 = .ok (.invokevirtual 36, 3) := dk_182 0 36 (dk_at dksX5_run_1 1 rfl rfl)
theorem dX5_run_28 : decode cX5_run 28 = .ok (.invokevirtual 50, 3) := dk_182 0 50 (dk_at dksX5_run_1 4 rfl rfl)
theorem dX5_run_31 : decode cX5_run 31 = .ok (.ifCond .eq 101, 3) := dk_153 0 101 (dk_at dksX5_run_1 7 rfl rfl)
theorem dX5_run_34 : decode cX5_run 34 = .ok (.iload_n 2, 1) := dk_28 (dk_at dksX5_run_1 10 rfl rfl)
theorem dX5_run_35 : decode cX5_run 35 = .ok (.ifCond .eq 19, 3) := dk_153 0 19 (dk_at dksX5_run_1 11 rfl rfl)
theorem dX5_run_38 : decode cX5_run 38 = .ok (.aload_n 0, 1) := dk_42 (dk_at dksX5_run_1 14 rfl rfl)
theorem dX5_run_39 : decode cX5_run 39 = .ok (.aload_n 0, 1) := dk_42 (dk_at dksX5_run_1 15 rfl rfl)
theorem dX5_run_40 : decode cX5_run 40 = .ok (.invokevirtual 36, 3) := dk_182 0 36 (dk_at dksX5_run_1 16 rfl rfl)
theorem dX5_run_43 : decode cX5_run 43 = .ok (.invokevirtual 46, 3) := dk_182 0 46 (dk_at dksX5_run_1 19 rfl rfl)
theorem dX5_run_46 : decode cX5_run 46 = .ok (.iload_n 1, 1) := dk_27 (dk_at dksX5_run_1 22 rfl rfl)
theorem dX5_run_47 : decode cX5_run 47 = .ok (.if_icmp .ne 7, 3) := dk_160 0 7 (dk_at dksX5_run_2 0 rfl rfl)
theorem dX5_run_50 : decode cX5_run 50 = .ok (.iconst 1, 1) := dk_4 (dk_at dksX5_run_2 3 rfl rfl)
theorem dX5_run_51 : decode cX5_run 51 = .ok (.goto 4, 3) := dk_167 0 4 (dk_at dksX5_run_2 4 rfl rfl)
theorem dX5_run_54 : decode cX5_run 54 = .ok (.iconst 0, 1) := dk_3 (dk_at dksX5_run_2 7 rfl rfl)
theorem dX5_run_55 : decode cX5_run 55 = .ok (.istore_n 2, 1) := dk_61 (dk_at dksX5_run_2 8 rfl rfl)
theorem dX5_run_56 : decode cX5_run 56 = .ok (.aload_n 0, 1) := dk_42 (dk_at dksX5_run_2 9 rfl rfl)
theorem dX5_run_57 : decode cX5_run 57 = .ok (.getfield 19, 3) := dk_180 0 19 (dk_at dksX5_run_2 10 rfl rfl)
theorem dX5_run_60 : decode cX5_run 60 = .ok (.aload_n 0, 1) := dk_42 (dk_at dksX5_run_2 13 rfl rfl)
theorem dX5_run_61 : decode cX5_run 61 = .ok (.getfield 40, 3) := dk_180 0 40 (dk_at dksX5_run_2 14 rfl rfl)
theorem dX5_run_64 : decode cX5_run 64 = .ok (.isub, 1) := dk_100 (dk_at dksX5_run_2 17 rfl rfl)
theorem dX5_run_65 : decode cX5_run 65 = .ok (.bipush 6, 2) := dk_16 6 (dk_at dksX5_run_2 18 rfl rfl)
theorem dX5_run_67 : decode cX5_run 67 = .ok (.if_icmp .ge 20, 3) := dk_162 0 20 (dk_at dksX5_run_2 20 rfl rfl)
theorem dX5_run_70 : decode cX5_run 70 = .ok (.aload_n 0, 1) := dk_42 (dk_at dksX5_run_2 23 rfl rfl)
theorem dX5_run_71 : decode cX5_run 71 = .ok (.aload_n 0, 1) := dk_42 (dk_at dksX5_run_3 0 rfl rfl)
theorem dX5_run_72 : decode cX5_run 72 = .ok (.getfield 60, 3) := dk_180 0 60 (dk_at dksX5_run_3 1 rfl rfl)
theorem dX5_run_75 : decode cX5_run 75 = .ok (.bipush 8, 2) := dk_16 8 (dk_at dksX5_run_3 4 rfl rfl)
theorem dX5_run_77 : decode cX5_run 77 = .ok (.lshl, 1) := dk_121 (dk_at dksX5_run_3 6 rfl rfl)
theorem dX5_run_78 : decode cX5_run 78 = .ok (.aload_n 0, 1) := dk_42 (dk_at dksX5_run_3 7 rfl rfl)
theorem dX5_run_79 : decode cX5_run 79 = .ok (.invokevirtual 36, 3) := dk_182 0 36 (dk_at dksX5_run_3 8 rfl rfl)
theorem dX5_run_82 : decode cX5_run 82 = .ok (.i2l, 1) := dk_133 (dk_at dksX5_run_3 11 rfl rfl)
theorem dX5_run_83 : decode cX5_run 83 = .ok (.lor, 1) := dk_129 (dk_at dksX5_run_3 12 rfl rfl)
theorem dX5_run_84 : decode cX5_run 84 = .ok (.putfield 60, 3) := dk_181 0 60 (dk_at dksX5_run_3 13 rfl rfl)
theorem dX5_run_87 : decode cX5_run 87 = .ok (.aload_n 0, 1) := dk_42 (dk_at dksX5_run_3 16 rfl rfl)
theorem dX5_run_88 : decode cX5_run 88 = .ok (.getfield 19, 3) := dk_180 0 19 (dk_at dksX5_run_3 17 rfl rfl)
theorem dX5_run_91 : decode cX5_run 91 = .ok (.aload_n 0, 1) := dk_42 (dk_at dksX5_run_3 20 rfl rfl)
theorem dX5_run_92 : decode cX5_run 92 = .ok (.getfield 40, 3) := dk_180 0 40 (dk_at dksX5_run_3 21 rfl rfl)
theorem dX5_run_95 : decode cX5_run 95 = .ok (.isub, 1) := dk_100 (dk_at dksX5_run_4 0 rfl rfl)
theorem dX5_run_96 : decode cX5_run 96 = .ok (.iconst 4, 1) := dk_7 (dk_at dksX5_run_4 1 rfl rfl)
theorem dX5_run_97 : decode cX5_run 97 = .ok (.if_icmp .ge 22, 3) := dk_162 0 22 (dk_at dksX5_run_4 2 rfl rfl)
theorem dX5_run_100 : decode cX5_run 100 = .ok (.aload_n 0, 1) := dk_42 (dk_at dksX5_run_4 5 rfl rfl)
theorem dX5_run_101 : decode cX5_run 101 = .ok (.bipush 10, 2) := dk_16 10 (dk_at dksX5_run_4 6 rfl rfl)
theorem dX5_run_103 : decode cX5_run 103 = .ok (.aload_n 0, 1) := dk_42 (dk_at dksX5_run_4 8 rfl rfl)
theorem dX5_run_104 : decode cX5_run 104 = .ok (.getfield 57, 3) := dk_180 0 57 (dk_at dksX5_run_4 9 rfl rfl)
theorem dX5_run_107 : decode cX5_run 107 = .ok (.imul, 1) := dk_104 (dk_at dksX5_run_4 12 rfl rfl)
theorem dX5_run_108 : decode cX5_run 108 = .ok (.aload_n 0, 1) := dk_42 (dk_at dksX5_run_4 13 rfl rfl)
theorem dX5_run_109 : decode cX5_run 109 = .ok (.invokevirtual 36, 3) := dk_182 0 36 (dk_at dksX5_run_4 14 rfl rfl)
theorem dX5_run_112 : decode cX5_run 112 = .ok (.iadd, 1) := dk_96 (dk_at dksX5_run_4 17 rfl rfl)
theorem dX5_run_113 : decode cX5_run 113 = .ok (.bipush 48, 2) := dk_16 48 (dk_at dksX5_run_4 18 rfl rfl)
theorem dX5_run_115 : decode cX5_run 115 = .ok (.isub, 1) := dk_100 (dk_at dksX5_run_4 20 rfl rfl)
theorem dX5_run_116 : decode cX5_run 116 = .ok (.putfield 57, 3) := dk_181 0 57 (dk_at dksX5_run_4 21 rfl rfl)
theorem dX5_run_119 : decode cX5_run 119 = .ok (.aload_n 0, 1) := dk_42 (dk_at dksX5_run_5 0 rfl rfl)
theorem dX5_run_120 : decode cX5_run 120 = .ok (.dup, 1) := dk_89 (dk_at dksX5_run_5 1 rfl rfl)
theorem dX5_run_121 : decode cX5_run 121 = .ok (.getfield 19, 3) := dk_180 0 19 (dk_at dksX5_run_5 2 rfl rfl)
theorem dX5_run_124 : decode cX5_run 124 = .ok (.iconst 1, 1) := dk_4 (dk_at dksX5_run_5 5 rfl rfl)
theorem dX5_run_125 : decode cX5_run 125 = .ok (.iadd, 1) := dk_96 (dk_at dksX5_run_5 6 rfl rfl)
theorem dX5_run_126 : decode cX5_run 126 = .ok (.putfield 19, 3) := dk_181 0 19 (dk_at dksX5_run_5 7 rfl rfl)
theorem dX5_run_129 : decode cX5_run 129 = .ok (.goto (-117), 3) := dk_167 255 139 (dk_at dksX5_run_5 10 rfl rfl)
theorem dX5_run_132 : decode cX5_run 132 = .ok (.aload_n 0, 1) := dk_42 (dk_at dksX5_run_5 13 rfl rfl)
theorem dX5_run_133 : decode cX5_run 133 = .ok (.aload_n 0, 1) := dk_42 (dk_at dksX5_run_5 14 rfl rfl)
theorem dX5_run_134 : decode cX5_run 134 = .ok (.getfield 19, 3) := dk_180 0 19 (dk_at dksX5_run_5 15 rfl rfl)
theorem dX5_run_137 : decode cX5_run 137 = .ok (.aload_n 0, 1) := dk_42 (dk_at dksX5_run_5 18 rfl rfl)
theorem dX5_run_138 : decode cX5_run 138 = .ok (.getfield 40, 3) := dk_180 0 40 (dk_at dksX5_run_5 19 rfl rfl)
theorem dX5_run_141 : decode cX5_run 141 = .ok (.isub, 1) := dk_100 (dk_at dksX5_run_5 22 rfl rfl)
theorem dX5_run_142 : decode cX5_run 142 = .ok (.putfield 64, 3) := dk_181 0 64 (dk_at dksX5_run_6 0 rfl rfl)
theorem dX5_run_145 : decode cX5_run 145 = .ok (.aload_n 0, 1) := dk_42 (dk_at dksX5_run_6 3 rfl rfl)
theorem dX5_run_146 : decode cX5_run 146 = .ok (.iload_n 2, 1) := dk_28 (dk_at dksX5_run_6 4 rfl rfl)
theorem dX5_run_147 : decode cX5_run 147 = .ok (.ifCond .eq 20, 3) := dk_153 0 20 (dk_at dksX5_run_6 5 rfl rfl)
theorem dX5_run_150 : decode cX5_run 150 = .ok (.aload_n 0, 1) := dk_42 (dk_at dksX5_run_6 8 rfl rfl)
theorem dX5_run_151 : decode cX5_run 151 = .ok (.getfield 64, 3) := dk_180 0 64 (dk_at dksX5_run_6 9 rfl rfl)
theorem dX5_run_154 : decode cX5_run 154 = .ok (.iload_n 1, 1) := dk_27 (dk_at dksX5_run_6 12 rfl rfl)
theorem dX5_run_155 : decode cX5_run 155 = .ok (.ifCond .eq 8, 3) := dk_153 0 8 (dk_at dksX5_run_6 13 rfl rfl)
theorem dX5_run_158 : decode cX5_run 158 = .ok (.bipush 6, 2) := dk_16 6 (dk_at dksX5_run_6 16 rfl rfl)
theorem dX5_run_160 : decode cX5_run 160 = .ok (.goto 4, 3) := dk_167 0 4 (dk_at dksX5_run_6 18 rfl rfl)
theorem dX5_run_163 : decode cX5_run 163 = .ok (.iconst 4, 1) := dk_7 (dk_at dksX5_run_6 21 rfl rfl)
theorem dX5_run_164 : decode cX5_run 164 = .ok (.if_icmp .le 7, 3) := dk_164 0 7 (dk_at dksX5_run_7 0 rfl rfl)
theorem dX5_run_167 : decode cX5_run 167 = .ok (.iconst 4, 1) := dk_7 (dk_at dksX5_run_7 3 rfl rfl)
theorem dX5_run_168 : decode cX5_run 168 = .ok (.goto 12, 3) := dk_167 0 12 (dk_at dksX5_run_7 4 rfl rfl)
theorem dX5_run_171 : decode cX5_run 171 = .ok (.iload_n 1, 1) := dk_27 (dk_at dksX5_run_7 7 rfl rfl)
theorem dX5_run_172 : decode cX5_run 172 = .ok (.ifCond .eq 7, 3) := dk_153 0 7 (dk_at dksX5_run_7 8 rfl rfl)
theorem dX5_run_175 : decode cX5_run 175 = .ok (.iconst 1, 1) := dk_4 (dk_at dksX5_run_7 11 rfl rfl)
theorem dX5_run_176 : decode cX5_run 176 = .ok (.goto 4, 3) := dk_167 0 4 (dk_at dksX5_run_7 12 rfl rfl)
theorem dX5_run_179 : decode cX5_run 179 = .ok (.iconst 2, 1) := dk_5 (dk_at dksX5_run_7 15 rfl rfl)
theorem dX5_run_180 : decode cX5_run 180 = .ok (.putfield 43, 3) := dk_181 0 43 (dk_at dksX5_run_7 16 rfl rfl)
theorem dX5_run_183 : decode cX5_run 183 = .ok (.return_, 1) := dk_177 (dk_at dksX5_run_7 19 rfl rfl)
abbrev cX5_find : ByteArray := prog_13_method_10_code
def yX5_find : MethodName := ⟨RX5, "find", "([Ljava/lang/String;)I"⟩
def dkwX5_find_1 : List UInt8 := [167, 255, 235, 2, 172]
abbrev dktX5_find_1 : List UInt8 := dkwX5_find_1 ++ []
def dkwX5_find_0 : List UInt8 := [3, 61, 28, 43, 190, 162, 0, 21, 42, 43, 28, 50, 182, 0, 76, 153, 0, 5, 28, 172, 132, 2, 1]
abbrev dktX5_find_0 : List UInt8 := dkwX5_find_0 ++ dktX5_find_1
theorem dksX5_find_0 : cX5_find.data.toList.drop 0 = dktX5_find_0 := by decide +kernel
theorem dksX5_find_1 : cX5_find.data.toList.drop 23 = dktX5_find_1 := dk_seg dksX5_find_0 23 rfl rfl
theorem dX5_find_0 : decode cX5_find 0 = .ok (.iconst 0, 1) := dk_3 (dk_at dksX5_find_0 0 rfl rfl)
theorem dX5_find_1 : decode cX5_find 1 = .ok (.istore_n 2, 1) := dk_61 (dk_at dksX5_find_0 1 rfl rfl)
theorem dX5_find_2 : decode cX5_find 2 = .ok (.iload_n 2, 1) := dk_28 (dk_at dksX5_find_0 2 rfl rfl)
theorem dX5_find_3 : decode cX5_find 3 = .ok (.aload_n 1, 1) := dk_43 (dk_at dksX5_find_0 3 rfl rfl)
theorem dX5_find_4 : decode cX5_find 4 = .ok (.arraylength, 1) := dk_190 (dk_at dksX5_find_0 4 rfl rfl)
theorem dX5_find_5 : decode cX5_find 5 = .ok (.if_icmp .ge 21, 3) := dk_162 0 21 (dk_at dksX5_find_0 5 rfl rfl)
theorem dX5_find_8 : decode cX5_find 8 = .ok (.aload_n 0, 1) := dk_42 (dk_at dksX5_find_0 8 rfl rfl)
theorem dX5_find_9 : decode cX5_find 9 = .ok (.aload_n 1, 1) := dk_43 (dk_at dksX5_find_0 9 rfl rfl)
theorem dX5_find_10 : decode cX5_find 10 = .ok (.iload_n 2, 1) := dk_28 (dk_at dksX5_find_0 10 rfl rfl)
theorem dX5_find_11 : decode cX5_find 11 = .ok (.aaload, 1) := dk_50 (dk_at dksX5_find_0 11 rfl rfl)
theorem dX5_find_12 : decode cX5_find 12 = .ok (.invokevirtual 76, 3) := dk_182 0 76 (dk_at dksX5_find_0 12 rfl rfl)
theorem dX5_find_15 : decode cX5_find 15 = .ok (.ifCond .eq 5, 3) := dk_153 0 5 (dk_at dksX5_find_0 15 rfl rfl)
theorem dX5_find_18 : decode cX5_find 18 = .ok (.iload_n 2, 1) := dk_28 (dk_at dksX5_find_0 18 rfl rfl)
theorem dX5_find_19 : decode cX5_find 19 = .ok (.ireturn, 1) := dk_172 (dk_at dksX5_find_0 19 rfl rfl)
theorem dX5_find_20 : decode cX5_find 20 = .ok (.iinc 2 1, 3) := dk_132 2 1 (dk_at dksX5_find_0 20 rfl rfl)
theorem dX5_find_23 : decode cX5_find 23 = .ok (.goto (-21), 3) := dk_167 255 235 (dk_at dksX5_find_1 0 rfl rfl)
theorem dX5_find_26 : decode cX5_find 26 = .ok (.iconst (-1), 1) := dk_2 (dk_at dksX5_find_1 3 rfl rfl)
theorem dX5_find_27 : decode cX5_find 27 = .ok (.ireturn, 1) := dk_172 (dk_at dksX5_find_1 4 rfl rfl)
abbrev cX5_is : ByteArray := prog_13_method_8_code
def yX5_is : MethodName := ⟨RX5, "is", "(Ljava/lang/String;)Z"⟩
def dkwX5_is_2 : List UInt8 := [182, 0, 72, 159, 0, 5, 3, 172, 132, 2, 1, 167, 255, 221, 4, 172]
abbrev dktX5_is_2 : List UInt8 := dkwX5_is_2 ++ []
def dkwX5_is_1 : List UInt8 := [42, 180, 0, 64, 162, 0, 33, 42, 180, 0, 3, 180, 0, 28, 42, 180, 0, 40, 28, 96, 51, 43, 28]
abbrev dktX5_is_1 : List UInt8 := dkwX5_is_1 ++ dktX5_is_2
def dkwX5_is_0 : List UInt8 := [42, 180, 0, 43, 4, 160, 0, 14, 42, 180, 0, 64, 43, 182, 0, 67, 159, 0, 5, 3, 172, 3, 61, 28]
abbrev dktX5_is_0 : List UInt8 := dkwX5_is_0 ++ dktX5_is_1
theorem dksX5_is_0 : cX5_is.data.toList.drop 0 = dktX5_is_0 := by decide +kernel
theorem dksX5_is_1 : cX5_is.data.toList.drop 24 = dktX5_is_1 := dk_seg dksX5_is_0 24 rfl rfl
theorem dksX5_is_2 : cX5_is.data.toList.drop 47 = dktX5_is_2 := dk_seg dksX5_is_1 23 rfl rfl
theorem dX5_is_0 : decode cX5_is 0 = .ok (.aload_n 0, 1) := dk_42 (dk_at dksX5_is_0 0 rfl rfl)
theorem dX5_is_1 : decode cX5_is 1 = .ok (.getfield 43, 3) := dk_180 0 43 (dk_at dksX5_is_0 1 rfl rfl)
theorem dX5_is_4 : decode cX5_is 4 = .ok (.iconst 1, 1) := dk_4 (dk_at dksX5_is_0 4 rfl rfl)
theorem dX5_is_5 : decode cX5_is 5 = .ok (.if_icmp .ne 14, 3) := dk_160 0 14 (dk_at dksX5_is_0 5 rfl rfl)
theorem dX5_is_8 : decode cX5_is 8 = .ok (.aload_n 0, 1) := dk_42 (dk_at dksX5_is_0 8 rfl rfl)
theorem dX5_is_9 : decode cX5_is 9 = .ok (.getfield 64, 3) := dk_180 0 64 (dk_at dksX5_is_0 9 rfl rfl)
theorem dX5_is_12 : decode cX5_is 12 = .ok (.aload_n 1, 1) := dk_43 (dk_at dksX5_is_0 12 rfl rfl)
theorem dX5_is_13 : decode cX5_is 13 = .ok (.invokevirtual 67, 3) := dk_182 0 67 (dk_at dksX5_is_0 13 rfl rfl)
theorem dX5_is_16 : decode cX5_is 16 = .ok (.if_icmp .eq 5, 3) := dk_159 0 5 (dk_at dksX5_is_0 16 rfl rfl)
theorem dX5_is_19 : decode cX5_is 19 = .ok (.iconst 0, 1) := dk_3 (dk_at dksX5_is_0 19 rfl rfl)
theorem dX5_is_20 : decode cX5_is 20 = .ok (.ireturn, 1) := dk_172 (dk_at dksX5_is_0 20 rfl rfl)
theorem dX5_is_21 : decode cX5_is 21 = .ok (.iconst 0, 1) := dk_3 (dk_at dksX5_is_0 21 rfl rfl)
theorem dX5_is_22 : decode cX5_is 22 = .ok (.istore_n 2, 1) := dk_61 (dk_at dksX5_is_0 22 rfl rfl)
theorem dX5_is_23 : decode cX5_is 23 = .ok (.iload_n 2, 1) := dk_28 (dk_at dksX5_is_0 23 rfl rfl)
theorem dX5_is_24 : decode cX5_is 24 = .ok (.aload_n 0, 1) := dk_42 (dk_at dksX5_is_1 0 rfl rfl)
theorem dX5_is_25 : decode cX5_is 25 = .ok (.getfield 64, 3) := dk_180 0 64 (dk_at dksX5_is_1 1 rfl rfl)
theorem dX5_is_28 : decode cX5_is 28 = .ok (.if_icmp .ge 33, 3) := dk_162 0 33 (dk_at dksX5_is_1 4 rfl rfl)
theorem dX5_is_31 : decode cX5_is 31 = .ok (.aload_n 0, 1) := dk_42 (dk_at dksX5_is_1 7 rfl rfl)
theorem dX5_is_32 : decode cX5_is 32 = .ok (.getfield 3, 3) := dk_180 0 3 (dk_at dksX5_is_1 8 rfl rfl)
theorem dX5_is_35 : decode cX5_is 35 = .ok (.getfield 28, 3) := dk_180 0 28 (dk_at dksX5_is_1 11 rfl rfl)
theorem dX5_is_38 : decode cX5_is 38 = .ok (.aload_n 0, 1) := dk_42 (dk_at dksX5_is_1 14 rfl rfl)
theorem dX5_is_39 : decode cX5_is 39 = .ok (.getfield 40, 3) := dk_180 0 40 (dk_at dksX5_is_1 15 rfl rfl)
theorem dX5_is_42 : decode cX5_is 42 = .ok (.iload_n 2, 1) := dk_28 (dk_at dksX5_is_1 18 rfl rfl)
theorem dX5_is_43 : decode cX5_is 43 = .ok (.iadd, 1) := dk_96 (dk_at dksX5_is_1 19 rfl rfl)
theorem dX5_is_44 : decode cX5_is 44 = .ok (.baload, 1) := dk_51 (dk_at dksX5_is_1 20 rfl rfl)
theorem dX5_is_45 : decode cX5_is 45 = .ok (.aload_n 1, 1) := dk_43 (dk_at dksX5_is_1 21 rfl rfl)
theorem dX5_is_46 : decode cX5_is 46 = .ok (.iload_n 2, 1) := dk_28 (dk_at dksX5_is_1 22 rfl rfl)
theorem dX5_is_47 : decode cX5_is 47 = .ok (.invokevirtual 72, 3) := dk_182 0 72 (dk_at dksX5_is_2 0 rfl rfl)
theorem dX5_is_50 : decode cX5_is 50 = .ok (.if_icmp .eq 5, 3) := dk_159 0 5 (dk_at dksX5_is_2 3 rfl rfl)
theorem dX5_is_53 : decode cX5_is 53 = .ok (.iconst 0, 1) := dk_3 (dk_at dksX5_is_2 6 rfl rfl)
theorem dX5_is_54 : decode cX5_is 54 = .ok (.ireturn, 1) := dk_172 (dk_at dksX5_is_2 7 rfl rfl)
theorem dX5_is_55 : decode cX5_is 55 = .ok (.iinc 2 1, 3) := dk_132 2 1 (dk_at dksX5_is_2 8 rfl rfl)
theorem dX5_is_58 : decode cX5_is 58 = .ok (.goto (-35), 3) := dk_167 255 221 (dk_at dksX5_is_2 11 rfl rfl)
theorem dX5_is_61 : decode cX5_is 61 = .ok (.iconst 1, 1) := dk_4 (dk_at dksX5_is_2 14 rfl rfl)
theorem dX5_is_62 : decode cX5_is 62 = .ok (.ireturn, 1) := dk_172 (dk_at dksX5_is_2 15 rfl rfl)
abbrev cX5_must : ByteArray := prog_13_method_13_code
def yX5_must : MethodName := ⟨RX5, "must", "(ZI)V"⟩
def dkwX5_must_0 : List UInt8 := [27, 154, 0, 9, 42, 28, 182, 0, 103, 191, 177]
abbrev dktX5_must_0 : List UInt8 := dkwX5_must_0 ++ []
theorem dksX5_must_0 : cX5_must.data.toList.drop 0 = dktX5_must_0 := by decide +kernel
theorem dX5_must_0 : decode cX5_must 0 = .ok (.iload_n 1, 1) := dk_27 (dk_at dksX5_must_0 0 rfl rfl)
theorem dX5_must_1 : decode cX5_must 1 = .ok (.ifCond .ne 9, 3) := dk_154 0 9 (dk_at dksX5_must_0 1 rfl rfl)
theorem dX5_must_4 : decode cX5_must 4 = .ok (.aload_n 0, 1) := dk_42 (dk_at dksX5_must_0 4 rfl rfl)
theorem dX5_must_5 : decode cX5_must 5 = .ok (.iload_n 2, 1) := dk_28 (dk_at dksX5_must_0 5 rfl rfl)
theorem dX5_must_6 : decode cX5_must 6 = .ok (.invokevirtual 103, 3) := dk_182 0 103 (dk_at dksX5_must_0 6 rfl rfl)
theorem dX5_must_9 : decode cX5_must 9 = .ok (.athrow, 1) := dk_191 (dk_at dksX5_must_0 9 rfl rfl)
theorem dX5_must_10 : decode cX5_must 10 = .ok (.return_, 1) := dk_177 (dk_at dksX5_must_0 10 rfl rfl)
abbrev cX5_wrong : ByteArray := prog_13_method_12_code
def yX5_wrong : MethodName := ⟨RX5, "wrong", "(I)LFaceCoins$Fault;"⟩
def dkwX5_wrong_1 : List UInt8 := [181, 0, 100, 42, 180, 0, 3, 180, 0, 91, 176]
abbrev dktX5_wrong_1 : List UInt8 := dkwX5_wrong_1 ++ []
def dkwX5_wrong_0 : List UInt8 := [42, 180, 0, 3, 180, 0, 91, 27, 181, 0, 95, 42, 180, 0, 3, 180, 0, 91, 42, 180, 0, 40]
abbrev dktX5_wrong_0 : List UInt8 := dkwX5_wrong_0 ++ dktX5_wrong_1
theorem dksX5_wrong_0 : cX5_wrong.data.toList.drop 0 = dktX5_wrong_0 := by decide +kernel
theorem dksX5_wrong_1 : cX5_wrong.data.toList.drop 22 = dktX5_wrong_1 := dk_seg dksX5_wrong_0 22 rfl rfl
theorem dX5_wrong_0 : decode cX5_wrong 0 = .ok (.aload_n 0, 1) := dk_42 (dk_at dksX5_wrong_0 0 rfl rfl)
theorem dX5_wrong_1 : decode cX5_wrong 1 = .ok (.getfield 3, 3) := dk_180 0 3 (dk_at dksX5_wrong_0 1 rfl rfl)
theorem dX5_wrong_4 : decode cX5_wrong 4 = .ok (.getfield 91, 3) := dk_180 0 91 (dk_at dksX5_wrong_0 4 rfl rfl)
theorem dX5_wrong_7 : decode cX5_wrong 7 = .ok (.iload_n 1, 1) := dk_27 (dk_at dksX5_wrong_0 7 rfl rfl)
theorem dX5_wrong_8 : decode cX5_wrong 8 = .ok (.putfield 95, 3) := dk_181 0 95 (dk_at dksX5_wrong_0 8 rfl rfl)
theorem dX5_wrong_11 : decode cX5_wrong 11 = .ok (.aload_n 0, 1) := dk_42 (dk_at dksX5_wrong_0 11 rfl rfl)
theorem dX5_wrong_12 : decode cX5_wrong 12 = .ok (.getfield 3, 3) := dk_180 0 3 (dk_at dksX5_wrong_0 12 rfl rfl)
theorem dX5_wrong_15 : decode cX5_wrong 15 = .ok (.getfield 91, 3) := dk_180 0 91 (dk_at dksX5_wrong_0 15 rfl rfl)
theorem dX5_wrong_18 : decode cX5_wrong 18 = .ok (.aload_n 0, 1) := dk_42 (dk_at dksX5_wrong_0 18 rfl rfl)
theorem dX5_wrong_19 : decode cX5_wrong 19 = .ok (.getfield 40, 3) := dk_180 0 40 (dk_at dksX5_wrong_0 19 rfl rfl)
theorem dX5_wrong_22 : decode cX5_wrong 22 = .ok (.putfield 100, 3) := dk_181 0 100 (dk_at dksX5_wrong_1 0 rfl rfl)
theorem dX5_wrong_25 : decode cX5_wrong 25 = .ok (.aload_n 0, 1) := dk_42 (dk_at dksX5_wrong_1 3 rfl rfl)
theorem dX5_wrong_26 : decode cX5_wrong 26 = .ok (.getfield 3, 3) := dk_180 0 3 (dk_at dksX5_wrong_1 4 rfl rfl)
theorem dX5_wrong_29 : decode cX5_wrong 29 = .ok (.getfield 91, 3) := dk_180 0 91 (dk_at dksX5_wrong_1 7 rfl rfl)
theorem dX5_wrong_32 : decode cX5_wrong 32 = .ok (.areturn, 1) := dk_176 (dk_at dksX5_wrong_1 10 rfl rfl)
abbrev cX5_isName : ByteArray := prog_13_method_11_code
def yX5_isName : MethodName := ⟨RX5, "isName", "()Z"⟩
def dkwX5_isName_1 : List UInt8 := [42, 180, 0, 3, 180, 0, 88, 182, 0, 84, 2, 160, 0, 7, 4, 167, 0, 4, 3, 172]
abbrev dktX5_isName_1 : List UInt8 := dkwX5_isName_1 ++ []
def dkwX5_isName_0 : List UInt8 := [42, 180, 0, 43, 4, 160, 0, 37, 42, 42, 180, 0, 3, 180, 0, 80, 182, 0, 84, 2, 160, 0, 22, 42]
abbrev dktX5_isName_0 : List UInt8 := dkwX5_isName_0 ++ dktX5_isName_1
theorem dksX5_isName_0 : cX5_isName.data.toList.drop 0 = dktX5_isName_0 := by decide +kernel
theorem dksX5_isName_1 : cX5_isName.data.toList.drop 24 = dktX5_isName_1 := dk_seg dksX5_isName_0 24 rfl rfl
theorem dX5_isName_0 : decode cX5_isName 0 = .ok (.aload_n 0, 1) := dk_42 (dk_at dksX5_isName_0 0 rfl rfl)
theorem dX5_isName_1 : decode cX5_isName 1 = .ok (.getfield 43, 3) := dk_180 0 43 (dk_at dksX5_isName_0 1 rfl rfl)
theorem dX5_isName_4 : decode cX5_isName 4 = .ok (.iconst 1, 1) := dk_4 (dk_at dksX5_isName_0 4 rfl rfl)
theorem dX5_isName_5 : decode cX5_isName 5 = .ok (.if_icmp .ne 37, 3) := dk_160 0 37 (dk_at dksX5_isName_0 5 rfl rfl)
theorem dX5_isName_8 : decode cX5_isName 8 = .ok (.aload_n 0, 1) := dk_42 (dk_at dksX5_isName_0 8 rfl rfl)
theorem dX5_isName_9 : decode cX5_isName 9 = .ok (.aload_n 0, 1) := dk_42 (dk_at dksX5_isName_0 9 rfl rfl)
theorem dX5_isName_10 : decode cX5_isName 10 = .ok (.getfield 3, 3) := dk_180 0 3 (dk_at dksX5_isName_0 10 rfl rfl)
theorem dX5_isName_13 : decode cX5_isName 13 = .ok (.getfield 80, 3) := dk_180 0 80 (dk_at dksX5_isName_0 13 rfl rfl)
theorem dX5_isName_16 : decode cX5_isName 16 = .ok (.invokevirtual 84, 3) := dk_182 0 84 (dk_at dksX5_isName_0 16 rfl rfl)
theorem dX5_isName_19 : decode cX5_isName 19 = .ok (.iconst (-1), 1) := dk_2 (dk_at dksX5_isName_0 19 rfl rfl)
theorem dX5_isName_20 : decode cX5_isName 20 = .ok (.if_icmp .ne 22, 3) := dk_160 0 22 (dk_at dksX5_isName_0 20 rfl rfl)
theorem dX5_isName_23 : decode cX5_isName 23 = .ok (.aload_n 0, 1) := dk_42 (dk_at dksX5_isName_0 23 rfl rfl)
theorem dX5_isName_24 : decode cX5_isName 24 = .ok (.aload_n 0, 1) := dk_42 (dk_at dksX5_isName_1 0 rfl rfl)
theorem dX5_isName_25 : decode cX5_isName 25 = .ok (.getfield 3, 3) := dk_180 0 3 (dk_at dksX5_isName_1 1 rfl rfl)
theorem dX5_isName_28 : decode cX5_isName 28 = .ok (.getfield 88, 3) := dk_180 0 88 (dk_at dksX5_isName_1 4 rfl rfl)
theorem dX5_isName_31 : decode cX5_isName 31 = .ok (.invokevirtual 84, 3) := dk_182 0 84 (dk_at dksX5_isName_1 7 rfl rfl)
theorem dX5_isName_34 : decode cX5_isName 34 = .ok (.iconst (-1), 1) := dk_2 (dk_at dksX5_isName_1 10 rfl rfl)
theorem dX5_isName_35 : decode cX5_isName 35 = .ok (.if_icmp .ne 7, 3) := dk_160 0 7 (dk_at dksX5_isName_1 11 rfl rfl)
theorem dX5_isName_38 : decode cX5_isName 38 = .ok (.iconst 1, 1) := dk_4 (dk_at dksX5_isName_1 14 rfl rfl)
theorem dX5_isName_39 : decode cX5_isName 39 = .ok (.goto 4, 3) := dk_167 0 4 (dk_at dksX5_isName_1 15 rfl rfl)
theorem dX5_isName_42 : decode cX5_isName 42 = .ok (.iconst 0, 1) := dk_3 (dk_at dksX5_isName_1 18 rfl rfl)
theorem dX5_isName_43 : decode cX5_isName 43 = .ok (.ireturn, 1) := dk_172 (dk_at dksX5_isName_1 19 rfl rfl)
abbrev cX5_of : ByteArray := prog_13_method_16_code
def yX5_of : MethodName := ⟨RX5, "of", "([LFaceCoins$Named;I)I"⟩
def dkwX5_of_1 : List UInt8 := [132, 3, 1, 167, 255, 232, 2, 172]
abbrev dktX5_of_1 : List UInt8 := dkwX5_of_1 ++ []
def dkwX5_of_0 : List UInt8 := [3, 62, 29, 28, 162, 0, 25, 43, 29, 50, 180, 0, 113, 42, 180, 0, 60, 148, 154, 0, 5, 29, 172]
abbrev dktX5_of_0 : List UInt8 := dkwX5_of_0 ++ dktX5_of_1
theorem dksX5_of_0 : cX5_of.data.toList.drop 0 = dktX5_of_0 := by decide +kernel
theorem dksX5_of_1 : cX5_of.data.toList.drop 23 = dktX5_of_1 := dk_seg dksX5_of_0 23 rfl rfl
theorem dX5_of_0 : decode cX5_of 0 = .ok (.iconst 0, 1) := dk_3 (dk_at dksX5_of_0 0 rfl rfl)
theorem dX5_of_1 : decode cX5_of 1 = .ok (.istore_n 3, 1) := dk_62 (dk_at dksX5_of_0 1 rfl rfl)
theorem dX5_of_2 : decode cX5_of 2 = .ok (.iload_n 3, 1) := dk_29 (dk_at dksX5_of_0 2 rfl rfl)
theorem dX5_of_3 : decode cX5_of 3 = .ok (.iload_n 2, 1) := dk_28 (dk_at dksX5_of_0 3 rfl rfl)
theorem dX5_of_4 : decode cX5_of 4 = .ok (.if_icmp .ge 25, 3) := dk_162 0 25 (dk_at dksX5_of_0 4 rfl rfl)
theorem dX5_of_7 : decode cX5_of 7 = .ok (.aload_n 1, 1) := dk_43 (dk_at dksX5_of_0 7 rfl rfl)
theorem dX5_of_8 : decode cX5_of 8 = .ok (.iload_n 3, 1) := dk_29 (dk_at dksX5_of_0 8 rfl rfl)
theorem dX5_of_9 : decode cX5_of 9 = .ok (.aaload, 1) := dk_50 (dk_at dksX5_of_0 9 rfl rfl)
theorem dX5_of_10 : decode cX5_of 10 = .ok (.getfield 113, 3) := dk_180 0 113 (dk_at dksX5_of_0 10 rfl rfl)
theorem dX5_of_13 : decode cX5_of 13 = .ok (.aload_n 0, 1) := dk_42 (dk_at dksX5_of_0 13 rfl rfl)
theorem dX5_of_14 : decode cX5_of 14 = .ok (.getfield 60, 3) := dk_180 0 60 (dk_at dksX5_of_0 14 rfl rfl)
theorem dX5_of_17 : decode cX5_of 17 = .ok (.lcmp, 1) := dk_148 (dk_at dksX5_of_0 17 rfl rfl)
theorem dX5_of_18 : decode cX5_of 18 = .ok (.ifCond .ne 5, 3) := dk_154 0 5 (dk_at dksX5_of_0 18 rfl rfl)
theorem dX5_of_21 : decode cX5_of 21 = .ok (.iload_n 3, 1) := dk_29 (dk_at dksX5_of_0 21 rfl rfl)
theorem dX5_of_22 : decode cX5_of 22 = .ok (.ireturn, 1) := dk_172 (dk_at dksX5_of_0 22 rfl rfl)
theorem dX5_of_23 : decode cX5_of 23 = .ok (.iinc 3 1, 3) := dk_132 3 1 (dk_at dksX5_of_1 0 rfl rfl)
theorem dX5_of_26 : decode cX5_of 26 = .ok (.goto (-24), 3) := dk_167 255 232 (dk_at dksX5_of_1 3 rfl rfl)
theorem dX5_of_29 : decode cX5_of 29 = .ok (.iconst (-1), 1) := dk_2 (dk_at dksX5_of_1 6 rfl rfl)
theorem dX5_of_30 : decode cX5_of 30 = .ok (.ireturn, 1) := dk_172 (dk_at dksX5_of_1 7 rfl rfl)
abbrev cX5_number : ByteArray := prog_13_method_15_code
def yX5_number : MethodName := ⟨RX5, "number", "(II)I"⟩
def dkwX5_number_1 : List UInt8 := [28, 184, 0, 32, 5, 182, 0, 109, 42, 180, 0, 57, 62, 42, 182, 0, 22, 29, 172]
abbrev dktX5_number_1 : List UInt8 := dkwX5_number_1 ++ []
def dkwX5_number_0 : List UInt8 := [42, 42, 180, 0, 43, 5, 160, 0, 7, 4, 167, 0, 4, 3, 4, 182, 0, 109, 42, 42, 180, 0, 57, 27]
abbrev dktX5_number_0 : List UInt8 := dkwX5_number_0 ++ dktX5_number_1
theorem dksX5_number_0 : cX5_number.data.toList.drop 0 = dktX5_number_0 := by decide +kernel
theorem dksX5_number_1 : cX5_number.data.toList.drop 24 = dktX5_number_1 := dk_seg dksX5_number_0 24 rfl rfl
theorem dX5_number_0 : decode cX5_number 0 = .ok (.aload_n 0, 1) := dk_42 (dk_at dksX5_number_0 0 rfl rfl)
theorem dX5_number_1 : decode cX5_number 1 = .ok (.aload_n 0, 1) := dk_42 (dk_at dksX5_number_0 1 rfl rfl)
theorem dX5_number_2 : decode cX5_number 2 = .ok (.getfield 43, 3) := dk_180 0 43 (dk_at dksX5_number_0 2 rfl rfl)
theorem dX5_number_5 : decode cX5_number 5 = .ok (.iconst 2, 1) := dk_5 (dk_at dksX5_number_0 5 rfl rfl)
theorem dX5_number_6 : decode cX5_number 6 = .ok (.if_icmp .ne 7, 3) := dk_160 0 7 (dk_at dksX5_number_0 6 rfl rfl)
theorem dX5_number_9 : decode cX5_number 9 = .ok (.iconst 1, 1) := dk_4 (dk_at dksX5_number_0 9 rfl rfl)
theorem dX5_number_10 : decode cX5_number 10 = .ok (.goto 4, 3) := dk_167 0 4 (dk_at dksX5_number_0 10 rfl rfl)
theorem dX5_number_13 : decode cX5_number 13 = .ok (.iconst 0, 1) := dk_3 (dk_at dksX5_number_0 13 rfl rfl)
theorem dX5_number_14 : decode cX5_number 14 = .ok (.iconst 1, 1) := dk_4 (dk_at dksX5_number_0 14 rfl rfl)
theorem dX5_number_15 : decode cX5_number 15 = .ok (.invokevirtual 109, 3) := dk_182 0 109 (dk_at dksX5_number_0 15 rfl rfl)
theorem dX5_number_18 : decode cX5_number 18 = .ok (.aload_n 0, 1) := dk_42 (dk_at dksX5_number_0 18 rfl rfl)
theorem dX5_number_19 : decode cX5_number 19 = .ok (.aload_n 0, 1) := dk_42 (dk_at dksX5_number_0 19 rfl rfl)
theorem dX5_number_20 : decode cX5_number 20 = .ok (.getfield 57, 3) := dk_180 0 57 (dk_at dksX5_number_0 20 rfl rfl)
theorem dX5_number_23 : decode cX5_number 23 = .ok (.iload_n 1, 1) := dk_27 (dk_at dksX5_number_0 23 rfl rfl)
theorem dX5_number_24 : decode cX5_number 24 = .ok (.iload_n 2, 1) := dk_28 (dk_at dksX5_number_1 0 rfl rfl)
theorem dX5_number_25 : decode cX5_number 25 = .ok (.invokestatic 32, 3) := dk_184 0 32 (dk_at dksX5_number_1 1 rfl rfl)
theorem dX5_number_28 : decode cX5_number 28 = .ok (.iconst 2, 1) := dk_5 (dk_at dksX5_number_1 4 rfl rfl)
theorem dX5_number_29 : decode cX5_number 29 = .ok (.invokevirtual 109, 3) := dk_182 0 109 (dk_at dksX5_number_1 5 rfl rfl)
theorem dX5_number_32 : decode cX5_number 32 = .ok (.aload_n 0, 1) := dk_42 (dk_at dksX5_number_1 8 rfl rfl)
theorem dX5_number_33 : decode cX5_number 33 = .ok (.getfield 57, 3) := dk_180 0 57 (dk_at dksX5_number_1 9 rfl rfl)
theorem dX5_number_36 : decode cX5_number 36 = .ok (.istore_n 3, 1) := dk_62 (dk_at dksX5_number_1 12 rfl rfl)
theorem dX5_number_37 : decode cX5_number 37 = .ok (.aload_n 0, 1) := dk_42 (dk_at dksX5_number_1 13 rfl rfl)
theorem dX5_number_38 : decode cX5_number 38 = .ok (.invokevirtual 22, 3) := dk_182 0 22 (dk_at dksX5_number_1 14 rfl rfl)
theorem dX5_number_41 : decode cX5_number 41 = .ok (.iload_n 3, 1) := dk_29 (dk_at dksX5_number_1 17 rfl rfl)
theorem dX5_number_42 : decode cX5_number 42 = .ok (.ireturn, 1) := dk_172 (dk_at dksX5_number_1 18 rfl rfl)
abbrev cX5_known : ByteArray := prog_13_method_17_code
def yX5_known : MethodName := ⟨RX5, "known", "([LFaceCoins$Named;I)I"⟩
def dkwX5_known_1 : List UInt8 := [167, 0, 4, 3, 6, 182, 0, 109, 42, 182, 0, 22, 29, 172]
abbrev dktX5_known_1 : List UInt8 := dkwX5_known_1 ++ []
def dkwX5_known_0 : List UInt8 := [42, 42, 182, 0, 116, 4, 182, 0, 109, 42, 43, 28, 182, 0, 120, 62, 42, 29, 2, 159, 0, 7, 4]
abbrev dktX5_known_0 : List UInt8 := dkwX5_known_0 ++ dktX5_known_1
theorem dksX5_known_0 : cX5_known.data.toList.drop 0 = dktX5_known_0 := by decide +kernel
theorem dksX5_known_1 : cX5_known.data.toList.drop 23 = dktX5_known_1 := dk_seg dksX5_known_0 23 rfl rfl
theorem dX5_known_0 : decode cX5_known 0 = .ok (.aload_n 0, 1) := dk_42 (dk_at dksX5_known_0 0 rfl rfl)
theorem dX5_known_1 : decode cX5_known 1 = .ok (.aload_n 0, 1) := dk_42 (dk_at dksX5_known_0 1 rfl rfl)
theorem dX5_known_2 : decode cX5_known 2 = .ok (.invokevirtual 116, 3) := dk_182 0 116 (dk_at dksX5_known_0 2 rfl rfl)
theorem dX5_known_5 : decode cX5_known 5 = .ok (.iconst 1, 1) := dk_4 (dk_at dksX5_known_0 5 rfl rfl)
theorem dX5_known_6 : decode cX5_known 6 = .ok (.invokevirtual 109, 3) := dk_182 0 109 (dk_at dksX5_known_0 6 rfl rfl)
theorem dX5_known_9 : decode cX5_known 9 = .ok (.aload_n 0, 1) := dk_42 (dk_at dksX5_known_0 9 rfl rfl)
theorem dX5_known_10 : decode cX5_known 10 = .ok (.aload_n 1, 1) := dk_43 (dk_at dksX5_known_0 10 rfl rfl)
theorem dX5_known_11 : decode cX5_known 11 = .ok (.iload_n 2, 1) := dk_28 (dk_at dksX5_known_0 11 rfl rfl)
theorem dX5_known_12 : decode cX5_known 12 = .ok (.invokevirtual 120, 3) := dk_182 0 120 (dk_at dksX5_known_0 12 rfl rfl)
theorem dX5_known_15 : decode cX5_known 15 = .ok (.istore_n 3, 1) := dk_62 (dk_at dksX5_known_0 15 rfl rfl)
theorem dX5_known_16 : decode cX5_known 16 = .ok (.aload_n 0, 1) := dk_42 (dk_at dksX5_known_0 16 rfl rfl)
theorem dX5_known_17 : decode cX5_known 17 = .ok (.iload_n 3, 1) := dk_29 (dk_at dksX5_known_0 17 rfl rfl)
theorem dX5_known_18 : decode cX5_known 18 = .ok (.iconst (-1), 1) := dk_2 (dk_at dksX5_known_0 18 rfl rfl)
theorem dX5_known_19 : decode cX5_known 19 = .ok (.if_icmp .eq 7, 3) := dk_159 0 7 (dk_at dksX5_known_0 19 rfl rfl)
theorem dX5_known_22 : decode cX5_known 22 = .ok (.iconst 1, 1) := dk_4 (dk_at dksX5_known_0 22 rfl rfl)
theorem dX5_known_23 : decode cX5_known 23 = .ok (.goto 4, 3) := dk_167 0 4 (dk_at dksX5_known_1 0 rfl rfl)
theorem dX5_known_26 : decode cX5_known 26 = .ok (.iconst 0, 1) := dk_3 (dk_at dksX5_known_1 3 rfl rfl)
theorem dX5_known_27 : decode cX5_known 27 = .ok (.iconst 3, 1) := dk_6 (dk_at dksX5_known_1 4 rfl rfl)
theorem dX5_known_28 : decode cX5_known 28 = .ok (.invokevirtual 109, 3) := dk_182 0 109 (dk_at dksX5_known_1 5 rfl rfl)
theorem dX5_known_31 : decode cX5_known 31 = .ok (.aload_n 0, 1) := dk_42 (dk_at dksX5_known_1 8 rfl rfl)
theorem dX5_known_32 : decode cX5_known 32 = .ok (.invokevirtual 22, 3) := dk_182 0 22 (dk_at dksX5_known_1 9 rfl rfl)
theorem dX5_known_35 : decode cX5_known 35 = .ok (.iload_n 3, 1) := dk_29 (dk_at dksX5_known_1 12 rfl rfl)
theorem dX5_known_36 : decode cX5_known 36 = .ok (.ireturn, 1) := dk_172 (dk_at dksX5_known_1 13 rfl rfl)
abbrev cX5_sign : ByteArray := prog_13_method_14_code
def yX5_sign : MethodName := ⟨RX5, "sign", "(I)V"⟩
def dkwX5_sign_0 : List UInt8 := [42, 42, 27, 182, 0, 107, 4, 182, 0, 109, 42, 182, 0, 22, 177]
abbrev dktX5_sign_0 : List UInt8 := dkwX5_sign_0 ++ []
theorem dksX5_sign_0 : cX5_sign.data.toList.drop 0 = dktX5_sign_0 := by decide +kernel
theorem dX5_sign_0 : decode cX5_sign 0 = .ok (.aload_n 0, 1) := dk_42 (dk_at dksX5_sign_0 0 rfl rfl)
theorem dX5_sign_1 : decode cX5_sign 1 = .ok (.aload_n 0, 1) := dk_42 (dk_at dksX5_sign_0 1 rfl rfl)
theorem dX5_sign_2 : decode cX5_sign 2 = .ok (.iload_n 1, 1) := dk_27 (dk_at dksX5_sign_0 2 rfl rfl)
theorem dX5_sign_3 : decode cX5_sign 3 = .ok (.invokevirtual 107, 3) := dk_182 0 107 (dk_at dksX5_sign_0 3 rfl rfl)
theorem dX5_sign_6 : decode cX5_sign 6 = .ok (.iconst 1, 1) := dk_4 (dk_at dksX5_sign_0 6 rfl rfl)
theorem dX5_sign_7 : decode cX5_sign 7 = .ok (.invokevirtual 109, 3) := dk_182 0 109 (dk_at dksX5_sign_0 7 rfl rfl)
theorem dX5_sign_10 : decode cX5_sign 10 = .ok (.aload_n 0, 1) := dk_42 (dk_at dksX5_sign_0 10 rfl rfl)
theorem dX5_sign_11 : decode cX5_sign 11 = .ok (.invokevirtual 22, 3) := dk_182 0 22 (dk_at dksX5_sign_0 11 rfl rfl)
theorem dX5_sign_14 : decode cX5_sign 14 = .ok (.return_, 1) := dk_177 (dk_at dksX5_sign_0 14 rfl rfl)
abbrev cX5_is_2 : ByteArray := prog_13_method_9_code
def yX5_is_2 : MethodName := ⟨RX5, "is", "(I)Z"⟩
def dkwX5_is_2_0 : List UInt8 := [42, 180, 0, 43, 6, 160, 0, 15, 42, 180, 0, 57, 27, 160, 0, 7, 4, 167, 0, 4, 3, 172]
abbrev dktX5_is_2_0 : List UInt8 := dkwX5_is_2_0 ++ []
theorem dksX5_is_2_0 : cX5_is_2.data.toList.drop 0 = dktX5_is_2_0 := by decide +kernel
theorem dX5_is_2_0 : decode cX5_is_2 0 = .ok (.aload_n 0, 1) := dk_42 (dk_at dksX5_is_2_0 0 rfl rfl)
theorem dX5_is_2_1 : decode cX5_is_2 1 = .ok (.getfield 43, 3) := dk_180 0 43 (dk_at dksX5_is_2_0 1 rfl rfl)
theorem dX5_is_2_4 : decode cX5_is_2 4 = .ok (.iconst 3, 1) := dk_6 (dk_at dksX5_is_2_0 4 rfl rfl)
theorem dX5_is_2_5 : decode cX5_is_2 5 = .ok (.if_icmp .ne 15, 3) := dk_160 0 15 (dk_at dksX5_is_2_0 5 rfl rfl)
theorem dX5_is_2_8 : decode cX5_is_2 8 = .ok (.aload_n 0, 1) := dk_42 (dk_at dksX5_is_2_0 8 rfl rfl)
theorem dX5_is_2_9 : decode cX5_is_2 9 = .ok (.getfield 57, 3) := dk_180 0 57 (dk_at dksX5_is_2_0 9 rfl rfl)
theorem dX5_is_2_12 : decode cX5_is_2 12 = .ok (.iload_n 1, 1) := dk_27 (dk_at dksX5_is_2_0 12 rfl rfl)
theorem dX5_is_2_13 : decode cX5_is_2 13 = .ok (.if_icmp .ne 7, 3) := dk_160 0 7 (dk_at dksX5_is_2_0 13 rfl rfl)
theorem dX5_is_2_16 : decode cX5_is_2 16 = .ok (.iconst 1, 1) := dk_4 (dk_at dksX5_is_2_0 16 rfl rfl)
theorem dX5_is_2_17 : decode cX5_is_2 17 = .ok (.goto 4, 3) := dk_167 0 4 (dk_at dksX5_is_2_0 17 rfl rfl)
theorem dX5_is_2_20 : decode cX5_is_2 20 = .ok (.iconst 0, 1) := dk_3 (dk_at dksX5_is_2_0 20 rfl rfl)
theorem dX5_is_2_21 : decode cX5_is_2 21 = .ok (.ireturn, 1) := dk_172 (dk_at dksX5_is_2_0 21 rfl rfl)
theorem q102 : (Jvm.Cond.initialized "FaceCoins$Reader") ∈ lw_all := lw_g (lw_at lw_m1 7 rfl) rfl
theorem q179 : (Jvm.Cond.fieldLink "FaceCoins$Reader" (95 : Nat) "FaceCoins$Fault" "kind" "I") ∈ lw_all := lw_g (lw_at lw_m1 84 rfl) rfl
theorem q181 : (Jvm.Cond.fieldLink "FaceCoins$Reader" (100 : Nat) "FaceCoins$Fault" "place" "I") ∈ lw_all := lw_g (lw_at lw_m1 86 rfl) rfl
theorem q426 : (Jvm.Cond.instanceMethod ({ cls := "FaceCoins$Reader", name := "<init>", desc := "(LFaceCoins;I)V" } : Jvm.MethodName)) ∈ lw_all := lw_g (lw_at lw_m2 91 rfl) rfl
theorem q427 : (Jvm.Cond.code ({ cls := "FaceCoins$Reader", name := "<init>", desc := "(LFaceCoins;I)V" } : Jvm.MethodName) prog_13_method_1_code (3 : Nat) (Option.none : Option Jvm.ClassFile.FieldType)) ∈ lw_all := lw_g (lw_at lw_m2 92 rfl) rfl
theorem q428 : (Jvm.Cond.methodLink "FaceCoins$Reader" (9 : Nat) ({ cls := "java/lang/Object", name := "<init>", desc := "()V" } : Jvm.MethodName)) ∈ lw_all := lw_g (lw_at lw_m2 93 rfl) rfl
theorem q432 : (Jvm.Cond.fieldLink "FaceCoins$Reader" (15 : Nat) "FaceCoins$Reader" "most" "I") ∈ lw_all := lw_g (lw_at lw_m2 97 rfl) rfl
theorem q433 : (Jvm.Cond.fieldLink "FaceCoins$Reader" (19 : Nat) "FaceCoins$Reader" "p" "I") ∈ lw_all := lw_g (lw_at lw_m2 98 rfl) rfl
theorem q434 : (Jvm.Cond.fieldLink "FaceCoins$Reader" (40 : Nat) "FaceCoins$Reader" "at" "I") ∈ lw_all := lw_g (lw_at lw_m2 99 rfl) rfl
theorem q439 : (Jvm.Cond.fieldLink "FaceCoins$Reader" (43 : Nat) "FaceCoins$Reader" "token" "I") ∈ lw_all := lw_g (lw_at lw_m2 104 rfl) rfl
theorem q442 : (Jvm.Cond.fieldLink "FaceCoins$Reader" (57 : Nat) "FaceCoins$Reader" "value" "I") ∈ lw_all := lw_g (lw_at lw_m2 107 rfl) rfl
theorem q443 : (Jvm.Cond.fieldLink "FaceCoins$Reader" (64 : Nat) "FaceCoins$Reader" "many" "I") ∈ lw_all := lw_g (lw_at lw_m2 108 rfl) rfl
theorem q446 : (Jvm.Cond.fieldLink "FaceCoins$Reader" (60 : Nat) "FaceCoins$Reader" "name" "J") ∈ lw_all := lw_g (lw_at lw_m2 111 rfl) rfl
theorem q447 : (Jvm.Cond.fieldLink "FaceCoins$Reader" (3 : Nat) "FaceCoins$Reader" "this$0" "LFaceCoins;") ∈ lw_all := lw_g (lw_at lw_m2 112 rfl) rfl
theorem q455 : (Jvm.Cond.soleField "FaceCoins$Reader" "most") ∈ lw_all := lw_g (lw_at lw_m2 120 rfl) rfl
theorem q457 : (Jvm.Cond.soleField "FaceCoins$Reader" "p") ∈ lw_all := lw_g (lw_at lw_m2 122 rfl) rfl
theorem q459 : (Jvm.Cond.soleField "FaceCoins$Reader" "at") ∈ lw_all := lw_g (lw_at lw_m2 124 rfl) rfl
theorem q461 : (Jvm.Cond.soleField "FaceCoins$Reader" "token") ∈ lw_all := lw_g (lw_at lw_m2 126 rfl) rfl
theorem q463 : (Jvm.Cond.soleField "FaceCoins$Reader" "value") ∈ lw_all := lw_g (lw_at lw_m2 128 rfl) rfl
theorem q465 : (Jvm.Cond.soleField "FaceCoins$Reader" "many") ∈ lw_all := lw_g (lw_at lw_m2 130 rfl) rfl
theorem q467 : (Jvm.Cond.soleField "FaceCoins$Reader" "name") ∈ lw_all := lw_g (lw_at lw_m2 132 rfl) rfl
theorem q469 : (Jvm.Cond.soleField "FaceCoins$Reader" "this$0") ∈ lw_all := lw_g (lw_at lw_m2 134 rfl) rfl
theorem q510 : (Jvm.Cond.fieldLinkNest "FaceCoins$Reader" (28 : Nat) "FaceCoins" "tape" "[B" "FaceCoins") ∈ lw_tbl := lw_at lw_m2 175 rfl
theorem q512 : (Jvm.Cond.fieldLinkNest "FaceCoins$Reader" (25 : Nat) "FaceCoins" "size" "I" "FaceCoins") ∈ lw_tbl := lw_at lw_m2 177 rfl
theorem q515 : (Jvm.Cond.fieldLinkNest "FaceCoins$Reader" (91 : Nat) "FaceCoins" "broken" "LFaceCoins$Fault;" "FaceCoins") ∈ lw_tbl := lw_at lw_m2 180 rfl
theorem q518 : (Jvm.Cond.fieldLinkNest "FaceCoins$Reader" (80 : Nat) "FaceCoins" "lines" "[Ljava/lang/String;" "FaceCoins") ∈ lw_tbl := lw_at lw_m2 183 rfl
theorem q520 : (Jvm.Cond.fieldLinkNest "FaceCoins$Reader" (88 : Nat) "FaceCoins" "words" "[Ljava/lang/String;" "FaceCoins") ∈ lw_tbl := lw_at lw_m2 185 rfl
theorem q631 : (Jvm.Cond.declares ({ cls := "FaceCoins$Reader", name := "begin", desc := "()V" } : Jvm.MethodName)) ∈ lw_tbl := lw_at lw_m3 56 rfl
theorem q633 : (Jvm.Cond.instanceMethod ({ cls := "FaceCoins$Reader", name := "begin", desc := "()V" } : Jvm.MethodName)) ∈ lw_all := lw_g (lw_at lw_m3 58 rfl) rfl
theorem q634 : (Jvm.Cond.code ({ cls := "FaceCoins$Reader", name := "begin", desc := "()V" } : Jvm.MethodName) prog_13_method_2_code (1 : Nat) (Option.none : Option Jvm.ClassFile.FieldType)) ∈ lw_all := lw_g (lw_at lw_m3 59 rfl) rfl
theorem q635 : (Jvm.Cond.methodLink "FaceCoins$Reader" (22 : Nat) ({ cls := "FaceCoins$Reader", name := "next", desc := "()V" } : Jvm.MethodName)) ∈ lw_all := lw_g (lw_at lw_m3 60 rfl) rfl
theorem q636 : (Jvm.Cond.instanceMethod ({ cls := "FaceCoins$Reader", name := "next", desc := "()V" } : Jvm.MethodName)) ∈ lw_all := lw_g (lw_at lw_m3 61 rfl) rfl
theorem q637 : (Jvm.Cond.sameMethod "FaceCoins$Reader" "FaceCoins$Reader" "next" "()V") ∈ lw_all := lw_g (lw_at lw_m3 62 rfl) rfl
theorem q640 : (Jvm.Cond.code ({ cls := "FaceCoins$Reader", name := "next", desc := "()V" } : Jvm.MethodName) prog_13_method_6_code (2 : Nat) (Option.none : Option Jvm.ClassFile.FieldType)) ∈ lw_all := lw_g (lw_at lw_m3 65 rfl) rfl
theorem q641 : (Jvm.Cond.methodLink "FaceCoins$Reader" (36 : Nat) ({ cls := "FaceCoins$Reader", name := "peek", desc := "()I" } : Jvm.MethodName)) ∈ lw_all := lw_g (lw_at lw_m3 66 rfl) rfl
theorem q642 : (Jvm.Cond.privateMethod ({ cls := "FaceCoins$Reader", name := "peek", desc := "()I" } : Jvm.MethodName)) ∈ lw_tbl := lw_at lw_m3 67 rfl
theorem q643 : (Jvm.Cond.instanceMethod ({ cls := "FaceCoins$Reader", name := "peek", desc := "()I" } : Jvm.MethodName)) ∈ lw_all := lw_g (lw_at lw_m3 68 rfl) rfl
theorem q644 : (Jvm.Cond.code ({ cls := "FaceCoins$Reader", name := "peek", desc := "()I" } : Jvm.MethodName) prog_13_method_3_code (1 : Nat) (Option.some Jvm.ClassFile.FieldType.int)) ∈ lw_all := lw_g (lw_at lw_m3 69 rfl) rfl
theorem q645 : (Jvm.Cond.methodLink "FaceCoins$Reader" (46 : Nat) ({ cls := "FaceCoins$Reader", name := "isLetter", desc := "(I)Z" } : Jvm.MethodName)) ∈ lw_all := lw_g (lw_at lw_m3 70 rfl) rfl
theorem q646 : (Jvm.Cond.privateMethod ({ cls := "FaceCoins$Reader", name := "isLetter", desc := "(I)Z" } : Jvm.MethodName)) ∈ lw_tbl := lw_at lw_m3 71 rfl
theorem q647 : (Jvm.Cond.instanceMethod ({ cls := "FaceCoins$Reader", name := "isLetter", desc := "(I)Z" } : Jvm.MethodName)) ∈ lw_all := lw_g (lw_at lw_m3 72 rfl) rfl
theorem q648 : (Jvm.Cond.code ({ cls := "FaceCoins$Reader", name := "isLetter", desc := "(I)Z" } : Jvm.MethodName) prog_13_method_4_code (2 : Nat) (Option.some Jvm.ClassFile.FieldType.boolean)) ∈ lw_all := lw_g (lw_at lw_m3 73 rfl) rfl
theorem q649 : (Jvm.Cond.methodLinkNest "FaceCoins$Reader" (32 : Nat) ({ cls := "FaceCoins", name := "isIn", desc := "(III)Z" } : Jvm.MethodName) "FaceCoins") ∈ lw_tbl := lw_at lw_m3 74 rfl
theorem q652 : (Jvm.Cond.methodLink "FaceCoins$Reader" (50 : Nat) ({ cls := "FaceCoins$Reader", name := "isDigit", desc := "(I)Z" } : Jvm.MethodName)) ∈ lw_all := lw_g (lw_at lw_m3 77 rfl) rfl
theorem q653 : (Jvm.Cond.privateMethod ({ cls := "FaceCoins$Reader", name := "isDigit", desc := "(I)Z" } : Jvm.MethodName)) ∈ lw_tbl := lw_at lw_m3 78 rfl
theorem q654 : (Jvm.Cond.instanceMethod ({ cls := "FaceCoins$Reader", name := "isDigit", desc := "(I)Z" } : Jvm.MethodName)) ∈ lw_all := lw_g (lw_at lw_m3 79 rfl) rfl
theorem q655 : (Jvm.Cond.code ({ cls := "FaceCoins$Reader", name := "isDigit", desc := "(I)Z" } : Jvm.MethodName) prog_13_method_5_code (2 : Nat) (Option.some Jvm.ClassFile.FieldType.boolean)) ∈ lw_all := lw_g (lw_at lw_m3 80 rfl) rfl
theorem q656 : (Jvm.Cond.methodLink "FaceCoins$Reader" (53 : Nat) ({ cls := "FaceCoins$Reader", name := "run", desc := "(Z)V" } : Jvm.MethodName)) ∈ lw_all := lw_g (lw_at lw_m3 81 rfl) rfl
theorem q657 : (Jvm.Cond.privateMethod ({ cls := "FaceCoins$Reader", name := "run", desc := "(Z)V" } : Jvm.MethodName)) ∈ lw_tbl := lw_at lw_m3 82 rfl
theorem q658 : (Jvm.Cond.instanceMethod ({ cls := "FaceCoins$Reader", name := "run", desc := "(Z)V" } : Jvm.MethodName)) ∈ lw_all := lw_g (lw_at lw_m3 83 rfl) rfl
theorem q659 : (Jvm.Cond.code ({ cls := "FaceCoins$Reader", name := "run", desc := "(Z)V" } : Jvm.MethodName) prog_13_method_7_code (3 : Nat) (Option.none : Option Jvm.ClassFile.FieldType)) ∈ lw_all := lw_g (lw_at lw_m3 84 rfl) rfl
theorem q662 : (Jvm.Cond.declares ({ cls := "FaceCoins$Reader", name := "find", desc := "([Ljava/lang/String;)I" } : Jvm.MethodName)) ∈ lw_tbl := lw_at lw_m3 87 rfl
theorem q664 : (Jvm.Cond.instanceMethod ({ cls := "FaceCoins$Reader", name := "find", desc := "([Ljava/lang/String;)I" } : Jvm.MethodName)) ∈ lw_all := lw_g (lw_at lw_m3 89 rfl) rfl
theorem q665 : (Jvm.Cond.code ({ cls := "FaceCoins$Reader", name := "find", desc := "([Ljava/lang/String;)I" } : Jvm.MethodName) prog_13_method_10_code (3 : Nat) (Option.some Jvm.ClassFile.FieldType.int)) ∈ lw_all := lw_g (lw_at lw_m3 90 rfl) rfl
theorem q666 : (Jvm.Cond.methodLink "FaceCoins$Reader" (76 : Nat) ({ cls := "FaceCoins$Reader", name := "is", desc := "(Ljava/lang/String;)Z" } : Jvm.MethodName)) ∈ lw_all := lw_g (lw_at lw_m3 91 rfl) rfl
theorem q667 : (Jvm.Cond.instanceMethod ({ cls := "FaceCoins$Reader", name := "is", desc := "(Ljava/lang/String;)Z" } : Jvm.MethodName)) ∈ lw_all := lw_g (lw_at lw_m3 92 rfl) rfl
theorem q668 : (Jvm.Cond.sameMethod "FaceCoins$Reader" "FaceCoins$Reader" "is" "(Ljava/lang/String;)Z") ∈ lw_all := lw_g (lw_at lw_m3 93 rfl) rfl
theorem q671 : (Jvm.Cond.code ({ cls := "FaceCoins$Reader", name := "is", desc := "(Ljava/lang/String;)Z" } : Jvm.MethodName) prog_13_method_8_code (3 : Nat) (Option.some Jvm.ClassFile.FieldType.boolean)) ∈ lw_all := lw_g (lw_at lw_m3 96 rfl) rfl
theorem q672 : (Jvm.Cond.methodLink "FaceCoins$Reader" (67 : Nat) ({ cls := "java/lang/String", name := "length", desc := "()I" } : Jvm.MethodName)) ∈ lw_all := lw_g (lw_at lw_m3 97 rfl) rfl
theorem q682 : (Jvm.Cond.methodLink "FaceCoins$Reader" (72 : Nat) ({ cls := "java/lang/String", name := "charAt", desc := "(I)C" } : Jvm.MethodName)) ∈ lw_all := lw_g (lw_at lw_m3 107 rfl) rfl
theorem q722 : (Jvm.Cond.declares ({ cls := "FaceCoins$Reader", name := "must", desc := "(ZI)V" } : Jvm.MethodName)) ∈ lw_tbl := lw_at lw_m3 147 rfl
theorem q724 : (Jvm.Cond.instanceMethod ({ cls := "FaceCoins$Reader", name := "must", desc := "(ZI)V" } : Jvm.MethodName)) ∈ lw_all := lw_g (lw_at lw_m3 149 rfl) rfl
theorem q725 : (Jvm.Cond.code ({ cls := "FaceCoins$Reader", name := "must", desc := "(ZI)V" } : Jvm.MethodName) prog_13_method_13_code (3 : Nat) (Option.none : Option Jvm.ClassFile.FieldType)) ∈ lw_all := lw_g (lw_at lw_m3 150 rfl) rfl
theorem q726 : (Jvm.Cond.methodLink "FaceCoins$Reader" (103 : Nat) ({ cls := "FaceCoins$Reader", name := "wrong", desc := "(I)LFaceCoins$Fault;" } : Jvm.MethodName)) ∈ lw_all := lw_g (lw_at lw_m3 151 rfl) rfl
theorem q727 : (Jvm.Cond.instanceMethod ({ cls := "FaceCoins$Reader", name := "wrong", desc := "(I)LFaceCoins$Fault;" } : Jvm.MethodName)) ∈ lw_all := lw_g (lw_at lw_m3 152 rfl) rfl
theorem q728 : (Jvm.Cond.sameMethod "FaceCoins$Reader" "FaceCoins$Reader" "wrong" "(I)LFaceCoins$Fault;") ∈ lw_all := lw_g (lw_at lw_m3 153 rfl) rfl
theorem q731 : (Jvm.Cond.code ({ cls := "FaceCoins$Reader", name := "wrong", desc := "(I)LFaceCoins$Fault;" } : Jvm.MethodName) prog_13_method_12_code (2 : Nat) (Option.some (Jvm.ClassFile.FieldType.object "FaceCoins$Fault"))) ∈ lw_all := lw_g (lw_at lw_m3 156 rfl) rfl
theorem q737 : (Jvm.Cond.declares ({ cls := "FaceCoins$Reader", name := "next", desc := "()V" } : Jvm.MethodName)) ∈ lw_tbl := lw_at lw_m3 162 rfl
theorem q751 : (Jvm.Cond.declares ({ cls := "FaceCoins$Reader", name := "isName", desc := "()Z" } : Jvm.MethodName)) ∈ lw_tbl := lw_at lw_m3 176 rfl
theorem q753 : (Jvm.Cond.instanceMethod ({ cls := "FaceCoins$Reader", name := "isName", desc := "()Z" } : Jvm.MethodName)) ∈ lw_all := lw_g (lw_at lw_m3 178 rfl) rfl
theorem q754 : (Jvm.Cond.code ({ cls := "FaceCoins$Reader", name := "isName", desc := "()Z" } : Jvm.MethodName) prog_13_method_11_code (1 : Nat) (Option.some Jvm.ClassFile.FieldType.boolean)) ∈ lw_all := lw_g (lw_at lw_m3 179 rfl) rfl
theorem q755 : (Jvm.Cond.methodLink "FaceCoins$Reader" (84 : Nat) ({ cls := "FaceCoins$Reader", name := "find", desc := "([Ljava/lang/String;)I" } : Jvm.MethodName)) ∈ lw_all := lw_g (lw_at lw_m3 180 rfl) rfl
theorem q758 : (Jvm.Cond.declares ({ cls := "FaceCoins$Reader", name := "of", desc := "([LFaceCoins$Named;I)I" } : Jvm.MethodName)) ∈ lw_tbl := lw_at lw_m3 183 rfl
theorem q760 : (Jvm.Cond.instanceMethod ({ cls := "FaceCoins$Reader", name := "of", desc := "([LFaceCoins$Named;I)I" } : Jvm.MethodName)) ∈ lw_all := lw_g (lw_at lw_m3 185 rfl) rfl
theorem q761 : (Jvm.Cond.code ({ cls := "FaceCoins$Reader", name := "of", desc := "([LFaceCoins$Named;I)I" } : Jvm.MethodName) prog_13_method_16_code (4 : Nat) (Option.some Jvm.ClassFile.FieldType.int)) ∈ lw_all := lw_g (lw_at lw_m3 186 rfl) rfl
theorem q779 : (Jvm.Cond.fieldLink "FaceCoins$Reader" (113 : Nat) "FaceCoins$Named" "name" "J") ∈ lw_all := lw_g (lw_at lw_m3 204 rfl) rfl
theorem q796 : (Jvm.Cond.declares ({ cls := "FaceCoins$Reader", name := "is", desc := "(Ljava/lang/String;)Z" } : Jvm.MethodName)) ∈ lw_tbl := lw_at lw_m3 221 rfl
theorem q801 : (Jvm.Cond.declares ({ cls := "FaceCoins$Reader", name := "number", desc := "(II)I" } : Jvm.MethodName)) ∈ lw_tbl := lw_at lw_m3 226 rfl
theorem q803 : (Jvm.Cond.instanceMethod ({ cls := "FaceCoins$Reader", name := "number", desc := "(II)I" } : Jvm.MethodName)) ∈ lw_all := lw_g (lw_at lw_m3 228 rfl) rfl
theorem q804 : (Jvm.Cond.code ({ cls := "FaceCoins$Reader", name := "number", desc := "(II)I" } : Jvm.MethodName) prog_13_method_15_code (4 : Nat) (Option.some Jvm.ClassFile.FieldType.int)) ∈ lw_all := lw_g (lw_at lw_m3 229 rfl) rfl
theorem q805 : (Jvm.Cond.methodLink "FaceCoins$Reader" (109 : Nat) ({ cls := "FaceCoins$Reader", name := "must", desc := "(ZI)V" } : Jvm.MethodName)) ∈ lw_all := lw_g (lw_at lw_m3 230 rfl) rfl
theorem q826 : (Jvm.Cond.declares ({ cls := "FaceCoins$Reader", name := "known", desc := "([LFaceCoins$Named;I)I" } : Jvm.MethodName)) ∈ lw_tbl := lw_at lw_m4 11 rfl
theorem q828 : (Jvm.Cond.instanceMethod ({ cls := "FaceCoins$Reader", name := "known", desc := "([LFaceCoins$Named;I)I" } : Jvm.MethodName)) ∈ lw_all := lw_g (lw_at lw_m4 13 rfl) rfl
theorem q829 : (Jvm.Cond.code ({ cls := "FaceCoins$Reader", name := "known", desc := "([LFaceCoins$Named;I)I" } : Jvm.MethodName) prog_13_method_17_code (4 : Nat) (Option.some Jvm.ClassFile.FieldType.int)) ∈ lw_all := lw_g (lw_at lw_m4 14 rfl) rfl
theorem q830 : (Jvm.Cond.methodLink "FaceCoins$Reader" (116 : Nat) ({ cls := "FaceCoins$Reader", name := "isName", desc := "()Z" } : Jvm.MethodName)) ∈ lw_all := lw_g (lw_at lw_m4 15 rfl) rfl
theorem q831 : (Jvm.Cond.methodLink "FaceCoins$Reader" (120 : Nat) ({ cls := "FaceCoins$Reader", name := "of", desc := "([LFaceCoins$Named;I)I" } : Jvm.MethodName)) ∈ lw_all := lw_g (lw_at lw_m4 16 rfl) rfl
theorem q834 : (Jvm.Cond.declares ({ cls := "FaceCoins$Reader", name := "sign", desc := "(I)V" } : Jvm.MethodName)) ∈ lw_tbl := lw_at lw_m4 19 rfl
theorem q836 : (Jvm.Cond.instanceMethod ({ cls := "FaceCoins$Reader", name := "sign", desc := "(I)V" } : Jvm.MethodName)) ∈ lw_all := lw_g (lw_at lw_m4 21 rfl) rfl
theorem q837 : (Jvm.Cond.code ({ cls := "FaceCoins$Reader", name := "sign", desc := "(I)V" } : Jvm.MethodName) prog_13_method_14_code (2 : Nat) (Option.none : Option Jvm.ClassFile.FieldType)) ∈ lw_all := lw_g (lw_at lw_m4 22 rfl) rfl
theorem q838 : (Jvm.Cond.methodLink "FaceCoins$Reader" (107 : Nat) ({ cls := "FaceCoins$Reader", name := "is", desc := "(I)Z" } : Jvm.MethodName)) ∈ lw_all := lw_g (lw_at lw_m4 23 rfl) rfl
theorem q839 : (Jvm.Cond.instanceMethod ({ cls := "FaceCoins$Reader", name := "is", desc := "(I)Z" } : Jvm.MethodName)) ∈ lw_all := lw_g (lw_at lw_m4 24 rfl) rfl
theorem q840 : (Jvm.Cond.sameMethod "FaceCoins$Reader" "FaceCoins$Reader" "is" "(I)Z") ∈ lw_all := lw_g (lw_at lw_m4 25 rfl) rfl
theorem q843 : (Jvm.Cond.code ({ cls := "FaceCoins$Reader", name := "is", desc := "(I)Z" } : Jvm.MethodName) prog_13_method_9_code (2 : Nat) (Option.some Jvm.ClassFile.FieldType.boolean)) ∈ lw_all := lw_g (lw_at lw_m4 28 rfl) rfl
theorem q1104 : (Jvm.Cond.declares ({ cls := "FaceCoins$Reader", name := "is", desc := "(I)Z" } : Jvm.MethodName)) ∈ lw_tbl := lw_at lw_m5 49 rfl
theorem q1898 : (Jvm.Cond.sameMethod "FaceCoins$Reader" "FaceCoins$Reader" "peek" "()I") ∈ lw_all := lw_g (lw_at lw_m8 123 rfl) rfl
theorem q1899 : (Jvm.Cond.sameMethod "FaceCoins$Reader" "FaceCoins$Reader" "isLetter" "(I)Z") ∈ lw_all := lw_g (lw_at lw_m8 124 rfl) rfl
theorem q1900 : (Jvm.Cond.sameMethod "FaceCoins$Reader" "FaceCoins$Reader" "isDigit" "(I)Z") ∈ lw_all := lw_g (lw_at lw_m8 125 rfl) rfl
theorem q1901 : (Jvm.Cond.sameMethod "FaceCoins$Reader" "FaceCoins$Reader" "run" "(Z)V") ∈ lw_all := lw_g (lw_at lw_m8 126 rfl) rfl
theorem q1902 : (Jvm.Cond.sameMethod "FaceCoins$Reader" "FaceCoins$Reader" "find" "([Ljava/lang/String;)I") ∈ lw_all := lw_g (lw_at lw_m8 127 rfl) rfl
theorem q1905 : (Jvm.Cond.sameMethod "FaceCoins$Reader" "FaceCoins$Reader" "must" "(ZI)V") ∈ lw_all := lw_g (lw_at lw_m8 130 rfl) rfl
theorem q1908 : (Jvm.Cond.sameMethod "FaceCoins$Reader" "FaceCoins$Reader" "isName" "()Z") ∈ lw_all := lw_g (lw_at lw_m8 133 rfl) rfl
theorem q1911 : (Jvm.Cond.sameMethod "FaceCoins$Reader" "FaceCoins$Reader" "of" "([LFaceCoins$Named;I)I") ∈ lw_all := lw_g (lw_at lw_m8 136 rfl) rfl
/-! FaceCoins$LawReader -/
set_option maxRecDepth 100000
def RX6 : String := "FaceCoins$LawReader"
def TX6 : u_T := fun k => match k with
  | 0 => ("FaceCoins$Reader", "most", "I", true)
  | 1 => ("FaceCoins$Reader", "p", "I", false)
  | 2 => ("FaceCoins$Reader", "at", "I", false)
  | 3 => ("FaceCoins$Reader", "token", "I", false)
  | 4 => ("FaceCoins$Reader", "value", "I", false)
  | 5 => ("FaceCoins$Reader", "many", "I", false)
  | 6 => ("FaceCoins$Reader", "name", "J", false)
  | 7 => ("FaceCoins$Reader", "this$0", "LFaceCoins;", true)
  | 8 => ("FaceCoins$LawReader", "x", "LFaceCoins$Law;", false)
  | 9 => ("FaceCoins$LawReader", "had", "I", false)
  | _ => ("FaceCoins$LawReader", "this$0", "LFaceCoins;", true)
def tyX6 : Nat → FieldType := fun k => match k with
  | 0 => .int
  | 1 => .int
  | 2 => .int
  | 3 => .int
  | 4 => .int
  | 5 => .int
  | 6 => .long
  | 7 => .object "FaceCoins"
  | 8 => .object "FaceCoins$Law"
  | 9 => .int
  | _ => .object "FaceCoins"
abbrev wsX60 : List Cond := u_ws RX6 TX6 11
-- two fields of one name: no nmX6
theorem tyX6_ok : ∀ k, k < 11 → parseFieldDescriptor (TX6 k).2.2.1 = some (tyX6 k) := by decide +kernel
abbrev cX6_init : ByteArray := prog_8_method_1_code
def yX6_init : MethodName := ⟨RX6, "<init>", "(LFaceCoins;)V"⟩
def dkwX6_init_0 : List UInt8 := [42, 43, 181, 0, 3, 42, 43, 17, 2, 188, 183, 0, 9, 177]
abbrev dktX6_init_0 : List UInt8 := dkwX6_init_0 ++ []
theorem dksX6_init_0 : cX6_init.data.toList.drop 0 = dktX6_init_0 := by decide +kernel
theorem dX6_init_0 : decode cX6_init 0 = .ok (.aload_n 0, 1) := dk_42 (dk_at dksX6_init_0 0 rfl rfl)
theorem dX6_init_1 : decode cX6_init 1 = .ok (.aload_n 1, 1) := dk_43 (dk_at dksX6_init_0 1 rfl rfl)
theorem dX6_init_2 : decode cX6_init 2 = .ok (.putfield 3, 3) := dk_181 0 3 (dk_at dksX6_init_0 2 rfl rfl)
theorem dX6_init_5 : decode cX6_init 5 = .ok (.aload_n 0, 1) := dk_42 (dk_at dksX6_init_0 5 rfl rfl)
theorem dX6_init_6 : decode cX6_init 6 = .ok (.aload_n 1, 1) := dk_43 (dk_at dksX6_init_0 6 rfl rfl)
theorem dX6_init_7 : decode cX6_init 7 = .ok (.sipush 700, 3) := dk_17 2 188 (dk_at dksX6_init_0 7 rfl rfl)
theorem dX6_init_10 : decode cX6_init 10 = .ok (.invokespecial 9, 3) := dk_183 0 9 (dk_at dksX6_init_0 10 rfl rfl)
theorem dX6_init_13 : decode cX6_init 13 = .ok (.return_, 1) := dk_177 (dk_at dksX6_init_0 13 rfl rfl)
abbrev cX6_read : ByteArray := prog_8_method_2_code
def yX6_read : MethodName := ⟨RX6, "read", "(LFaceCoins$Law;)I"⟩
def dkwX6_read_6 : List UInt8 := [42, 29, 182, 0, 57, 42, 16, 59, 182, 0, 61, 132, 2, 1, 167, 255, 116, 28, 172]
abbrev dktX6_read_6 : List UInt8 := dkwX6_read_6 ++ []
def dkwX6_read_5 : List UInt8 := [167, 0, 4, 3, 7, 182, 0, 38, 42, 89, 180, 0, 19, 4, 29, 120, 128, 181, 0, 19, 42, 182, 0, 54]
abbrev dktX6_read_5 : List UInt8 := dkwX6_read_5 ++ dktX6_read_6
def dkwX6_read_4 : List UInt8 := [167, 0, 28, 3, 167, 0, 24, 29, 4, 160, 0, 14, 42, 180, 0, 15, 180, 0, 51, 7, 162, 0, 7, 4]
abbrev dktX6_read_4 : List UInt8 := dkwX6_read_4 ++ dktX6_read_5
def dkwX6_read_3 : List UInt8 := [3, 6, 182, 0, 38, 42, 29, 154, 0, 23, 42, 180, 0, 15, 180, 0, 46, 16, 8, 162, 0, 7, 4]
abbrev dktX6_read_3 : List UInt8 := dkwX6_read_3 ++ dktX6_read_4
def dkwX6_read_2 : List UInt8 := [182, 0, 38, 42, 29, 6, 161, 0, 14, 42, 180, 0, 19, 29, 184, 0, 42, 154, 0, 7, 4, 167, 0, 4]
abbrev dktX6_read_2 : List UInt8 := dkwX6_read_2 ++ dktX6_read_3
def dkwX6_read_1 : List UInt8 := [42, 180, 0, 3, 180, 0, 30, 182, 0, 34, 62, 42, 29, 2, 159, 0, 7, 4, 167, 0, 4, 3, 4]
abbrev dktX6_read_1 : List UInt8 := dkwX6_read_1 ++ dktX6_read_2
def dkwX6_read_0 : List UInt8 := [42, 43, 181, 0, 15, 42, 3, 181, 0, 19, 3, 61, 42, 182, 0, 23, 42, 180, 0, 27, 153, 0, 139, 42]
abbrev dktX6_read_0 : List UInt8 := dkwX6_read_0 ++ dktX6_read_1
theorem dksX6_read_0 : cX6_read.data.toList.drop 0 = dktX6_read_0 := by decide +kernel
theorem dksX6_read_1 : cX6_read.data.toList.drop 24 = dktX6_read_1 := dk_seg dksX6_read_0 24 rfl rfl
theorem dksX6_read_2 : cX6_read.data.toList.drop 47 = dktX6_read_2 := dk_seg dksX6_read_1 23 rfl rfl
theorem dksX6_read_3 : cX6_read.data.toList.drop 71 = dktX6_read_3 := dk_seg dksX6_read_2 24 rfl rfl
theorem dksX6_read_4 : cX6_read.data.toList.drop 94 = dktX6_read_4 := dk_seg dksX6_read_3 23 rfl rfl
theorem dksX6_read_5 : cX6_read.data.toList.drop 118 = dktX6_read_5 := dk_seg dksX6_read_4 24 rfl rfl
theorem dksX6_read_6 : cX6_read.data.toList.drop 142 = dktX6_read_6 := dk_seg dksX6_read_5 24 rfl rfl
theorem dX6_read_0 : decode cX6_read 0 = .ok (.aload_n 0, 1) := dk_42 (dk_at dksX6_read_0 0 rfl rfl)
theorem dX6_read_1 : decode cX6_read 1 = .ok (.aload_n 1, 1) := dk_43 (dk_at dksX6_read_0 1 rfl rfl)
theorem dX6_read_2 : decode cX6_read 2 = .ok (.putfield 15, 3) := dk_181 0 15 (dk_at dksX6_read_0 2 rfl rfl)
theorem dX6_read_5 : decode cX6_read 5 = .ok (.aload_n 0, 1) := dk_42 (dk_at dksX6_read_0 5 rfl rfl)
theorem dX6_read_6 : decode cX6_read 6 = .ok (.iconst 0, 1) := dk_3 (dk_at dksX6_read_0 6 rfl rfl)
theorem dX6_read_7 : decode cX6_read 7 = .ok (.putfield 19, 3) := dk_181 0 19 (dk_at dksX6_read_0 7 rfl rfl)
theorem dX6_read_10 : decode cX6_read 10 = .ok (.iconst 0, 1) := dk_3 (dk_at dksX6_read_0 10 rfl rfl)
theorem dX6_read_11 : decode cX6_read 11 = .ok (.istore_n 2, 1) := dk_61 (dk_at dksX6_read_0 11 rfl rfl)
theorem dX6_read_12 : decode cX6_read 12 = .ok (.aload_n 0, 1) := dk_42 (dk_at dksX6_read_0 12 rfl rfl)
theorem dX6_read_13 : decode cX6_read 13 = .ok (.invokevirtual 23, 3) := dk_182 0 23 (dk_at dksX6_read_0 13 rfl rfl)
theorem dX6_read_16 : decode cX6_read 16 = .ok (.aload_n 0, 1) := dk_42 (dk_at dksX6_read_0 16 rfl rfl)
theorem dX6_read_17 : decode cX6_read 17 = .ok (.getfield 27, 3) := dk_180 0 27 (dk_at dksX6_read_0 17 rfl rfl)
theorem dX6_read_20 : decode cX6_read 20 = .ok (.ifCond .eq 139, 3) := dk_153 0 139 (dk_at dksX6_read_0 20 rfl rfl)
theorem dX6_read_23 : decode cX6_read 23 = .ok (.aload_n 0, 1) := dk_42 (dk_at dksX6_read_0 23 rfl rfl)
theorem dX6_read_24 : decode cX6_read 24 = .ok (.aload_n 0, 1) := dk_42 (dk_at dksX6_read_1 0 rfl rfl)
theorem dX6_read_25 : decode cX6_read 25 = .ok (.getfield 3, 3) := dk_180 0 3 (dk_at dksX6_read_1 1 rfl rfl)
theorem dX6_read_28 : decode cX6_read 28 = .ok (.getfield 30, 3) := dk_180 0 30 (dk_at dksX6_read_1 4 rfl rfl)
theorem dX6_read_31 : decode cX6_read 31 = .ok (.invokevirtual 34, 3) := dk_182 0 34 (dk_at dksX6_read_1 7 rfl rfl)
theorem dX6_read_34 : decode cX6_read 34 = .ok (.istore_n 3, 1) := dk_62 (dk_at dksX6_read_1 10 rfl rfl)
theorem dX6_read_35 : decode cX6_read 35 = .ok (.aload_n 0, 1) := dk_42 (dk_at dksX6_read_1 11 rfl rfl)
theorem dX6_read_36 : decode cX6_read 36 = .ok (.iload_n 3, 1) := dk_29 (dk_at dksX6_read_1 12 rfl rfl)
theorem dX6_read_37 : decode cX6_read 37 = .ok (.iconst (-1), 1) := dk_2 (dk_at dksX6_read_1 13 rfl rfl)
theorem dX6_read_38 : decode cX6_read 38 = .ok (.if_icmp .eq 7, 3) := dk_159 0 7 (dk_at dksX6_read_1 14 rfl rfl)
theorem dX6_read_41 : decode cX6_read 41 = .ok (.iconst 1, 1) := dk_4 (dk_at dksX6_read_1 17 rfl rfl)
theorem dX6_read_42 : decode cX6_read 42 = .ok (.goto 4, 3) := dk_167 0 4 (dk_at dksX6_read_1 18 rfl rfl)
theorem dX6_read_45 : decode cX6_read 45 = .ok (.iconst 0, 1) := dk_3 (dk_at dksX6_read_1 21 rfl rfl)
theorem dX6_read_46 : decode cX6_read 46 = .ok (.iconst 1, 1) := dk_4 (dk_at dksX6_read_1 22 rfl rfl)
theorem dX6_read_47 : decode cX6_read 47 = .ok (.invokevirtual 38, 3) := dk_182 0 38 (dk_at dksX6_read_2 0 rfl rfl)
theorem dX6_read_50 : decode cX6_read 50 = .ok (.aload_n 0, 1) := dk_42 (dk_at dksX6_read_2 3 rfl rfl)
theorem dX6_read_51 : decode cX6_read 51 = .ok (.iload_n 3, 1) := dk_29 (dk_at dksX6_read_2 4 rfl rfl)
theorem dX6_read_52 : decode cX6_read 52 = .ok (.iconst 3, 1) := dk_6 (dk_at dksX6_read_2 5 rfl rfl)
theorem dX6_read_53 : decode cX6_read 53 = .ok (.if_icmp .lt 14, 3) := dk_161 0 14 (dk_at dksX6_read_2 6 rfl rfl)
theorem dX6_read_56 : decode cX6_read 56 = .ok (.aload_n 0, 1) := dk_42 (dk_at dksX6_read_2 9 rfl rfl)
theorem dX6_read_57 : decode cX6_read 57 = .ok (.getfield 19, 3) := dk_180 0 19 (dk_at dksX6_read_2 10 rfl rfl)
theorem dX6_read_60 : decode cX6_read 60 = .ok (.iload_n 3, 1) := dk_29 (dk_at dksX6_read_2 13 rfl rfl)
theorem dX6_read_61 : decode cX6_read 61 = .ok (.invokestatic 42, 3) := dk_184 0 42 (dk_at dksX6_read_2 14 rfl rfl)
theorem dX6_read_64 : decode cX6_read 64 = .ok (.ifCond .ne 7, 3) := dk_154 0 7 (dk_at dksX6_read_2 17 rfl rfl)
theorem dX6_read_67 : decode cX6_read 67 = .ok (.iconst 1, 1) := dk_4 (dk_at dksX6_read_2 20 rfl rfl)
theorem dX6_read_68 : decode cX6_read 68 = .ok (.goto 4, 3) := dk_167 0 4 (dk_at dksX6_read_2 21 rfl rfl)
theorem dX6_read_71 : decode cX6_read 71 = .ok (.iconst 0, 1) := dk_3 (dk_at dksX6_read_3 0 rfl rfl)
theorem dX6_read_72 : decode cX6_read 72 = .ok (.iconst 3, 1) := dk_6 (dk_at dksX6_read_3 1 rfl rfl)
theorem dX6_read_73 : decode cX6_read 73 = .ok (.invokevirtual 38, 3) := dk_182 0 38 (dk_at dksX6_read_3 2 rfl rfl)
theorem dX6_read_76 : decode cX6_read 76 = .ok (.aload_n 0, 1) := dk_42 (dk_at dksX6_read_3 5 rfl rfl)
theorem dX6_read_77 : decode cX6_read 77 = .ok (.iload_n 3, 1) := dk_29 (dk_at dksX6_read_3 6 rfl rfl)
theorem dX6_read_78 : decode cX6_read 78 = .ok (.ifCond .ne 23, 3) := dk_154 0 23 (dk_at dksX6_read_3 7 rfl rfl)
theorem dX6_read_81 : decode cX6_read 81 = .ok (.aload_n 0, 1) := dk_42 (dk_at dksX6_read_3 10 rfl rfl)
theorem dX6_read_82 : decode cX6_read 82 = .ok (.getfield 15, 3) := dk_180 0 15 (dk_at dksX6_read_3 11 rfl rfl)
theorem dX6_read_85 : decode cX6_read 85 = .ok (.getfield 46, 3) := dk_180 0 46 (dk_at dksX6_read_3 14 rfl rfl)
theorem dX6_read_88 : decode cX6_read 88 = .ok (.bipush 8, 2) := dk_16 8 (dk_at dksX6_read_3 17 rfl rfl)
theorem dX6_read_90 : decode cX6_read 90 = .ok (.if_icmp .ge 7, 3) := dk_162 0 7 (dk_at dksX6_read_3 19 rfl rfl)
theorem dX6_read_93 : decode cX6_read 93 = .ok (.iconst 1, 1) := dk_4 (dk_at dksX6_read_3 22 rfl rfl)
theorem dX6_read_94 : decode cX6_read 94 = .ok (.goto 28, 3) := dk_167 0 28 (dk_at dksX6_read_4 0 rfl rfl)
theorem dX6_read_97 : decode cX6_read 97 = .ok (.iconst 0, 1) := dk_3 (dk_at dksX6_read_4 3 rfl rfl)
theorem dX6_read_98 : decode cX6_read 98 = .ok (.goto 24, 3) := dk_167 0 24 (dk_at dksX6_read_4 4 rfl rfl)
theorem dX6_read_101 : decode cX6_read 101 = .ok (.iload_n 3, 1) := dk_29 (dk_at dksX6_read_4 7 rfl rfl)
theorem dX6_read_102 : decode cX6_read 102 = .ok (.iconst 1, 1) := dk_4 (dk_at dksX6_read_4 8 rfl rfl)
theorem dX6_read_103 : decode cX6_read 103 = .ok (.if_icmp .ne 14, 3) := dk_160 0 14 (dk_at dksX6_read_4 9 rfl rfl)
theorem dX6_read_106 : decode cX6_read 106 = .ok (.aload_n 0, 1) := dk_42 (dk_at dksX6_read_4 12 rfl rfl)
theorem dX6_read_107 : decode cX6_read 107 = .ok (.getfield 15, 3) := dk_180 0 15 (dk_at dksX6_read_4 13 rfl rfl)
theorem dX6_read_110 : decode cX6_read 110 = .ok (.getfield 51, 3) := dk_180 0 51 (dk_at dksX6_read_4 16 rfl rfl)
theorem dX6_read_113 : decode cX6_read 113 = .ok (.iconst 4, 1) := dk_7 (dk_at dksX6_read_4 19 rfl rfl)
theorem dX6_read_114 : decode cX6_read 114 = .ok (.if_icmp .ge 7, 3) := dk_162 0 7 (dk_at dksX6_read_4 20 rfl rfl)
theorem dX6_read_117 : decode cX6_read 117 = .ok (.iconst 1, 1) := dk_4 (dk_at dksX6_read_4 23 rfl rfl)
theorem dX6_read_118 : decode cX6_read 118 = .ok (.goto 4, 3) := dk_167 0 4 (dk_at dksX6_read_5 0 rfl rfl)
theorem dX6_read_121 : decode cX6_read 121 = .ok (.iconst 0, 1) := dk_3 (dk_at dksX6_read_5 3 rfl rfl)
theorem dX6_read_122 : decode cX6_read 122 = .ok (.iconst 4, 1) := dk_7 (dk_at dksX6_read_5 4 rfl rfl)
theorem dX6_read_123 : decode cX6_read 123 = .ok (.invokevirtual 38, 3) := dk_182 0 38 (dk_at dksX6_read_5 5 rfl rfl)
theorem dX6_read_126 : decode cX6_read 126 = .ok (.aload_n 0, 1) := dk_42 (dk_at dksX6_read_5 8 rfl rfl)
theorem dX6_read_127 : decode cX6_read 127 = .ok (.dup, 1) := dk_89 (dk_at dksX6_read_5 9 rfl rfl)
theorem dX6_read_128 : decode cX6_read 128 = .ok (.getfield 19, 3) := dk_180 0 19 (dk_at dksX6_read_5 10 rfl rfl)
theorem dX6_read_131 : decode cX6_read 131 = .ok (.iconst 1, 1) := dk_4 (dk_at dksX6_read_5 13 rfl rfl)
theorem dX6_read_132 : decode cX6_read 132 = .ok (.iload_n 3, 1) := dk_29 (dk_at dksX6_read_5 14 rfl rfl)
theorem dX6_read_133 : decode cX6_read 133 = .ok (.ishl, 1) := dk_120 (dk_at dksX6_read_5 15 rfl rfl)
theorem dX6_read_134 : decode cX6_read 134 = .ok (.ior, 1) := dk_128 (dk_at dksX6_read_5 16 rfl rfl)
theorem dX6_read_135 : decode cX6_read 135 = .ok (.putfield 19, 3) := dk_181 0 19 (dk_at dksX6_read_5 17 rfl rfl)
theorem dX6_read_138 : decode cX6_read 138 = .ok (.aload_n 0, 1) := dk_42 (dk_at dksX6_read_5 20 rfl rfl)
theorem dX6_read_139 : decode cX6_read 139 = .ok (.invokevirtual 54, 3) := dk_182 0 54 (dk_at dksX6_read_5 21 rfl rfl)
theorem dX6_read_142 : decode cX6_read 142 = .ok (.aload_n 0, 1) := dk_42 (dk_at dksX6_read_6 0 rfl rfl)
theorem dX6_read_143 : decode cX6_read 143 = .ok (.iload_n 3, 1) := dk_29 (dk_at dksX6_read_6 1 rfl rfl)
theorem dX6_read_144 : decode cX6_read 144 = .ok (.invokevirtual 57, 3) := dk_182 0 57 (dk_at dksX6_read_6 2 rfl rfl)
theorem dX6_read_147 : decode cX6_read 147 = .ok (.aload_n 0, 1) := dk_42 (dk_at dksX6_read_6 5 rfl rfl)
theorem dX6_read_148 : decode cX6_read 148 = .ok (.bipush 59, 2) := dk_16 59 (dk_at dksX6_read_6 6 rfl rfl)
theorem dX6_read_150 : decode cX6_read 150 = .ok (.invokevirtual 61, 3) := dk_182 0 61 (dk_at dksX6_read_6 8 rfl rfl)
theorem dX6_read_153 : decode cX6_read 153 = .ok (.iinc 2 1, 3) := dk_132 2 1 (dk_at dksX6_read_6 11 rfl rfl)
theorem dX6_read_156 : decode cX6_read 156 = .ok (.goto (-140), 3) := dk_167 255 116 (dk_at dksX6_read_6 14 rfl rfl)
theorem dX6_read_159 : decode cX6_read 159 = .ok (.iload_n 2, 1) := dk_28 (dk_at dksX6_read_6 17 rfl rfl)
theorem dX6_read_160 : decode cX6_read 160 = .ok (.ireturn, 1) := dk_172 (dk_at dksX6_read_6 18 rfl rfl)
abbrev cX6_line : ByteArray := prog_8_method_5_code
def yX6_line : MethodName := ⟨RX6, "line", "(I)V"⟩
def dkwX6_line_15 : List UInt8 := [180, 0, 15, 42, 4, 16, 9, 182, 0, 109, 181, 0, 136, 177]
abbrev dktX6_line_15 : List UInt8 := dkwX6_line_15 ++ []
def dkwX6_line_14 : List UInt8 := [167, 0, 35, 42, 180, 0, 15, 42, 4, 17, 3, 231, 182, 0, 109, 181, 0, 133, 167, 0, 17, 42]
abbrev dktX6_line_14 : List UInt8 := dkwX6_line_14 ++ dktX6_line_15
def dkwX6_line_13 : List UInt8 := [182, 0, 109, 181, 0, 127, 167, 0, 53, 42, 180, 0, 15, 42, 3, 17, 0, 200, 182, 0, 109, 181, 0, 130]
abbrev dktX6_line_13 : List UInt8 := dkwX6_line_13 ++ dktX6_line_14
def dkwX6_line_12 : List UInt8 := [180, 0, 15, 89, 180, 0, 124, 4, 96, 181, 0, 124, 167, 0, 70, 42, 180, 0, 15, 42, 3, 16, 100]
abbrev dktX6_line_12 : List UInt8 := dkwX6_line_12 ++ dktX6_line_13
def dkwX6_line_11 : List UInt8 := [180, 0, 15, 180, 0, 68, 28, 50, 180, 0, 121, 29, 42, 3, 17, 0, 200, 182, 0, 109, 79, 42]
abbrev dktX6_line_11 : List UInt8 := dkwX6_line_11 ++ dktX6_line_12
def dkwX6_line_10 : List UInt8 := [50, 180, 0, 121, 29, 46, 2, 160, 0, 7, 4, 167, 0, 4, 3, 6, 182, 0, 38, 42, 182, 0, 54, 42]
abbrev dktX6_line_10 : List UInt8 := dkwX6_line_10 ++ dktX6_line_11
def dkwX6_line_9 : List UInt8 := [180, 0, 15, 180, 0, 46, 182, 0, 72, 62, 42, 29, 2, 159, 0, 25, 42, 180, 0, 15, 180, 0, 68, 28]
abbrev dktX6_line_9 : List UInt8 := dkwX6_line_9 ++ dktX6_line_10
def dkwX6_line_8 : List UInt8 := [182, 0, 118, 61, 42, 42, 182, 0, 64, 4, 182, 0, 38, 42, 42, 180, 0, 15, 180, 0, 68, 42]
abbrev dktX6_line_8 : List UInt8 := dkwX6_line_8 ++ dktX6_line_9
def dkwX6_line_7 : List UInt8 := [96, 181, 0, 51, 167, 0, 192, 42, 42, 180, 0, 15, 180, 0, 68, 42, 180, 0, 15, 180, 0, 46]
abbrev dktX6_line_7 : List UInt8 := dkwX6_line_7 ++ dktX6_line_8
def dkwX6_line_6 : List UInt8 := [89, 32, 21, 4, 42, 4, 16, 9, 182, 0, 109, 183, 0, 115, 83, 42, 180, 0, 15, 89, 180, 0, 51, 4]
abbrev dktX6_line_6 : List UInt8 := dkwX6_line_6 ++ dktX6_line_7
def dkwX6_line_5 : List UInt8 := [16, 50, 182, 0, 109, 54, 4, 42, 180, 0, 15, 180, 0, 76, 42, 180, 0, 15, 180, 0, 51, 187, 0, 113]
abbrev dktX6_line_5 : List UInt8 := dkwX6_line_5 ++ dktX6_line_6
def dkwX6_line_4 : List UInt8 := [42, 180, 0, 15, 89, 180, 0, 46, 4, 96, 181, 0, 46, 167, 0, 254, 42, 182, 0, 90, 65, 42, 4]
abbrev dktX6_line_4 : List UInt8 := dkwX6_line_4 ++ dktX6_line_5
def dkwX6_line_3 : List UInt8 := [18, 105, 182, 0, 99, 181, 0, 107, 42, 180, 0, 15, 180, 0, 68, 42, 180, 0, 15, 180, 0, 46, 44, 83]
abbrev dktX6_line_3 : List UInt8 := dkwX6_line_3 ++ dktX6_line_4
def dkwX6_line_2 : List UInt8 := [187, 0, 88, 89, 42, 182, 0, 90, 183, 0, 94, 77, 44, 42, 18, 97, 182, 0, 99, 181, 0, 102, 44, 42]
abbrev dktX6_line_2 : List UInt8 := dkwX6_line_2 ++ dktX6_line_3
def dkwX6_line_1 : List UInt8 := [170, 0, 0, 0, 0, 1, 84, 0, 0, 0, 0, 0, 0, 0, 5, 0, 0, 0, 39, 0, 0, 0, 103, 0, 0, 0, 165, 0, 0, 1, 31, 0, 0, 1, 48, 0, 0, 1, 66]
abbrev dktX6_line_1 : List UInt8 := dkwX6_line_1 ++ dktX6_line_2
def dkwX6_line_0 : List UInt8 := [27]
abbrev dktX6_line_0 : List UInt8 := dkwX6_line_0 ++ dktX6_line_1
theorem dksX6_line_0 : cX6_line.data.toList.drop 0 = dktX6_line_0 := by decide +kernel
theorem dksX6_line_1 : cX6_line.data.toList.drop 1 = dktX6_line_1 := dk_seg dksX6_line_0 1 rfl rfl
theorem dksX6_line_2 : cX6_line.data.toList.drop 40 = dktX6_line_2 := dk_seg dksX6_line_1 39 rfl rfl
theorem dksX6_line_3 : cX6_line.data.toList.drop 64 = dktX6_line_3 := dk_seg dksX6_line_2 24 rfl rfl
theorem dksX6_line_4 : cX6_line.data.toList.drop 88 = dktX6_line_4 := dk_seg dksX6_line_3 24 rfl rfl
theorem dksX6_line_5 : cX6_line.data.toList.drop 111 = dktX6_line_5 := dk_seg dksX6_line_4 23 rfl rfl
theorem dksX6_line_6 : cX6_line.data.toList.drop 135 = dktX6_line_6 := dk_seg dksX6_line_5 24 rfl rfl
theorem dksX6_line_7 : cX6_line.data.toList.drop 159 = dktX6_line_7 := dk_seg dksX6_line_6 24 rfl rfl
theorem dksX6_line_8 : cX6_line.data.toList.drop 181 = dktX6_line_8 := dk_seg dksX6_line_7 22 rfl rfl
theorem dksX6_line_9 : cX6_line.data.toList.drop 203 = dktX6_line_9 := dk_seg dksX6_line_8 22 rfl rfl
theorem dksX6_line_10 : cX6_line.data.toList.drop 227 = dktX6_line_10 := dk_seg dksX6_line_9 24 rfl rfl
theorem dksX6_line_11 : cX6_line.data.toList.drop 251 = dktX6_line_11 := dk_seg dksX6_line_10 24 rfl rfl
theorem dksX6_line_12 : cX6_line.data.toList.drop 273 = dktX6_line_12 := dk_seg dksX6_line_11 22 rfl rfl
theorem dksX6_line_13 : cX6_line.data.toList.drop 296 = dktX6_line_13 := dk_seg dksX6_line_12 23 rfl rfl
theorem dksX6_line_14 : cX6_line.data.toList.drop 320 = dktX6_line_14 := dk_seg dksX6_line_13 24 rfl rfl
theorem dksX6_line_15 : cX6_line.data.toList.drop 342 = dktX6_line_15 := dk_seg dksX6_line_14 22 rfl rfl
theorem dX6_line_0 : decode cX6_line 0 = .ok (.iload_n 1, 1) := dk_27 (dk_at dksX6_line_0 0 rfl rfl)
theorem dX6_line_1 : decode cX6_line 1 = .ok (.tableswitch 340 0 5 #[39, 103, 165, 287, 304, 322], 39) := by decide +kernel
theorem dX6_line_40 : decode cX6_line 40 = .ok (.new 88, 3) := dk_187 0 88 (dk_at dksX6_line_2 0 rfl rfl)
theorem dX6_line_43 : decode cX6_line 43 = .ok (.dup, 1) := dk_89 (dk_at dksX6_line_2 3 rfl rfl)
theorem dX6_line_44 : decode cX6_line 44 = .ok (.aload_n 0, 1) := dk_42 (dk_at dksX6_line_2 4 rfl rfl)
theorem dX6_line_45 : decode cX6_line 45 = .ok (.invokevirtual 90, 3) := dk_182 0 90 (dk_at dksX6_line_2 5 rfl rfl)
theorem dX6_line_48 : decode cX6_line 48 = .ok (.invokespecial 94, 3) := dk_183 0 94 (dk_at dksX6_line_2 8 rfl rfl)
theorem dX6_line_51 : decode cX6_line 51 = .ok (.astore_n 2, 1) := dk_77 (dk_at dksX6_line_2 11 rfl rfl)
theorem dX6_line_52 : decode cX6_line 52 = .ok (.aload_n 2, 1) := dk_44 (dk_at dksX6_line_2 12 rfl rfl)
theorem dX6_line_53 : decode cX6_line 53 = .ok (.aload_n 0, 1) := dk_42 (dk_at dksX6_line_2 13 rfl rfl)
theorem dX6_line_54 : decode cX6_line 54 = .ok (.ldc 97, 2) := dk_18 97 (dk_at dksX6_line_2 14 rfl rfl)
theorem dX6_line_56 : decode cX6_line 56 = .ok (.invokevirtual 99, 3) := dk_182 0 99 (dk_at dksX6_line_2 16 rfl rfl)
theorem dX6_line_59 : decode cX6_line 59 = .ok (.putfield 102, 3) := dk_181 0 102 (dk_at dksX6_line_2 19 rfl rfl)
theorem dX6_line_62 : decode cX6_line 62 = .ok (.aload_n 2, 1) := dk_44 (dk_at dksX6_line_2 22 rfl rfl)
theorem dX6_line_63 : decode cX6_line 63 = .ok (.aload_n 0, 1) := dk_42 (dk_at dksX6_line_2 23 rfl rfl)
theorem dX6_line_64 : decode cX6_line 64 = .ok (.ldc 105, 2) := dk_18 105 (dk_at dksX6_line_3 0 rfl rfl)
theorem dX6_line_66 : decode cX6_line 66 = .ok (.invokevirtual 99, 3) := dk_182 0 99 (dk_at dksX6_line_3 2 rfl rfl)
theorem dX6_line_69 : decode cX6_line 69 = .ok (.putfield 107, 3) := dk_181 0 107 (dk_at dksX6_line_3 5 rfl rfl)
theorem dX6_line_72 : decode cX6_line 72 = .ok (.aload_n 0, 1) := dk_42 (dk_at dksX6_line_3 8 rfl rfl)
theorem dX6_line_73 : decode cX6_line 73 = .ok (.getfield 15, 3) := dk_180 0 15 (dk_at dksX6_line_3 9 rfl rfl)
theorem dX6_line_76 : decode cX6_line 76 = .ok (.getfield 68, 3) := dk_180 0 68 (dk_at dksX6_line_3 12 rfl rfl)
theorem dX6_line_79 : decode cX6_line 79 = .ok (.aload_n 0, 1) := dk_42 (dk_at dksX6_line_3 15 rfl rfl)
theorem dX6_line_80 : decode cX6_line 80 = .ok (.getfield 15, 3) := dk_180 0 15 (dk_at dksX6_line_3 16 rfl rfl)
theorem dX6_line_83 : decode cX6_line 83 = .ok (.getfield 46, 3) := dk_180 0 46 (dk_at dksX6_line_3 19 rfl rfl)
theorem dX6_line_86 : decode cX6_line 86 = .ok (.aload_n 2, 1) := dk_44 (dk_at dksX6_line_3 22 rfl rfl)
theorem dX6_line_87 : decode cX6_line 87 = .ok (.aastore, 1) := dk_83 (dk_at dksX6_line_3 23 rfl rfl)
theorem dX6_line_88 : decode cX6_line 88 = .ok (.aload_n 0, 1) := dk_42 (dk_at dksX6_line_4 0 rfl rfl)
theorem dX6_line_89 : decode cX6_line 89 = .ok (.getfield 15, 3) := dk_180 0 15 (dk_at dksX6_line_4 1 rfl rfl)
theorem dX6_line_92 : decode cX6_line 92 = .ok (.dup, 1) := dk_89 (dk_at dksX6_line_4 4 rfl rfl)
theorem dX6_line_93 : decode cX6_line 93 = .ok (.getfield 46, 3) := dk_180 0 46 (dk_at dksX6_line_4 5 rfl rfl)
theorem dX6_line_96 : decode cX6_line 96 = .ok (.iconst 1, 1) := dk_4 (dk_at dksX6_line_4 8 rfl rfl)
theorem dX6_line_97 : decode cX6_line 97 = .ok (.iadd, 1) := dk_96 (dk_at dksX6_line_4 9 rfl rfl)
theorem dX6_line_98 : decode cX6_line 98 = .ok (.putfield 46, 3) := dk_181 0 46 (dk_at dksX6_line_4 10 rfl rfl)
theorem dX6_line_101 : decode cX6_line 101 = .ok (.goto 254, 3) := dk_167 0 254 (dk_at dksX6_line_4 13 rfl rfl)
theorem dX6_line_104 : decode cX6_line 104 = .ok (.aload_n 0, 1) := dk_42 (dk_at dksX6_line_4 16 rfl rfl)
theorem dX6_line_105 : decode cX6_line 105 = .ok (.invokevirtual 90, 3) := dk_182 0 90 (dk_at dksX6_line_4 17 rfl rfl)
theorem dX6_line_108 : decode cX6_line 108 = .ok (.lstore_n 2, 1) := dk_65 (dk_at dksX6_line_4 20 rfl rfl)
theorem dX6_line_109 : decode cX6_line 109 = .ok (.aload_n 0, 1) := dk_42 (dk_at dksX6_line_4 21 rfl rfl)
theorem dX6_line_110 : decode cX6_line 110 = .ok (.iconst 1, 1) := dk_4 (dk_at dksX6_line_4 22 rfl rfl)
theorem dX6_line_111 : decode cX6_line 111 = .ok (.bipush 50, 2) := dk_16 50 (dk_at dksX6_line_5 0 rfl rfl)
theorem dX6_line_113 : decode cX6_line 113 = .ok (.invokevirtual 109, 3) := dk_182 0 109 (dk_at dksX6_line_5 2 rfl rfl)
theorem dX6_line_116 : decode cX6_line 116 = .ok (.istore 4, 2) := dk_54 4 (dk_at dksX6_line_5 5 rfl rfl)
theorem dX6_line_118 : decode cX6_line 118 = .ok (.aload_n 0, 1) := dk_42 (dk_at dksX6_line_5 7 rfl rfl)
theorem dX6_line_119 : decode cX6_line 119 = .ok (.getfield 15, 3) := dk_180 0 15 (dk_at dksX6_line_5 8 rfl rfl)
theorem dX6_line_122 : decode cX6_line 122 = .ok (.getfield 76, 3) := dk_180 0 76 (dk_at dksX6_line_5 11 rfl rfl)
theorem dX6_line_125 : decode cX6_line 125 = .ok (.aload_n 0, 1) := dk_42 (dk_at dksX6_line_5 14 rfl rfl)
theorem dX6_line_126 : decode cX6_line 126 = .ok (.getfield 15, 3) := dk_180 0 15 (dk_at dksX6_line_5 15 rfl rfl)
theorem dX6_line_129 : decode cX6_line 129 = .ok (.getfield 51, 3) := dk_180 0 51 (dk_at dksX6_line_5 18 rfl rfl)
theorem dX6_line_132 : decode cX6_line 132 = .ok (.new 113, 3) := dk_187 0 113 (dk_at dksX6_line_5 21 rfl rfl)
theorem dX6_line_135 : decode cX6_line 135 = .ok (.dup, 1) := dk_89 (dk_at dksX6_line_6 0 rfl rfl)
theorem dX6_line_136 : decode cX6_line 136 = .ok (.lload_n 2, 1) := dk_32 (dk_at dksX6_line_6 1 rfl rfl)
theorem dX6_line_137 : decode cX6_line 137 = .ok (.iload 4, 2) := dk_21 4 (dk_at dksX6_line_6 2 rfl rfl)
theorem dX6_line_139 : decode cX6_line 139 = .ok (.aload_n 0, 1) := dk_42 (dk_at dksX6_line_6 4 rfl rfl)
theorem dX6_line_140 : decode cX6_line 140 = .ok (.iconst 1, 1) := dk_4 (dk_at dksX6_line_6 5 rfl rfl)
theorem dX6_line_141 : decode cX6_line 141 = .ok (.bipush 9, 2) := dk_16 9 (dk_at dksX6_line_6 6 rfl rfl)
theorem dX6_line_143 : decode cX6_line 143 = .ok (.invokevirtual 109, 3) := dk_182 0 109 (dk_at dksX6_line_6 8 rfl rfl)
theorem dX6_line_146 : decode cX6_line 146 = .ok (.invokespecial 115, 3) := dk_183 0 115 (dk_at dksX6_line_6 11 rfl rfl)
theorem dX6_line_149 : decode cX6_line 149 = .ok (.aastore, 1) := dk_83 (dk_at dksX6_line_6 14 rfl rfl)
theorem dX6_line_150 : decode cX6_line 150 = .ok (.aload_n 0, 1) := dk_42 (dk_at dksX6_line_6 15 rfl rfl)
theorem dX6_line_151 : decode cX6_line 151 = .ok (.getfield 15, 3) := dk_180 0 15 (dk_at dksX6_line_6 16 rfl rfl)
theorem dX6_line_154 : decode cX6_line 154 = .ok (.dup, 1) := dk_89 (dk_at dksX6_line_6 19 rfl rfl)
theorem dX6_line_155 : decode cX6_line 155 = .ok (.getfield 51, 3) := dk_180 0 51 (dk_at dksX6_line_6 20 rfl rfl)
theorem dX6_line_158 : decode cX6_line 158 = .ok (.iconst 1, 1) := dk_4 (dk_at dksX6_line_6 23 rfl rfl)
theorem dX6_line_159 : decode cX6_line 159 = .ok (.iadd, 1) := dk_96 (dk_at dksX6_line_7 0 rfl rfl)
theorem dX6_line_160 : decode cX6_line 160 = .ok (.putfield 51, 3) := dk_181 0 51 (dk_at dksX6_line_7 1 rfl rfl)
theorem dX6_line_163 : decode cX6_line 163 = .ok (.goto 192, 3) := dk_167 0 192 (dk_at dksX6_line_7 4 rfl rfl)
theorem dX6_line_166 : decode cX6_line 166 = .ok (.aload_n 0, 1) := dk_42 (dk_at dksX6_line_7 7 rfl rfl)
theorem dX6_line_167 : decode cX6_line 167 = .ok (.aload_n 0, 1) := dk_42 (dk_at dksX6_line_7 8 rfl rfl)
theorem dX6_line_168 : decode cX6_line 168 = .ok (.getfield 15, 3) := dk_180 0 15 (dk_at dksX6_line_7 9 rfl rfl)
theorem dX6_line_171 : decode cX6_line 171 = .ok (.getfield 68, 3) := dk_180 0 68 (dk_at dksX6_line_7 12 rfl rfl)
theorem dX6_line_174 : decode cX6_line 174 = .ok (.aload_n 0, 1) := dk_42 (dk_at dksX6_line_7 15 rfl rfl)
theorem dX6_line_175 : decode cX6_line 175 = .ok (.getfield 15, 3) := dk_180 0 15 (dk_at dksX6_line_7 16 rfl rfl)
theorem dX6_line_178 : decode cX6_line 178 = .ok (.getfield 46, 3) := dk_180 0 46 (dk_at dksX6_line_7 19 rfl rfl)
theorem dX6_line_181 : decode cX6_line 181 = .ok (.invokevirtual 118, 3) := dk_182 0 118 (dk_at dksX6_line_8 0 rfl rfl)
theorem dX6_line_184 : decode cX6_line 184 = .ok (.istore_n 2, 1) := dk_61 (dk_at dksX6_line_8 3 rfl rfl)
theorem dX6_line_185 : decode cX6_line 185 = .ok (.aload_n 0, 1) := dk_42 (dk_at dksX6_line_8 4 rfl rfl)
theorem dX6_line_186 : decode cX6_line 186 = .ok (.aload_n 0, 1) := dk_42 (dk_at dksX6_line_8 5 rfl rfl)
theorem dX6_line_187 : decode cX6_line 187 = .ok (.invokevirtual 64, 3) := dk_182 0 64 (dk_at dksX6_line_8 6 rfl rfl)
theorem dX6_line_190 : decode cX6_line 190 = .ok (.iconst 1, 1) := dk_4 (dk_at dksX6_line_8 9 rfl rfl)
theorem dX6_line_191 : decode cX6_line 191 = .ok (.invokevirtual 38, 3) := dk_182 0 38 (dk_at dksX6_line_8 10 rfl rfl)
theorem dX6_line_194 : decode cX6_line 194 = .ok (.aload_n 0, 1) := dk_42 (dk_at dksX6_line_8 13 rfl rfl)
theorem dX6_line_195 : decode cX6_line 195 = .ok (.aload_n 0, 1) := dk_42 (dk_at dksX6_line_8 14 rfl rfl)
theorem dX6_line_196 : decode cX6_line 196 = .ok (.getfield 15, 3) := dk_180 0 15 (dk_at dksX6_line_8 15 rfl rfl)
theorem dX6_line_199 : decode cX6_line 199 = .ok (.getfield 68, 3) := dk_180 0 68 (dk_at dksX6_line_8 18 rfl rfl)
theorem dX6_line_202 : decode cX6_line 202 = .ok (.aload_n 0, 1) := dk_42 (dk_at dksX6_line_8 21 rfl rfl)
theorem dX6_line_203 : decode cX6_line 203 = .ok (.getfield 15, 3) := dk_180 0 15 (dk_at dksX6_line_9 0 rfl rfl)
theorem dX6_line_206 : decode cX6_line 206 = .ok (.getfield 46, 3) := dk_180 0 46 (dk_at dksX6_line_9 3 rfl rfl)
theorem dX6_line_209 : decode cX6_line 209 = .ok (.invokevirtual 72, 3) := dk_182 0 72 (dk_at dksX6_line_9 6 rfl rfl)
theorem dX6_line_212 : decode cX6_line 212 = .ok (.istore_n 3, 1) := dk_62 (dk_at dksX6_line_9 9 rfl rfl)
theorem dX6_line_213 : decode cX6_line 213 = .ok (.aload_n 0, 1) := dk_42 (dk_at dksX6_line_9 10 rfl rfl)
theorem dX6_line_214 : decode cX6_line 214 = .ok (.iload_n 3, 1) := dk_29 (dk_at dksX6_line_9 11 rfl rfl)
theorem dX6_line_215 : decode cX6_line 215 = .ok (.iconst (-1), 1) := dk_2 (dk_at dksX6_line_9 12 rfl rfl)
theorem dX6_line_216 : decode cX6_line 216 = .ok (.if_icmp .eq 25, 3) := dk_159 0 25 (dk_at dksX6_line_9 13 rfl rfl)
theorem dX6_line_219 : decode cX6_line 219 = .ok (.aload_n 0, 1) := dk_42 (dk_at dksX6_line_9 16 rfl rfl)
theorem dX6_line_220 : decode cX6_line 220 = .ok (.getfield 15, 3) := dk_180 0 15 (dk_at dksX6_line_9 17 rfl rfl)
theorem dX6_line_223 : decode cX6_line 223 = .ok (.getfield 68, 3) := dk_180 0 68 (dk_at dksX6_line_9 20 rfl rfl)
theorem dX6_line_226 : decode cX6_line 226 = .ok (.iload_n 2, 1) := dk_28 (dk_at dksX6_line_9 23 rfl rfl)
theorem dX6_line_227 : decode cX6_line 227 = .ok (.aaload, 1) := dk_50 (dk_at dksX6_line_10 0 rfl rfl)
theorem dX6_line_228 : decode cX6_line 228 = .ok (.getfield 121, 3) := dk_180 0 121 (dk_at dksX6_line_10 1 rfl rfl)
theorem dX6_line_231 : decode cX6_line 231 = .ok (.iload_n 3, 1) := dk_29 (dk_at dksX6_line_10 4 rfl rfl)
theorem dX6_line_232 : decode cX6_line 232 = .ok (.iaload, 1) := dk_46 (dk_at dksX6_line_10 5 rfl rfl)
theorem dX6_line_233 : decode cX6_line 233 = .ok (.iconst (-1), 1) := dk_2 (dk_at dksX6_line_10 6 rfl rfl)
theorem dX6_line_234 : decode cX6_line 234 = .ok (.if_icmp .ne 7, 3) := dk_160 0 7 (dk_at dksX6_line_10 7 rfl rfl)
theorem dX6_line_237 : decode cX6_line 237 = .ok (.iconst 1, 1) := dk_4 (dk_at dksX6_line_10 10 rfl rfl)
theorem dX6_line_238 : decode cX6_line 238 = .ok (.goto 4, 3) := dk_167 0 4 (dk_at dksX6_line_10 11 rfl rfl)
theorem dX6_line_241 : decode cX6_line 241 = .ok (.iconst 0, 1) := dk_3 (dk_at dksX6_line_10 14 rfl rfl)
theorem dX6_line_242 : decode cX6_line 242 = .ok (.iconst 3, 1) := dk_6 (dk_at dksX6_line_10 15 rfl rfl)
theorem dX6_line_243 : decode cX6_line 243 = .ok (.invokevirtual 38, 3) := dk_182 0 38 (dk_at dksX6_line_10 16 rfl rfl)
theorem dX6_line_246 : decode cX6_line 246 = .ok (.aload_n 0, 1) := dk_42 (dk_at dksX6_line_10 19 rfl rfl)
theorem dX6_line_247 : decode cX6_line 247 = .ok (.invokevirtual 54, 3) := dk_182 0 54 (dk_at dksX6_line_10 20 rfl rfl)
theorem dX6_line_250 : decode cX6_line 250 = .ok (.aload_n 0, 1) := dk_42 (dk_at dksX6_line_10 23 rfl rfl)
theorem dX6_line_251 : decode cX6_line 251 = .ok (.getfield 15, 3) := dk_180 0 15 (dk_at dksX6_line_11 0 rfl rfl)
theorem dX6_line_254 : decode cX6_line 254 = .ok (.getfield 68, 3) := dk_180 0 68 (dk_at dksX6_line_11 3 rfl rfl)
theorem dX6_line_257 : decode cX6_line 257 = .ok (.iload_n 2, 1) := dk_28 (dk_at dksX6_line_11 6 rfl rfl)
theorem dX6_line_258 : decode cX6_line 258 = .ok (.aaload, 1) := dk_50 (dk_at dksX6_line_11 7 rfl rfl)
theorem dX6_line_259 : decode cX6_line 259 = .ok (.getfield 121, 3) := dk_180 0 121 (dk_at dksX6_line_11 8 rfl rfl)
theorem dX6_line_262 : decode cX6_line 262 = .ok (.iload_n 3, 1) := dk_29 (dk_at dksX6_line_11 11 rfl rfl)
theorem dX6_line_263 : decode cX6_line 263 = .ok (.aload_n 0, 1) := dk_42 (dk_at dksX6_line_11 12 rfl rfl)
theorem dX6_line_264 : decode cX6_line 264 = .ok (.iconst 0, 1) := dk_3 (dk_at dksX6_line_11 13 rfl rfl)
theorem dX6_line_265 : decode cX6_line 265 = .ok (.sipush 200, 3) := dk_17 0 200 (dk_at dksX6_line_11 14 rfl rfl)
theorem dX6_line_268 : decode cX6_line 268 = .ok (.invokevirtual 109, 3) := dk_182 0 109 (dk_at dksX6_line_11 17 rfl rfl)
theorem dX6_line_271 : decode cX6_line 271 = .ok (.iastore, 1) := dk_79 (dk_at dksX6_line_11 20 rfl rfl)
theorem dX6_line_272 : decode cX6_line 272 = .ok (.aload_n 0, 1) := dk_42 (dk_at dksX6_line_11 21 rfl rfl)
theorem dX6_line_273 : decode cX6_line 273 = .ok (.getfield 15, 3) := dk_180 0 15 (dk_at dksX6_line_12 0 rfl rfl)
theorem dX6_line_276 : decode cX6_line 276 = .ok (.dup, 1) := dk_89 (dk_at dksX6_line_12 3 rfl rfl)
theorem dX6_line_277 : decode cX6_line 277 = .ok (.getfield 124, 3) := dk_180 0 124 (dk_at dksX6_line_12 4 rfl rfl)
theorem dX6_line_280 : decode cX6_line 280 = .ok (.iconst 1, 1) := dk_4 (dk_at dksX6_line_12 7 rfl rfl)
theorem dX6_line_281 : decode cX6_line 281 = .ok (.iadd, 1) := dk_96 (dk_at dksX6_line_12 8 rfl rfl)
theorem dX6_line_282 : decode cX6_line 282 = .ok (.putfield 124, 3) := dk_181 0 124 (dk_at dksX6_line_12 9 rfl rfl)
theorem dX6_line_285 : decode cX6_line 285 = .ok (.goto 70, 3) := dk_167 0 70 (dk_at dksX6_line_12 12 rfl rfl)
theorem dX6_line_288 : decode cX6_line 288 = .ok (.aload_n 0, 1) := dk_42 (dk_at dksX6_line_12 15 rfl rfl)
theorem dX6_line_289 : decode cX6_line 289 = .ok (.getfield 15, 3) := dk_180 0 15 (dk_at dksX6_line_12 16 rfl rfl)
theorem dX6_line_292 : decode cX6_line 292 = .ok (.aload_n 0, 1) := dk_42 (dk_at dksX6_line_12 19 rfl rfl)
theorem dX6_line_293 : decode cX6_line 293 = .ok (.iconst 0, 1) := dk_3 (dk_at dksX6_line_12 20 rfl rfl)
theorem dX6_line_294 : decode cX6_line 294 = .ok (.bipush 100, 2) := dk_16 100 (dk_at dksX6_line_12 21 rfl rfl)
theorem dX6_line_296 : decode cX6_line 296 = .ok (.invokevirtual 109, 3) := dk_182 0 109 (dk_at dksX6_line_13 0 rfl rfl)
theorem dX6_line_299 : decode cX6_line 299 = .ok (.putfield 127, 3) := dk_181 0 127 (dk_at dksX6_line_13 3 rfl rfl)
theorem dX6_line_302 : decode cX6_line 302 = .ok (.goto 53, 3) := dk_167 0 53 (dk_at dksX6_line_13 6 rfl rfl)
theorem dX6_line_305 : decode cX6_line 305 = .ok (.aload_n 0, 1) := dk_42 (dk_at dksX6_line_13 9 rfl rfl)
theorem dX6_line_306 : decode cX6_line 306 = .ok (.getfield 15, 3) := dk_180 0 15 (dk_at dksX6_line_13 10 rfl rfl)
theorem dX6_line_309 : decode cX6_line 309 = .ok (.aload_n 0, 1) := dk_42 (dk_at dksX6_line_13 13 rfl rfl)
theorem dX6_line_310 : decode cX6_line 310 = .ok (.iconst 0, 1) := dk_3 (dk_at dksX6_line_13 14 rfl rfl)
theorem dX6_line_311 : decode cX6_line 311 = .ok (.sipush 200, 3) := dk_17 0 200 (dk_at dksX6_line_13 15 rfl rfl)
theorem dX6_line_314 : decode cX6_line 314 = .ok (.invokevirtual 109, 3) := dk_182 0 109 (dk_at dksX6_line_13 18 rfl rfl)
theorem dX6_line_317 : decode cX6_line 317 = .ok (.putfield 130, 3) := dk_181 0 130 (dk_at dksX6_line_13 21 rfl rfl)
theorem dX6_line_320 : decode cX6_line 320 = .ok (.goto 35, 3) := dk_167 0 35 (dk_at dksX6_line_14 0 rfl rfl)
theorem dX6_line_323 : decode cX6_line 323 = .ok (.aload_n 0, 1) := dk_42 (dk_at dksX6_line_14 3 rfl rfl)
theorem dX6_line_324 : decode cX6_line 324 = .ok (.getfield 15, 3) := dk_180 0 15 (dk_at dksX6_line_14 4 rfl rfl)
theorem dX6_line_327 : decode cX6_line 327 = .ok (.aload_n 0, 1) := dk_42 (dk_at dksX6_line_14 7 rfl rfl)
theorem dX6_line_328 : decode cX6_line 328 = .ok (.iconst 1, 1) := dk_4 (dk_at dksX6_line_14 8 rfl rfl)
theorem dX6_line_329 : decode cX6_line 329 = .ok (.sipush 999, 3) := dk_17 3 231 (dk_at dksX6_line_14 9 rfl rfl)
theorem dX6_line_332 : decode cX6_line 332 = .ok (.invokevirtual 109, 3) := dk_182 0 109 (dk_at dksX6_line_14 12 rfl rfl)
theorem dX6_line_335 : decode cX6_line 335 = .ok (.putfield 133, 3) := dk_181 0 133 (dk_at dksX6_line_14 15 rfl rfl)
theorem dX6_line_338 : decode cX6_line 338 = .ok (.goto 17, 3) := dk_167 0 17 (dk_at dksX6_line_14 18 rfl rfl)
theorem dX6_line_341 : decode cX6_line 341 = .ok (.aload_n 0, 1) := dk_42 (dk_at dksX6_line_14 21 rfl rfl)
theorem dX6_line_342 : decode cX6_line 342 = .ok (.getfield 15, 3) := dk_180 0 15 (dk_at dksX6_line_15 0 rfl rfl)
theorem dX6_line_345 : decode cX6_line 345 = .ok (.aload_n 0, 1) := dk_42 (dk_at dksX6_line_15 3 rfl rfl)
theorem dX6_line_346 : decode cX6_line 346 = .ok (.iconst 1, 1) := dk_4 (dk_at dksX6_line_15 4 rfl rfl)
theorem dX6_line_347 : decode cX6_line 347 = .ok (.bipush 9, 2) := dk_16 9 (dk_at dksX6_line_15 5 rfl rfl)
theorem dX6_line_349 : decode cX6_line 349 = .ok (.invokevirtual 109, 3) := dk_182 0 109 (dk_at dksX6_line_15 7 rfl rfl)
theorem dX6_line_352 : decode cX6_line 352 = .ok (.putfield 136, 3) := dk_181 0 136 (dk_at dksX6_line_15 10 rfl rfl)
theorem dX6_line_355 : decode cX6_line 355 = .ok (.return_, 1) := dk_177 (dk_at dksX6_line_15 13 rfl rfl)
abbrev cX6_fresh : ByteArray := prog_8_method_3_code
def yX6_fresh : MethodName := ⟨RX6, "fresh", "()J"⟩
def dkwX6_fresh_3 : List UInt8 := [42, 182, 0, 54, 31, 173]
abbrev dktX6_fresh_3 : List UInt8 := dkwX6_fresh_3 ++ []
def dkwX6_fresh_2 : List UInt8 := [180, 0, 51, 182, 0, 72, 2, 160, 0, 7, 4, 167, 0, 4, 3, 6, 182, 0, 38, 42, 180, 0, 80, 64]
abbrev dktX6_fresh_2 : List UInt8 := dkwX6_fresh_2 ++ dktX6_fresh_3
def dkwX6_fresh_1 : List UInt8 := [180, 0, 46, 182, 0, 72, 2, 160, 0, 29, 42, 42, 180, 0, 15, 180, 0, 76, 42, 180, 0, 15]
abbrev dktX6_fresh_1 : List UInt8 := dkwX6_fresh_1 ++ dktX6_fresh_2
def dkwX6_fresh_0 : List UInt8 := [42, 42, 182, 0, 64, 4, 182, 0, 38, 42, 42, 42, 180, 0, 15, 180, 0, 68, 42, 180, 0, 15]
abbrev dktX6_fresh_0 : List UInt8 := dkwX6_fresh_0 ++ dktX6_fresh_1
theorem dksX6_fresh_0 : cX6_fresh.data.toList.drop 0 = dktX6_fresh_0 := by decide +kernel
theorem dksX6_fresh_1 : cX6_fresh.data.toList.drop 22 = dktX6_fresh_1 := dk_seg dksX6_fresh_0 22 rfl rfl
theorem dksX6_fresh_2 : cX6_fresh.data.toList.drop 44 = dktX6_fresh_2 := dk_seg dksX6_fresh_1 22 rfl rfl
theorem dksX6_fresh_3 : cX6_fresh.data.toList.drop 68 = dktX6_fresh_3 := dk_seg dksX6_fresh_2 24 rfl rfl
theorem dX6_fresh_0 : decode cX6_fresh 0 = .ok (.aload_n 0, 1) := dk_42 (dk_at dksX6_fresh_0 0 rfl rfl)
theorem dX6_fresh_1 : decode cX6_fresh 1 = .ok (.aload_n 0, 1) := dk_42 (dk_at dksX6_fresh_0 1 rfl rfl)
theorem dX6_fresh_2 : decode cX6_fresh 2 = .ok (.invokevirtual 64, 3) := dk_182 0 64 (dk_at dksX6_fresh_0 2 rfl rfl)
theorem dX6_fresh_5 : decode cX6_fresh 5 = .ok (.iconst 1, 1) := dk_4 (dk_at dksX6_fresh_0 5 rfl rfl)
theorem dX6_fresh_6 : decode cX6_fresh 6 = .ok (.invokevirtual 38, 3) := dk_182 0 38 (dk_at dksX6_fresh_0 6 rfl rfl)
theorem dX6_fresh_9 : decode cX6_fresh 9 = .ok (.aload_n 0, 1) := dk_42 (dk_at dksX6_fresh_0 9 rfl rfl)
theorem dX6_fresh_10 : decode cX6_fresh 10 = .ok (.aload_n 0, 1) := dk_42 (dk_at dksX6_fresh_0 10 rfl rfl)
theorem dX6_fresh_11 : decode cX6_fresh 11 = .ok (.aload_n 0, 1) := dk_42 (dk_at dksX6_fresh_0 11 rfl rfl)
theorem dX6_fresh_12 : decode cX6_fresh 12 = .ok (.getfield 15, 3) := dk_180 0 15 (dk_at dksX6_fresh_0 12 rfl rfl)
theorem dX6_fresh_15 : decode cX6_fresh 15 = .ok (.getfield 68, 3) := dk_180 0 68 (dk_at dksX6_fresh_0 15 rfl rfl)
theorem dX6_fresh_18 : decode cX6_fresh 18 = .ok (.aload_n 0, 1) := dk_42 (dk_at dksX6_fresh_0 18 rfl rfl)
theorem dX6_fresh_19 : decode cX6_fresh 19 = .ok (.getfield 15, 3) := dk_180 0 15 (dk_at dksX6_fresh_0 19 rfl rfl)
theorem dX6_fresh_22 : decode cX6_fresh 22 = .ok (.getfield 46, 3) := dk_180 0 46 (dk_at dksX6_fresh_1 0 rfl rfl)
theorem dX6_fresh_25 : decode cX6_fresh 25 = .ok (.invokevirtual 72, 3) := dk_182 0 72 (dk_at dksX6_fresh_1 3 rfl rfl)
theorem dX6_fresh_28 : decode cX6_fresh 28 = .ok (.iconst (-1), 1) := dk_2 (dk_at dksX6_fresh_1 6 rfl rfl)
theorem dX6_fresh_29 : decode cX6_fresh 29 = .ok (.if_icmp .ne 29, 3) := dk_160 0 29 (dk_at dksX6_fresh_1 7 rfl rfl)
theorem dX6_fresh_32 : decode cX6_fresh 32 = .ok (.aload_n 0, 1) := dk_42 (dk_at dksX6_fresh_1 10 rfl rfl)
theorem dX6_fresh_33 : decode cX6_fresh 33 = .ok (.aload_n 0, 1) := dk_42 (dk_at dksX6_fresh_1 11 rfl rfl)
theorem dX6_fresh_34 : decode cX6_fresh 34 = .ok (.getfield 15, 3) := dk_180 0 15 (dk_at dksX6_fresh_1 12 rfl rfl)
theorem dX6_fresh_37 : decode cX6_fresh 37 = .ok (.getfield 76, 3) := dk_180 0 76 (dk_at dksX6_fresh_1 15 rfl rfl)
theorem dX6_fresh_40 : decode cX6_fresh 40 = .ok (.aload_n 0, 1) := dk_42 (dk_at dksX6_fresh_1 18 rfl rfl)
theorem dX6_fresh_41 : decode cX6_fresh 41 = .ok (.getfield 15, 3) := dk_180 0 15 (dk_at dksX6_fresh_1 19 rfl rfl)
theorem dX6_fresh_44 : decode cX6_fresh 44 = .ok (.getfield 51, 3) := dk_180 0 51 (dk_at dksX6_fresh_2 0 rfl rfl)
theorem dX6_fresh_47 : decode cX6_fresh 47 = .ok (.invokevirtual 72, 3) := dk_182 0 72 (dk_at dksX6_fresh_2 3 rfl rfl)
theorem dX6_fresh_50 : decode cX6_fresh 50 = .ok (.iconst (-1), 1) := dk_2 (dk_at dksX6_fresh_2 6 rfl rfl)
theorem dX6_fresh_51 : decode cX6_fresh 51 = .ok (.if_icmp .ne 7, 3) := dk_160 0 7 (dk_at dksX6_fresh_2 7 rfl rfl)
theorem dX6_fresh_54 : decode cX6_fresh 54 = .ok (.iconst 1, 1) := dk_4 (dk_at dksX6_fresh_2 10 rfl rfl)
theorem dX6_fresh_55 : decode cX6_fresh 55 = .ok (.goto 4, 3) := dk_167 0 4 (dk_at dksX6_fresh_2 11 rfl rfl)
theorem dX6_fresh_58 : decode cX6_fresh 58 = .ok (.iconst 0, 1) := dk_3 (dk_at dksX6_fresh_2 14 rfl rfl)
theorem dX6_fresh_59 : decode cX6_fresh 59 = .ok (.iconst 3, 1) := dk_6 (dk_at dksX6_fresh_2 15 rfl rfl)
theorem dX6_fresh_60 : decode cX6_fresh 60 = .ok (.invokevirtual 38, 3) := dk_182 0 38 (dk_at dksX6_fresh_2 16 rfl rfl)
theorem dX6_fresh_63 : decode cX6_fresh 63 = .ok (.aload_n 0, 1) := dk_42 (dk_at dksX6_fresh_2 19 rfl rfl)
theorem dX6_fresh_64 : decode cX6_fresh 64 = .ok (.getfield 80, 3) := dk_180 0 80 (dk_at dksX6_fresh_2 20 rfl rfl)
theorem dX6_fresh_67 : decode cX6_fresh 67 = .ok (.lstore_n 1, 1) := dk_64 (dk_at dksX6_fresh_2 23 rfl rfl)
theorem dX6_fresh_68 : decode cX6_fresh 68 = .ok (.aload_n 0, 1) := dk_42 (dk_at dksX6_fresh_3 0 rfl rfl)
theorem dX6_fresh_69 : decode cX6_fresh 69 = .ok (.invokevirtual 54, 3) := dk_182 0 54 (dk_at dksX6_fresh_3 1 rfl rfl)
theorem dX6_fresh_72 : decode cX6_fresh 72 = .ok (.lload_n 1, 1) := dk_31 (dk_at dksX6_fresh_3 4 rfl rfl)
theorem dX6_fresh_73 : decode cX6_fresh 73 = .ok (.lreturn, 1) := dk_173 (dk_at dksX6_fresh_3 5 rfl rfl)
abbrev cX6_takes : ByteArray := prog_8_method_4_code
def yX6_takes : MethodName := ⟨RX6, "takes", "(Ljava/lang/String;)Z"⟩
def dkwX6_takes_0 : List UInt8 := [42, 43, 182, 0, 84, 154, 0, 5, 3, 172, 42, 182, 0, 54, 4, 172]
abbrev dktX6_takes_0 : List UInt8 := dkwX6_takes_0 ++ []
theorem dksX6_takes_0 : cX6_takes.data.toList.drop 0 = dktX6_takes_0 := by decide +kernel
theorem dX6_takes_0 : decode cX6_takes 0 = .ok (.aload_n 0, 1) := dk_42 (dk_at dksX6_takes_0 0 rfl rfl)
theorem dX6_takes_1 : decode cX6_takes 1 = .ok (.aload_n 1, 1) := dk_43 (dk_at dksX6_takes_0 1 rfl rfl)
theorem dX6_takes_2 : decode cX6_takes 2 = .ok (.invokevirtual 84, 3) := dk_182 0 84 (dk_at dksX6_takes_0 2 rfl rfl)
theorem dX6_takes_5 : decode cX6_takes 5 = .ok (.ifCond .ne 5, 3) := dk_154 0 5 (dk_at dksX6_takes_0 5 rfl rfl)
theorem dX6_takes_8 : decode cX6_takes 8 = .ok (.iconst 0, 1) := dk_3 (dk_at dksX6_takes_0 8 rfl rfl)
theorem dX6_takes_9 : decode cX6_takes 9 = .ok (.ireturn, 1) := dk_172 (dk_at dksX6_takes_0 9 rfl rfl)
theorem dX6_takes_10 : decode cX6_takes 10 = .ok (.aload_n 0, 1) := dk_42 (dk_at dksX6_takes_0 10 rfl rfl)
theorem dX6_takes_11 : decode cX6_takes 11 = .ok (.invokevirtual 54, 3) := dk_182 0 54 (dk_at dksX6_takes_0 11 rfl rfl)
theorem dX6_takes_14 : decode cX6_takes 14 = .ok (.iconst 1, 1) := dk_4 (dk_at dksX6_takes_0 14 rfl rfl)
theorem dX6_takes_15 : decode cX6_takes 15 = .ok (.ireturn, 1) := dk_172 (dk_at dksX6_takes_0 15 rfl rfl)
theorem q103 : (Jvm.Cond.initialized "FaceCoins$LawReader") ∈ lw_all := lw_g (lw_at lw_m1 8 rfl) rfl
theorem q238 : (Jvm.Cond.fieldLinkNest "FaceCoins$LawReader" (68 : Nat) "FaceCoins$Law" "people" "[LFaceCoins$Who;" "FaceCoins") ∈ lw_tbl := lw_at lw_m1 143 rfl
theorem q243 : (Jvm.Cond.fieldLinkNest "FaceCoins$LawReader" (76 : Nat) "FaceCoins$Law" "mints" "[LFaceCoins$Mint;" "FaceCoins") ∈ lw_tbl := lw_at lw_m1 148 rfl
theorem q246 : (Jvm.Cond.fieldLinkNest "FaceCoins$LawReader" (46 : Nat) "FaceCoins$Law" "whoMany" "I" "FaceCoins") ∈ lw_tbl := lw_at lw_m1 151 rfl
theorem q249 : (Jvm.Cond.fieldLinkNest "FaceCoins$LawReader" (51 : Nat) "FaceCoins$Law" "mintMany" "I" "FaceCoins") ∈ lw_tbl := lw_at lw_m1 154 rfl
theorem q251 : (Jvm.Cond.fieldLinkNest "FaceCoins$LawReader" (124 : Nat) "FaceCoins$Law" "takesMany" "I" "FaceCoins") ∈ lw_tbl := lw_at lw_m1 156 rfl
theorem q253 : (Jvm.Cond.fieldLinkNest "FaceCoins$LawReader" (127 : Nat) "FaceCoins$Law" "lucky" "I" "FaceCoins") ∈ lw_tbl := lw_at lw_m1 158 rfl
theorem q257 : (Jvm.Cond.fieldLinkNest "FaceCoins$LawReader" (130 : Nat) "FaceCoins$Law" "dead" "I" "FaceCoins") ∈ lw_tbl := lw_at lw_m1 162 rfl
theorem q262 : (Jvm.Cond.fieldLinkNest "FaceCoins$LawReader" (133 : Nat) "FaceCoins$Law" "thin" "I" "FaceCoins") ∈ lw_tbl := lw_at lw_m1 167 rfl
theorem q266 : (Jvm.Cond.fieldLinkNest "FaceCoins$LawReader" (136 : Nat) "FaceCoins$Law" "faces" "I" "FaceCoins") ∈ lw_tbl := lw_at lw_m1 171 rfl
theorem q421 : (Jvm.Cond.instantiable "FaceCoins$LawReader" (11 : Nat)) ∈ lw_all := lw_g (lw_at lw_m2 86 rfl) rfl
theorem q423 : (Jvm.Cond.instanceMethod ({ cls := "FaceCoins$LawReader", name := "<init>", desc := "(LFaceCoins;)V" } : Jvm.MethodName)) ∈ lw_all := lw_g (lw_at lw_m2 88 rfl) rfl
theorem q424 : (Jvm.Cond.code ({ cls := "FaceCoins$LawReader", name := "<init>", desc := "(LFaceCoins;)V" } : Jvm.MethodName) prog_8_method_1_code (2 : Nat) (Option.none : Option Jvm.ClassFile.FieldType)) ∈ lw_all := lw_g (lw_at lw_m2 89 rfl) rfl
theorem q425 : (Jvm.Cond.methodLink "FaceCoins$LawReader" (9 : Nat) ({ cls := "FaceCoins$Reader", name := "<init>", desc := "(LFaceCoins;I)V" } : Jvm.MethodName)) ∈ lw_all := lw_g (lw_at lw_m2 90 rfl) rfl
theorem q429 : (Jvm.Cond.fieldLink "FaceCoins$LawReader" (15 : Nat) "FaceCoins$LawReader" "x" "LFaceCoins$Law;") ∈ lw_all := lw_g (lw_at lw_m2 94 rfl) rfl
theorem q430 : (Jvm.Cond.fieldLink "FaceCoins$LawReader" (19 : Nat) "FaceCoins$LawReader" "had" "I") ∈ lw_all := lw_g (lw_at lw_m2 95 rfl) rfl
theorem q431 : (Jvm.Cond.fieldLink "FaceCoins$LawReader" (3 : Nat) "FaceCoins$LawReader" "this$0" "LFaceCoins;") ∈ lw_all := lw_g (lw_at lw_m2 96 rfl) rfl
theorem q435 : (Jvm.Cond.fieldLink "FaceCoins$LawReader" (27 : Nat) "FaceCoins$LawReader" "token" "I") ∈ lw_all := lw_g (lw_at lw_m2 100 rfl) rfl
theorem q436 : (Jvm.Cond.sameField "FaceCoins$LawReader" "FaceCoins$Reader" "token" "I") ∈ lw_all := lw_g (lw_at lw_m2 101 rfl) rfl
theorem q444 : (Jvm.Cond.fieldLink "FaceCoins$LawReader" (80 : Nat) "FaceCoins$LawReader" "name" "J") ∈ lw_all := lw_g (lw_at lw_m2 109 rfl) rfl
theorem q445 : (Jvm.Cond.sameField "FaceCoins$LawReader" "FaceCoins$Reader" "name" "J") ∈ lw_all := lw_g (lw_at lw_m2 110 rfl) rfl
theorem q448 : (Jvm.Cond.lays "FaceCoins$LawReader" "FaceCoins$LawReader" "x" "LFaceCoins$Law;") ∈ lw_all := lw_g (lw_at lw_m2 113 rfl) rfl
theorem q449 : (Jvm.Cond.soleField "FaceCoins$LawReader" "x") ∈ lw_all := lw_g (lw_at lw_m2 114 rfl) rfl
theorem q450 : (Jvm.Cond.lays "FaceCoins$LawReader" "FaceCoins$LawReader" "had" "I") ∈ lw_all := lw_g (lw_at lw_m2 115 rfl) rfl
theorem q451 : (Jvm.Cond.soleField "FaceCoins$LawReader" "had") ∈ lw_all := lw_g (lw_at lw_m2 116 rfl) rfl
theorem q452 : (Jvm.Cond.laysFinal "FaceCoins$LawReader" "FaceCoins$LawReader" "this$0" "LFaceCoins;") ∈ lw_all := lw_g (lw_at lw_m2 117 rfl) rfl
theorem q453 : (Jvm.Cond.soleField "FaceCoins$LawReader" "this$0") ∈ lw_all := lw_g (lw_at lw_m2 118 rfl) rfl
theorem q454 : (Jvm.Cond.laysFinal "FaceCoins$LawReader" "FaceCoins$Reader" "most" "I") ∈ lw_all := lw_g (lw_at lw_m2 119 rfl) rfl
theorem q456 : (Jvm.Cond.lays "FaceCoins$LawReader" "FaceCoins$Reader" "p" "I") ∈ lw_all := lw_g (lw_at lw_m2 121 rfl) rfl
theorem q458 : (Jvm.Cond.lays "FaceCoins$LawReader" "FaceCoins$Reader" "at" "I") ∈ lw_all := lw_g (lw_at lw_m2 123 rfl) rfl
theorem q460 : (Jvm.Cond.lays "FaceCoins$LawReader" "FaceCoins$Reader" "token" "I") ∈ lw_all := lw_g (lw_at lw_m2 125 rfl) rfl
theorem q462 : (Jvm.Cond.lays "FaceCoins$LawReader" "FaceCoins$Reader" "value" "I") ∈ lw_all := lw_g (lw_at lw_m2 127 rfl) rfl
theorem q464 : (Jvm.Cond.lays "FaceCoins$LawReader" "FaceCoins$Reader" "many" "I") ∈ lw_all := lw_g (lw_at lw_m2 129 rfl) rfl
theorem q466 : (Jvm.Cond.lays "FaceCoins$LawReader" "FaceCoins$Reader" "name" "J") ∈ lw_all := lw_g (lw_at lw_m2 131 rfl) rfl
theorem q468 : (Jvm.Cond.laysFinal "FaceCoins$LawReader" "FaceCoins$Reader" "this$0" "LFaceCoins;") ∈ lw_all := lw_g (lw_at lw_m2 133 rfl) rfl
theorem q470 : (Jvm.Cond.superclass "FaceCoins$LawReader" "FaceCoins$Reader") ∈ lw_all := lw_g (lw_at lw_m2 135 rfl) rfl
theorem q517 : (Jvm.Cond.fieldLinkNest "FaceCoins$LawReader" (30 : Nat) "FaceCoins" "lines" "[Ljava/lang/String;" "FaceCoins") ∈ lw_tbl := lw_at lw_m2 182 rfl
theorem q626 : (Jvm.Cond.instanceMethod ({ cls := "FaceCoins$LawReader", name := "read", desc := "(LFaceCoins$Law;)I" } : Jvm.MethodName)) ∈ lw_all := lw_g (lw_at lw_m3 51 rfl) rfl
theorem q627 : (Jvm.Cond.selects "FaceCoins$LawReader" ({ cls := "FaceCoins$LawReader", name := "read", desc := "(LFaceCoins$Law;)I" } : Jvm.MethodName) ({ cls := "FaceCoins$LawReader", name := "read", desc := "(LFaceCoins$Law;)I" } : Jvm.MethodName)) ∈ lw_all := lw_g (lw_at lw_m3 52 rfl) rfl
theorem q628 : (Jvm.Cond.code ({ cls := "FaceCoins$LawReader", name := "read", desc := "(LFaceCoins$Law;)I" } : Jvm.MethodName) prog_8_method_2_code (4 : Nat) (Option.some Jvm.ClassFile.FieldType.int)) ∈ lw_all := lw_g (lw_at lw_m3 53 rfl) rfl
theorem q629 : (Jvm.Cond.methodLink "FaceCoins$LawReader" (23 : Nat) ({ cls := "FaceCoins$LawReader", name := "begin", desc := "()V" } : Jvm.MethodName)) ∈ lw_all := lw_g (lw_at lw_m3 54 rfl) rfl
theorem q630 : (Jvm.Cond.sameMethod "FaceCoins$LawReader" "FaceCoins$Reader" "begin" "()V") ∈ lw_all := lw_g (lw_at lw_m3 55 rfl) rfl
theorem q632 : (Jvm.Cond.selects "FaceCoins$LawReader" ({ cls := "FaceCoins$LawReader", name := "begin", desc := "()V" } : Jvm.MethodName) ({ cls := "FaceCoins$Reader", name := "begin", desc := "()V" } : Jvm.MethodName)) ∈ lw_all := lw_g (lw_at lw_m3 57 rfl) rfl
theorem q638 : (Jvm.Cond.selects "FaceCoins$LawReader" ({ cls := "FaceCoins$Reader", name := "next", desc := "()V" } : Jvm.MethodName) ({ cls := "FaceCoins$Reader", name := "next", desc := "()V" } : Jvm.MethodName)) ∈ lw_all := lw_g (lw_at lw_m3 63 rfl) rfl
theorem q660 : (Jvm.Cond.methodLink "FaceCoins$LawReader" (34 : Nat) ({ cls := "FaceCoins$LawReader", name := "find", desc := "([Ljava/lang/String;)I" } : Jvm.MethodName)) ∈ lw_all := lw_g (lw_at lw_m3 85 rfl) rfl
theorem q661 : (Jvm.Cond.sameMethod "FaceCoins$LawReader" "FaceCoins$Reader" "find" "([Ljava/lang/String;)I") ∈ lw_all := lw_g (lw_at lw_m3 86 rfl) rfl
theorem q663 : (Jvm.Cond.selects "FaceCoins$LawReader" ({ cls := "FaceCoins$LawReader", name := "find", desc := "([Ljava/lang/String;)I" } : Jvm.MethodName) ({ cls := "FaceCoins$Reader", name := "find", desc := "([Ljava/lang/String;)I" } : Jvm.MethodName)) ∈ lw_all := lw_g (lw_at lw_m3 88 rfl) rfl
theorem q669 : (Jvm.Cond.selects "FaceCoins$LawReader" ({ cls := "FaceCoins$Reader", name := "is", desc := "(Ljava/lang/String;)Z" } : Jvm.MethodName) ({ cls := "FaceCoins$Reader", name := "is", desc := "(Ljava/lang/String;)Z" } : Jvm.MethodName)) ∈ lw_all := lw_g (lw_at lw_m3 94 rfl) rfl
theorem q720 : (Jvm.Cond.methodLink "FaceCoins$LawReader" (38 : Nat) ({ cls := "FaceCoins$LawReader", name := "must", desc := "(ZI)V" } : Jvm.MethodName)) ∈ lw_all := lw_g (lw_at lw_m3 145 rfl) rfl
theorem q721 : (Jvm.Cond.sameMethod "FaceCoins$LawReader" "FaceCoins$Reader" "must" "(ZI)V") ∈ lw_all := lw_g (lw_at lw_m3 146 rfl) rfl
theorem q723 : (Jvm.Cond.selects "FaceCoins$LawReader" ({ cls := "FaceCoins$LawReader", name := "must", desc := "(ZI)V" } : Jvm.MethodName) ({ cls := "FaceCoins$Reader", name := "must", desc := "(ZI)V" } : Jvm.MethodName)) ∈ lw_all := lw_g (lw_at lw_m3 148 rfl) rfl
theorem q729 : (Jvm.Cond.selects "FaceCoins$LawReader" ({ cls := "FaceCoins$Reader", name := "wrong", desc := "(I)LFaceCoins$Fault;" } : Jvm.MethodName) ({ cls := "FaceCoins$Reader", name := "wrong", desc := "(I)LFaceCoins$Fault;" } : Jvm.MethodName)) ∈ lw_all := lw_g (lw_at lw_m3 154 rfl) rfl
theorem q732 : (Jvm.Cond.methodLinkNest "FaceCoins$LawReader" (42 : Nat) ({ cls := "FaceCoins", name := "has", desc := "(II)Z" } : Jvm.MethodName) "FaceCoins") ∈ lw_tbl := lw_at lw_m3 157 rfl
theorem q735 : (Jvm.Cond.methodLink "FaceCoins$LawReader" (54 : Nat) ({ cls := "FaceCoins$LawReader", name := "next", desc := "()V" } : Jvm.MethodName)) ∈ lw_all := lw_g (lw_at lw_m3 160 rfl) rfl
theorem q736 : (Jvm.Cond.sameMethod "FaceCoins$LawReader" "FaceCoins$Reader" "next" "()V") ∈ lw_all := lw_g (lw_at lw_m3 161 rfl) rfl
theorem q738 : (Jvm.Cond.selects "FaceCoins$LawReader" ({ cls := "FaceCoins$LawReader", name := "next", desc := "()V" } : Jvm.MethodName) ({ cls := "FaceCoins$Reader", name := "next", desc := "()V" } : Jvm.MethodName)) ∈ lw_all := lw_g (lw_at lw_m3 163 rfl) rfl
theorem q739 : (Jvm.Cond.methodLink "FaceCoins$LawReader" (57 : Nat) ({ cls := "FaceCoins$LawReader", name := "line", desc := "(I)V" } : Jvm.MethodName)) ∈ lw_all := lw_g (lw_at lw_m3 164 rfl) rfl
theorem q740 : (Jvm.Cond.privateMethod ({ cls := "FaceCoins$LawReader", name := "line", desc := "(I)V" } : Jvm.MethodName)) ∈ lw_tbl := lw_at lw_m3 165 rfl
theorem q741 : (Jvm.Cond.instanceMethod ({ cls := "FaceCoins$LawReader", name := "line", desc := "(I)V" } : Jvm.MethodName)) ∈ lw_all := lw_g (lw_at lw_m3 166 rfl) rfl
theorem q742 : (Jvm.Cond.code ({ cls := "FaceCoins$LawReader", name := "line", desc := "(I)V" } : Jvm.MethodName) prog_8_method_5_code (5 : Nat) (Option.none : Option Jvm.ClassFile.FieldType)) ∈ lw_all := lw_g (lw_at lw_m3 167 rfl) rfl
theorem q743 : (Jvm.Cond.classLink "FaceCoins$LawReader" (88 : Nat) "FaceCoins$Who") ∈ lw_all := lw_g (lw_at lw_m3 168 rfl) rfl
theorem q745 : (Jvm.Cond.methodLink "FaceCoins$LawReader" (90 : Nat) ({ cls := "FaceCoins$LawReader", name := "fresh", desc := "()J" } : Jvm.MethodName)) ∈ lw_all := lw_g (lw_at lw_m3 170 rfl) rfl
theorem q746 : (Jvm.Cond.privateMethod ({ cls := "FaceCoins$LawReader", name := "fresh", desc := "()J" } : Jvm.MethodName)) ∈ lw_tbl := lw_at lw_m3 171 rfl
theorem q747 : (Jvm.Cond.instanceMethod ({ cls := "FaceCoins$LawReader", name := "fresh", desc := "()J" } : Jvm.MethodName)) ∈ lw_all := lw_g (lw_at lw_m3 172 rfl) rfl
theorem q748 : (Jvm.Cond.code ({ cls := "FaceCoins$LawReader", name := "fresh", desc := "()J" } : Jvm.MethodName) prog_8_method_3_code (3 : Nat) (Option.some Jvm.ClassFile.FieldType.long)) ∈ lw_all := lw_g (lw_at lw_m3 173 rfl) rfl
theorem q749 : (Jvm.Cond.methodLink "FaceCoins$LawReader" (64 : Nat) ({ cls := "FaceCoins$LawReader", name := "isName", desc := "()Z" } : Jvm.MethodName)) ∈ lw_all := lw_g (lw_at lw_m3 174 rfl) rfl
theorem q750 : (Jvm.Cond.sameMethod "FaceCoins$LawReader" "FaceCoins$Reader" "isName" "()Z") ∈ lw_all := lw_g (lw_at lw_m3 175 rfl) rfl
theorem q752 : (Jvm.Cond.selects "FaceCoins$LawReader" ({ cls := "FaceCoins$LawReader", name := "isName", desc := "()Z" } : Jvm.MethodName) ({ cls := "FaceCoins$Reader", name := "isName", desc := "()Z" } : Jvm.MethodName)) ∈ lw_all := lw_g (lw_at lw_m3 177 rfl) rfl
theorem q756 : (Jvm.Cond.methodLink "FaceCoins$LawReader" (72 : Nat) ({ cls := "FaceCoins$LawReader", name := "of", desc := "([LFaceCoins$Named;I)I" } : Jvm.MethodName)) ∈ lw_all := lw_g (lw_at lw_m3 181 rfl) rfl
theorem q757 : (Jvm.Cond.sameMethod "FaceCoins$LawReader" "FaceCoins$Reader" "of" "([LFaceCoins$Named;I)I") ∈ lw_all := lw_g (lw_at lw_m3 182 rfl) rfl
theorem q759 : (Jvm.Cond.selects "FaceCoins$LawReader" ({ cls := "FaceCoins$LawReader", name := "of", desc := "([LFaceCoins$Named;I)I" } : Jvm.MethodName) ({ cls := "FaceCoins$Reader", name := "of", desc := "([LFaceCoins$Named;I)I" } : Jvm.MethodName)) ∈ lw_all := lw_g (lw_at lw_m3 184 rfl) rfl
theorem q762 : (Jvm.Cond.methodLink "FaceCoins$LawReader" (94 : Nat) ({ cls := "FaceCoins$Who", name := "<init>", desc := "(J)V" } : Jvm.MethodName)) ∈ lw_all := lw_g (lw_at lw_m3 187 rfl) rfl
theorem q769 : (Jvm.Cond.fieldLinkNest "FaceCoins$LawReader" (102 : Nat) "FaceCoins$Who" "begs" "Z" "FaceCoins") ∈ lw_tbl := lw_at lw_m3 194 rfl
theorem q772 : (Jvm.Cond.fieldLinkNest "FaceCoins$LawReader" (107 : Nat) "FaceCoins$Who" "owes" "Z" "FaceCoins") ∈ lw_tbl := lw_at lw_m3 197 rfl
theorem q776 : (Jvm.Cond.fieldLinkNest "FaceCoins$LawReader" (121 : Nat) "FaceCoins$Who" "takes" "[I" "FaceCoins") ∈ lw_tbl := lw_at lw_m3 201 rfl
theorem q789 : (Jvm.Cond.stringRef "FaceCoins$LawReader" (97 : Nat) "begs") ∈ lw_tbl := lw_at lw_m3 214 rfl
theorem q790 : (Jvm.Cond.methodLink "FaceCoins$LawReader" (99 : Nat) ({ cls := "FaceCoins$LawReader", name := "takes", desc := "(Ljava/lang/String;)Z" } : Jvm.MethodName)) ∈ lw_all := lw_g (lw_at lw_m3 215 rfl) rfl
theorem q791 : (Jvm.Cond.privateMethod ({ cls := "FaceCoins$LawReader", name := "takes", desc := "(Ljava/lang/String;)Z" } : Jvm.MethodName)) ∈ lw_tbl := lw_at lw_m3 216 rfl
theorem q792 : (Jvm.Cond.instanceMethod ({ cls := "FaceCoins$LawReader", name := "takes", desc := "(Ljava/lang/String;)Z" } : Jvm.MethodName)) ∈ lw_all := lw_g (lw_at lw_m3 217 rfl) rfl
theorem q793 : (Jvm.Cond.code ({ cls := "FaceCoins$LawReader", name := "takes", desc := "(Ljava/lang/String;)Z" } : Jvm.MethodName) prog_8_method_4_code (2 : Nat) (Option.some Jvm.ClassFile.FieldType.boolean)) ∈ lw_all := lw_g (lw_at lw_m3 218 rfl) rfl
theorem q794 : (Jvm.Cond.methodLink "FaceCoins$LawReader" (84 : Nat) ({ cls := "FaceCoins$LawReader", name := "is", desc := "(Ljava/lang/String;)Z" } : Jvm.MethodName)) ∈ lw_all := lw_g (lw_at lw_m3 219 rfl) rfl
theorem q795 : (Jvm.Cond.sameMethod "FaceCoins$LawReader" "FaceCoins$Reader" "is" "(Ljava/lang/String;)Z") ∈ lw_all := lw_g (lw_at lw_m3 220 rfl) rfl
theorem q797 : (Jvm.Cond.selects "FaceCoins$LawReader" ({ cls := "FaceCoins$LawReader", name := "is", desc := "(Ljava/lang/String;)Z" } : Jvm.MethodName) ({ cls := "FaceCoins$Reader", name := "is", desc := "(Ljava/lang/String;)Z" } : Jvm.MethodName)) ∈ lw_all := lw_g (lw_at lw_m3 222 rfl) rfl
theorem q798 : (Jvm.Cond.stringRef "FaceCoins$LawReader" (105 : Nat) "owes") ∈ lw_tbl := lw_at lw_m3 223 rfl
theorem q799 : (Jvm.Cond.methodLink "FaceCoins$LawReader" (109 : Nat) ({ cls := "FaceCoins$LawReader", name := "number", desc := "(II)I" } : Jvm.MethodName)) ∈ lw_all := lw_g (lw_at lw_m3 224 rfl) rfl
theorem q800 : (Jvm.Cond.sameMethod "FaceCoins$LawReader" "FaceCoins$Reader" "number" "(II)I") ∈ lw_all := lw_g (lw_at lw_m3 225 rfl) rfl
theorem q802 : (Jvm.Cond.selects "FaceCoins$LawReader" ({ cls := "FaceCoins$LawReader", name := "number", desc := "(II)I" } : Jvm.MethodName) ({ cls := "FaceCoins$Reader", name := "number", desc := "(II)I" } : Jvm.MethodName)) ∈ lw_all := lw_g (lw_at lw_m3 227 rfl) rfl
theorem q806 : (Jvm.Cond.classLink "FaceCoins$LawReader" (113 : Nat) "FaceCoins$Mint") ∈ lw_all := lw_g (lw_at lw_m3 231 rfl) rfl
theorem q808 : (Jvm.Cond.methodLink "FaceCoins$LawReader" (115 : Nat) ({ cls := "FaceCoins$Mint", name := "<init>", desc := "(JII)V" } : Jvm.MethodName)) ∈ lw_all := lw_g (lw_at lw_m3 233 rfl) rfl
theorem q824 : (Jvm.Cond.methodLink "FaceCoins$LawReader" (118 : Nat) ({ cls := "FaceCoins$LawReader", name := "known", desc := "([LFaceCoins$Named;I)I" } : Jvm.MethodName)) ∈ lw_all := lw_g (lw_at lw_m4 9 rfl) rfl
theorem q825 : (Jvm.Cond.sameMethod "FaceCoins$LawReader" "FaceCoins$Reader" "known" "([LFaceCoins$Named;I)I") ∈ lw_all := lw_g (lw_at lw_m4 10 rfl) rfl
theorem q827 : (Jvm.Cond.selects "FaceCoins$LawReader" ({ cls := "FaceCoins$LawReader", name := "known", desc := "([LFaceCoins$Named;I)I" } : Jvm.MethodName) ({ cls := "FaceCoins$Reader", name := "known", desc := "([LFaceCoins$Named;I)I" } : Jvm.MethodName)) ∈ lw_all := lw_g (lw_at lw_m4 12 rfl) rfl
theorem q832 : (Jvm.Cond.methodLink "FaceCoins$LawReader" (61 : Nat) ({ cls := "FaceCoins$LawReader", name := "sign", desc := "(I)V" } : Jvm.MethodName)) ∈ lw_all := lw_g (lw_at lw_m4 17 rfl) rfl
theorem q833 : (Jvm.Cond.sameMethod "FaceCoins$LawReader" "FaceCoins$Reader" "sign" "(I)V") ∈ lw_all := lw_g (lw_at lw_m4 18 rfl) rfl
theorem q835 : (Jvm.Cond.selects "FaceCoins$LawReader" ({ cls := "FaceCoins$LawReader", name := "sign", desc := "(I)V" } : Jvm.MethodName) ({ cls := "FaceCoins$Reader", name := "sign", desc := "(I)V" } : Jvm.MethodName)) ∈ lw_all := lw_g (lw_at lw_m4 20 rfl) rfl
theorem q841 : (Jvm.Cond.selects "FaceCoins$LawReader" ({ cls := "FaceCoins$Reader", name := "is", desc := "(I)Z" } : Jvm.MethodName) ({ cls := "FaceCoins$Reader", name := "is", desc := "(I)Z" } : Jvm.MethodName)) ∈ lw_all := lw_g (lw_at lw_m4 26 rfl) rfl
theorem q1903 : (Jvm.Cond.selects "FaceCoins$LawReader" ({ cls := "FaceCoins$Reader", name := "find", desc := "([Ljava/lang/String;)I" } : Jvm.MethodName) ({ cls := "FaceCoins$Reader", name := "find", desc := "([Ljava/lang/String;)I" } : Jvm.MethodName)) ∈ lw_all := lw_g (lw_at lw_m8 128 rfl) rfl
theorem q1906 : (Jvm.Cond.selects "FaceCoins$LawReader" ({ cls := "FaceCoins$Reader", name := "must", desc := "(ZI)V" } : Jvm.MethodName) ({ cls := "FaceCoins$Reader", name := "must", desc := "(ZI)V" } : Jvm.MethodName)) ∈ lw_all := lw_g (lw_at lw_m8 131 rfl) rfl
theorem q1909 : (Jvm.Cond.selects "FaceCoins$LawReader" ({ cls := "FaceCoins$Reader", name := "isName", desc := "()Z" } : Jvm.MethodName) ({ cls := "FaceCoins$Reader", name := "isName", desc := "()Z" } : Jvm.MethodName)) ∈ lw_all := lw_g (lw_at lw_m8 134 rfl) rfl
theorem q1912 : (Jvm.Cond.selects "FaceCoins$LawReader" ({ cls := "FaceCoins$Reader", name := "of", desc := "([LFaceCoins$Named;I)I" } : Jvm.MethodName) ({ cls := "FaceCoins$Reader", name := "of", desc := "([LFaceCoins$Named;I)I" } : Jvm.MethodName)) ∈ lw_all := lw_g (lw_at lw_m8 137 rfl) rfl
theorem q1918 : (Jvm.Cond.castable "FaceCoins$LawReader" "java/lang/Object") ∈ lw_tbl := lw_at lw_m8 143 rfl
theorem in_X6 : ∀ w ∈ wsX60, w ∈ lw_all := lw_in wsX60 [454, 456, 458, 460, 462, 464, 466, 468, 448, 450, 452] (by decide +kernel) (by decide +kernel)
/-! FaceCoins$SentenceReader -/
set_option maxRecDepth 100000
def RX7 : String := "FaceCoins$SentenceReader"
def TX7 : u_T := fun k => match k with
  | 0 => ("FaceCoins$Reader", "most", "I", true)
  | 1 => ("FaceCoins$Reader", "p", "I", false)
  | 2 => ("FaceCoins$Reader", "at", "I", false)
  | 3 => ("FaceCoins$Reader", "token", "I", false)
  | 4 => ("FaceCoins$Reader", "value", "I", false)
  | 5 => ("FaceCoins$Reader", "many", "I", false)
  | 6 => ("FaceCoins$Reader", "name", "J", false)
  | 7 => ("FaceCoins$Reader", "this$0", "LFaceCoins;", true)
  | 8 => ("FaceCoins$SentenceReader", "marks", "[Ljava/lang/String;", true)
  | 9 => ("FaceCoins$SentenceReader", "counts", "[Ljava/lang/String;", true)
  | 10 => ("FaceCoins$SentenceReader", "ones", "I", false)
  | _ => ("FaceCoins$SentenceReader", "this$0", "LFaceCoins;", true)
def tyX7 : Nat → FieldType := fun k => match k with
  | 0 => .int
  | 1 => .int
  | 2 => .int
  | 3 => .int
  | 4 => .int
  | 5 => .int
  | 6 => .long
  | 7 => .object "FaceCoins"
  | 8 => .array (.object "java/lang/String")
  | 9 => .array (.object "java/lang/String")
  | 10 => .int
  | _ => .object "FaceCoins"
abbrev wsX70 : List Cond := u_ws RX7 TX7 12
-- two fields of one name: no nmX7
theorem tyX7_ok : ∀ k, k < 12 → parseFieldDescriptor (TX7 k).2.2.1 = some (tyX7 k) := by decide +kernel
abbrev cX7_init : ByteArray := prog_14_method_1_code
def yX7_init : MethodName := ⟨RX7, "<init>", "(LFaceCoins;)V"⟩
def dkwX7_init_2 : List UInt8 := [18, 29, 83, 89, 4, 18, 31, 83, 89, 5, 18, 33, 83, 181, 0, 35, 177]
abbrev dktX7_init_2 : List UInt8 := dkwX7_init_2 ++ []
def dkwX7_init_1 : List UInt8 := [4, 18, 19, 83, 89, 5, 18, 21, 83, 89, 6, 18, 23, 83, 181, 0, 25, 42, 6, 189, 0, 15, 89, 3]
abbrev dktX7_init_1 : List UInt8 := dkwX7_init_1 ++ dktX7_init_2
def dkwX7_init_0 : List UInt8 := [42, 43, 181, 0, 3, 42, 43, 17, 0, 200, 183, 0, 9, 42, 7, 189, 0, 15, 89, 3, 18, 17, 83, 89]
abbrev dktX7_init_0 : List UInt8 := dkwX7_init_0 ++ dktX7_init_1
theorem dksX7_init_0 : cX7_init.data.toList.drop 0 = dktX7_init_0 := by decide +kernel
theorem dksX7_init_1 : cX7_init.data.toList.drop 24 = dktX7_init_1 := dk_seg dksX7_init_0 24 rfl rfl
theorem dksX7_init_2 : cX7_init.data.toList.drop 48 = dktX7_init_2 := dk_seg dksX7_init_1 24 rfl rfl
theorem dX7_init_0 : decode cX7_init 0 = .ok (.aload_n 0, 1) := dk_42 (dk_at dksX7_init_0 0 rfl rfl)
theorem dX7_init_1 : decode cX7_init 1 = .ok (.aload_n 1, 1) := dk_43 (dk_at dksX7_init_0 1 rfl rfl)
theorem dX7_init_2 : decode cX7_init 2 = .ok (.putfield 3, 3) := dk_181 0 3 (dk_at dksX7_init_0 2 rfl rfl)
theorem dX7_init_5 : decode cX7_init 5 = .ok (.aload_n 0, 1) := dk_42 (dk_at dksX7_init_0 5 rfl rfl)
theorem dX7_init_6 : decode cX7_init 6 = .ok (.aload_n 1, 1) := dk_43 (dk_at dksX7_init_0 6 rfl rfl)
theorem dX7_init_7 : decode cX7_init 7 = .ok (.sipush 200, 3) := dk_17 0 200 (dk_at dksX7_init_0 7 rfl rfl)
theorem dX7_init_10 : decode cX7_init 10 = .ok (.invokespecial 9, 3) := dk_183 0 9 (dk_at dksX7_init_0 10 rfl rfl)
theorem dX7_init_13 : decode cX7_init 13 = .ok (.aload_n 0, 1) := dk_42 (dk_at dksX7_init_0 13 rfl rfl)
theorem dX7_init_14 : decode cX7_init 14 = .ok (.iconst 4, 1) := dk_7 (dk_at dksX7_init_0 14 rfl rfl)
theorem dX7_init_15 : decode cX7_init 15 = .ok (.anewarray 15, 3) := dk_189 0 15 (dk_at dksX7_init_0 15 rfl rfl)
theorem dX7_init_18 : decode cX7_init 18 = .ok (.dup, 1) := dk_89 (dk_at dksX7_init_0 18 rfl rfl)
theorem dX7_init_19 : decode cX7_init 19 = .ok (.iconst 0, 1) := dk_3 (dk_at dksX7_init_0 19 rfl rfl)
theorem dX7_init_20 : decode cX7_init 20 = .ok (.ldc 17, 2) := dk_18 17 (dk_at dksX7_init_0 20 rfl rfl)
theorem dX7_init_22 : decode cX7_init 22 = .ok (.aastore, 1) := dk_83 (dk_at dksX7_init_0 22 rfl rfl)
theorem dX7_init_23 : decode cX7_init 23 = .ok (.dup, 1) := dk_89 (dk_at dksX7_init_0 23 rfl rfl)
theorem dX7_init_24 : decode cX7_init 24 = .ok (.iconst 1, 1) := dk_4 (dk_at dksX7_init_1 0 rfl rfl)
theorem dX7_init_25 : decode cX7_init 25 = .ok (.ldc 19, 2) := dk_18 19 (dk_at dksX7_init_1 1 rfl rfl)
theorem dX7_init_27 : decode cX7_init 27 = .ok (.aastore, 1) := dk_83 (dk_at dksX7_init_1 3 rfl rfl)
theorem dX7_init_28 : decode cX7_init 28 = .ok (.dup, 1) := dk_89 (dk_at dksX7_init_1 4 rfl rfl)
theorem dX7_init_29 : decode cX7_init 29 = .ok (.iconst 2, 1) := dk_5 (dk_at dksX7_init_1 5 rfl rfl)
theorem dX7_init_30 : decode cX7_init 30 = .ok (.ldc 21, 2) := dk_18 21 (dk_at dksX7_init_1 6 rfl rfl)
theorem dX7_init_32 : decode cX7_init 32 = .ok (.aastore, 1) := dk_83 (dk_at dksX7_init_1 8 rfl rfl)
theorem dX7_init_33 : decode cX7_init 33 = .ok (.dup, 1) := dk_89 (dk_at dksX7_init_1 9 rfl rfl)
theorem dX7_init_34 : decode cX7_init 34 = .ok (.iconst 3, 1) := dk_6 (dk_at dksX7_init_1 10 rfl rfl)
theorem dX7_init_35 : decode cX7_init 35 = .ok (.ldc 23, 2) := dk_18 23 (dk_at dksX7_init_1 11 rfl rfl)
theorem dX7_init_37 : decode cX7_init 37 = .ok (.aastore, 1) := dk_83 (dk_at dksX7_init_1 13 rfl rfl)
theorem dX7_init_38 : decode cX7_init 38 = .ok (.putfield 25, 3) := dk_181 0 25 (dk_at dksX7_init_1 14 rfl rfl)
theorem dX7_init_41 : decode cX7_init 41 = .ok (.aload_n 0, 1) := dk_42 (dk_at dksX7_init_1 17 rfl rfl)
theorem dX7_init_42 : decode cX7_init 42 = .ok (.iconst 3, 1) := dk_6 (dk_at dksX7_init_1 18 rfl rfl)
theorem dX7_init_43 : decode cX7_init 43 = .ok (.anewarray 15, 3) := dk_189 0 15 (dk_at dksX7_init_1 19 rfl rfl)
theorem dX7_init_46 : decode cX7_init 46 = .ok (.dup, 1) := dk_89 (dk_at dksX7_init_1 22 rfl rfl)
theorem dX7_init_47 : decode cX7_init 47 = .ok (.iconst 0, 1) := dk_3 (dk_at dksX7_init_1 23 rfl rfl)
theorem dX7_init_48 : decode cX7_init 48 = .ok (.ldc 29, 2) := dk_18 29 (dk_at dksX7_init_2 0 rfl rfl)
theorem dX7_init_50 : decode cX7_init 50 = .ok (.aastore, 1) := dk_83 (dk_at dksX7_init_2 2 rfl rfl)
theorem dX7_init_51 : decode cX7_init 51 = .ok (.dup, 1) := dk_89 (dk_at dksX7_init_2 3 rfl rfl)
theorem dX7_init_52 : decode cX7_init 52 = .ok (.iconst 1, 1) := dk_4 (dk_at dksX7_init_2 4 rfl rfl)
theorem dX7_init_53 : decode cX7_init 53 = .ok (.ldc 31, 2) := dk_18 31 (dk_at dksX7_init_2 5 rfl rfl)
theorem dX7_init_55 : decode cX7_init 55 = .ok (.aastore, 1) := dk_83 (dk_at dksX7_init_2 7 rfl rfl)
theorem dX7_init_56 : decode cX7_init 56 = .ok (.dup, 1) := dk_89 (dk_at dksX7_init_2 8 rfl rfl)
theorem dX7_init_57 : decode cX7_init 57 = .ok (.iconst 2, 1) := dk_5 (dk_at dksX7_init_2 9 rfl rfl)
theorem dX7_init_58 : decode cX7_init 58 = .ok (.ldc 33, 2) := dk_18 33 (dk_at dksX7_init_2 10 rfl rfl)
theorem dX7_init_60 : decode cX7_init 60 = .ok (.aastore, 1) := dk_83 (dk_at dksX7_init_2 12 rfl rfl)
theorem dX7_init_61 : decode cX7_init 61 = .ok (.putfield 35, 3) := dk_181 0 35 (dk_at dksX7_init_2 13 rfl rfl)
theorem dX7_init_64 : decode cX7_init 64 = .ok (.return_, 1) := dk_177 (dk_at dksX7_init_2 16 rfl rfl)
abbrev cX7_read : ByteArray := prog_14_method_2_code
def yX7_read : MethodName := ⟨RX7, "read", "()LFaceCoins$Cond;"⟩
def dkwX7_read_1 : List UInt8 := [167, 0, 4, 3, 4, 182, 0, 53, 43, 176]
abbrev dktX7_read_1 : List UInt8 := dkwX7_read_1 ++ []
def dkwX7_read_0 : List UInt8 := [42, 3, 181, 0, 38, 42, 182, 0, 42, 42, 4, 182, 0, 46, 76, 42, 42, 180, 0, 50, 154, 0, 7, 4]
abbrev dktX7_read_0 : List UInt8 := dkwX7_read_0 ++ dktX7_read_1
theorem dksX7_read_0 : cX7_read.data.toList.drop 0 = dktX7_read_0 := by decide +kernel
theorem dksX7_read_1 : cX7_read.data.toList.drop 24 = dktX7_read_1 := dk_seg dksX7_read_0 24 rfl rfl
theorem dX7_read_0 : decode cX7_read 0 = .ok (.aload_n 0, 1) := dk_42 (dk_at dksX7_read_0 0 rfl rfl)
theorem dX7_read_1 : decode cX7_read 1 = .ok (.iconst 0, 1) := dk_3 (dk_at dksX7_read_0 1 rfl rfl)
theorem dX7_read_2 : decode cX7_read 2 = .ok (.putfield 38, 3) := dk_181 0 38 (dk_at dksX7_read_0 2 rfl rfl)
theorem dX7_read_5 : decode cX7_read 5 = .ok (.aload_n 0, 1) := dk_42 (dk_at dksX7_read_0 5 rfl rfl)
theorem dX7_read_6 : decode cX7_read 6 = .ok (.invokevirtual 42, 3) := dk_182 0 42 (dk_at dksX7_read_0 6 rfl rfl)
theorem dX7_read_9 : decode cX7_read 9 = .ok (.aload_n 0, 1) := dk_42 (dk_at dksX7_read_0 9 rfl rfl)
theorem dX7_read_10 : decode cX7_read 10 = .ok (.iconst 1, 1) := dk_4 (dk_at dksX7_read_0 10 rfl rfl)
theorem dX7_read_11 : decode cX7_read 11 = .ok (.invokevirtual 46, 3) := dk_182 0 46 (dk_at dksX7_read_0 11 rfl rfl)
theorem dX7_read_14 : decode cX7_read 14 = .ok (.astore_n 1, 1) := dk_76 (dk_at dksX7_read_0 14 rfl rfl)
theorem dX7_read_15 : decode cX7_read 15 = .ok (.aload_n 0, 1) := dk_42 (dk_at dksX7_read_0 15 rfl rfl)
theorem dX7_read_16 : decode cX7_read 16 = .ok (.aload_n 0, 1) := dk_42 (dk_at dksX7_read_0 16 rfl rfl)
theorem dX7_read_17 : decode cX7_read 17 = .ok (.getfield 50, 3) := dk_180 0 50 (dk_at dksX7_read_0 17 rfl rfl)
theorem dX7_read_20 : decode cX7_read 20 = .ok (.ifCond .ne 7, 3) := dk_154 0 7 (dk_at dksX7_read_0 20 rfl rfl)
theorem dX7_read_23 : decode cX7_read 23 = .ok (.iconst 1, 1) := dk_4 (dk_at dksX7_read_0 23 rfl rfl)
theorem dX7_read_24 : decode cX7_read 24 = .ok (.goto 4, 3) := dk_167 0 4 (dk_at dksX7_read_1 0 rfl rfl)
theorem dX7_read_27 : decode cX7_read 27 = .ok (.iconst 0, 1) := dk_3 (dk_at dksX7_read_1 3 rfl rfl)
theorem dX7_read_28 : decode cX7_read 28 = .ok (.iconst 1, 1) := dk_4 (dk_at dksX7_read_1 4 rfl rfl)
theorem dX7_read_29 : decode cX7_read 29 = .ok (.invokevirtual 53, 3) := dk_182 0 53 (dk_at dksX7_read_1 5 rfl rfl)
theorem dX7_read_32 : decode cX7_read 32 = .ok (.aload_n 1, 1) := dk_43 (dk_at dksX7_read_1 8 rfl rfl)
theorem dX7_read_33 : decode cX7_read 33 = .ok (.areturn, 1) := dk_176 (dk_at dksX7_read_1 9 rfl rfl)
abbrev cX7_any : ByteArray := prog_14_method_3_code
def yX7_any : MethodName := ⟨RX7, "any", "(I)LFaceCoins$Cond;"⟩
def dkwX7_any_1 : List UInt8 := [42, 27, 182, 0, 57, 183, 0, 71, 77, 167, 255, 229, 44, 176]
abbrev dktX7_any_1 : List UInt8 := dkwX7_any_1 ++ []
def dkwX7_any_0 : List UInt8 := [42, 27, 182, 0, 57, 77, 42, 18, 60, 182, 0, 62, 153, 0, 24, 42, 182, 0, 66, 187, 0, 69, 89, 44]
abbrev dktX7_any_0 : List UInt8 := dkwX7_any_0 ++ dktX7_any_1
theorem dksX7_any_0 : cX7_any.data.toList.drop 0 = dktX7_any_0 := by decide +kernel
theorem dksX7_any_1 : cX7_any.data.toList.drop 24 = dktX7_any_1 := dk_seg dksX7_any_0 24 rfl rfl
theorem dX7_any_0 : decode cX7_any 0 = .ok (.aload_n 0, 1) := dk_42 (dk_at dksX7_any_0 0 rfl rfl)
theorem dX7_any_1 : decode cX7_any 1 = .ok (.iload_n 1, 1) := dk_27 (dk_at dksX7_any_0 1 rfl rfl)
theorem dX7_any_2 : decode cX7_any 2 = .ok (.invokevirtual 57, 3) := dk_182 0 57 (dk_at dksX7_any_0 2 rfl rfl)
theorem dX7_any_5 : decode cX7_any 5 = .ok (.astore_n 2, 1) := dk_77 (dk_at dksX7_any_0 5 rfl rfl)
theorem dX7_any_6 : decode cX7_any 6 = .ok (.aload_n 0, 1) := dk_42 (dk_at dksX7_any_0 6 rfl rfl)
theorem dX7_any_7 : decode cX7_any 7 = .ok (.ldc 60, 2) := dk_18 60 (dk_at dksX7_any_0 7 rfl rfl)
theorem dX7_any_9 : decode cX7_any 9 = .ok (.invokevirtual 62, 3) := dk_182 0 62 (dk_at dksX7_any_0 9 rfl rfl)
theorem dX7_any_12 : decode cX7_any 12 = .ok (.ifCond .eq 24, 3) := dk_153 0 24 (dk_at dksX7_any_0 12 rfl rfl)
theorem dX7_any_15 : decode cX7_any 15 = .ok (.aload_n 0, 1) := dk_42 (dk_at dksX7_any_0 15 rfl rfl)
theorem dX7_any_16 : decode cX7_any 16 = .ok (.invokevirtual 66, 3) := dk_182 0 66 (dk_at dksX7_any_0 16 rfl rfl)
theorem dX7_any_19 : decode cX7_any 19 = .ok (.new 69, 3) := dk_187 0 69 (dk_at dksX7_any_0 19 rfl rfl)
theorem dX7_any_22 : decode cX7_any 22 = .ok (.dup, 1) := dk_89 (dk_at dksX7_any_0 22 rfl rfl)
theorem dX7_any_23 : decode cX7_any 23 = .ok (.aload_n 2, 1) := dk_44 (dk_at dksX7_any_0 23 rfl rfl)
theorem dX7_any_24 : decode cX7_any 24 = .ok (.aload_n 0, 1) := dk_42 (dk_at dksX7_any_1 0 rfl rfl)
theorem dX7_any_25 : decode cX7_any 25 = .ok (.iload_n 1, 1) := dk_27 (dk_at dksX7_any_1 1 rfl rfl)
theorem dX7_any_26 : decode cX7_any 26 = .ok (.invokevirtual 57, 3) := dk_182 0 57 (dk_at dksX7_any_1 2 rfl rfl)
theorem dX7_any_29 : decode cX7_any 29 = .ok (.invokespecial 71, 3) := dk_183 0 71 (dk_at dksX7_any_1 5 rfl rfl)
theorem dX7_any_32 : decode cX7_any 32 = .ok (.astore_n 2, 1) := dk_77 (dk_at dksX7_any_1 8 rfl rfl)
theorem dX7_any_33 : decode cX7_any 33 = .ok (.goto (-27), 3) := dk_167 255 229 (dk_at dksX7_any_1 9 rfl rfl)
theorem dX7_any_36 : decode cX7_any 36 = .ok (.aload_n 2, 1) := dk_44 (dk_at dksX7_any_1 12 rfl rfl)
theorem dX7_any_37 : decode cX7_any 37 = .ok (.areturn, 1) := dk_176 (dk_at dksX7_any_1 13 rfl rfl)
abbrev cX7_both : ByteArray := prog_14_method_4_code
def yX7_both : MethodName := ⟨RX7, "both", "(I)LFaceCoins$Cond;"⟩
def dkwX7_both_1 : List UInt8 := [42, 27, 182, 0, 74, 183, 0, 81, 77, 167, 255, 229, 44, 176]
abbrev dktX7_both_1 : List UInt8 := dkwX7_both_1 ++ []
def dkwX7_both_0 : List UInt8 := [42, 27, 182, 0, 74, 77, 42, 18, 77, 182, 0, 62, 153, 0, 24, 42, 182, 0, 66, 187, 0, 79, 89, 44]
abbrev dktX7_both_0 : List UInt8 := dkwX7_both_0 ++ dktX7_both_1
theorem dksX7_both_0 : cX7_both.data.toList.drop 0 = dktX7_both_0 := by decide +kernel
theorem dksX7_both_1 : cX7_both.data.toList.drop 24 = dktX7_both_1 := dk_seg dksX7_both_0 24 rfl rfl
theorem dX7_both_0 : decode cX7_both 0 = .ok (.aload_n 0, 1) := dk_42 (dk_at dksX7_both_0 0 rfl rfl)
theorem dX7_both_1 : decode cX7_both 1 = .ok (.iload_n 1, 1) := dk_27 (dk_at dksX7_both_0 1 rfl rfl)
theorem dX7_both_2 : decode cX7_both 2 = .ok (.invokevirtual 74, 3) := dk_182 0 74 (dk_at dksX7_both_0 2 rfl rfl)
theorem dX7_both_5 : decode cX7_both 5 = .ok (.astore_n 2, 1) := dk_77 (dk_at dksX7_both_0 5 rfl rfl)
theorem dX7_both_6 : decode cX7_both 6 = .ok (.aload_n 0, 1) := dk_42 (dk_at dksX7_both_0 6 rfl rfl)
theorem dX7_both_7 : decode cX7_both 7 = .ok (.ldc 77, 2) := dk_18 77 (dk_at dksX7_both_0 7 rfl rfl)
theorem dX7_both_9 : decode cX7_both 9 = .ok (.invokevirtual 62, 3) := dk_182 0 62 (dk_at dksX7_both_0 9 rfl rfl)
theorem dX7_both_12 : decode cX7_both 12 = .ok (.ifCond .eq 24, 3) := dk_153 0 24 (dk_at dksX7_both_0 12 rfl rfl)
theorem dX7_both_15 : decode cX7_both 15 = .ok (.aload_n 0, 1) := dk_42 (dk_at dksX7_both_0 15 rfl rfl)
theorem dX7_both_16 : decode cX7_both 16 = .ok (.invokevirtual 66, 3) := dk_182 0 66 (dk_at dksX7_both_0 16 rfl rfl)
theorem dX7_both_19 : decode cX7_both 19 = .ok (.new 79, 3) := dk_187 0 79 (dk_at dksX7_both_0 19 rfl rfl)
theorem dX7_both_22 : decode cX7_both 22 = .ok (.dup, 1) := dk_89 (dk_at dksX7_both_0 22 rfl rfl)
theorem dX7_both_23 : decode cX7_both 23 = .ok (.aload_n 2, 1) := dk_44 (dk_at dksX7_both_0 23 rfl rfl)
theorem dX7_both_24 : decode cX7_both 24 = .ok (.aload_n 0, 1) := dk_42 (dk_at dksX7_both_1 0 rfl rfl)
theorem dX7_both_25 : decode cX7_both 25 = .ok (.iload_n 1, 1) := dk_27 (dk_at dksX7_both_1 1 rfl rfl)
theorem dX7_both_26 : decode cX7_both 26 = .ok (.invokevirtual 74, 3) := dk_182 0 74 (dk_at dksX7_both_1 2 rfl rfl)
theorem dX7_both_29 : decode cX7_both 29 = .ok (.invokespecial 81, 3) := dk_183 0 81 (dk_at dksX7_both_1 5 rfl rfl)
theorem dX7_both_32 : decode cX7_both 32 = .ok (.astore_n 2, 1) := dk_77 (dk_at dksX7_both_1 8 rfl rfl)
theorem dX7_both_33 : decode cX7_both 33 = .ok (.goto (-27), 3) := dk_167 255 229 (dk_at dksX7_both_1 9 rfl rfl)
theorem dX7_both_36 : decode cX7_both 36 = .ok (.aload_n 2, 1) := dk_44 (dk_at dksX7_both_1 12 rfl rfl)
theorem dX7_both_37 : decode cX7_both 37 = .ok (.areturn, 1) := dk_176 (dk_at dksX7_both_1 13 rfl rfl)
abbrev cX7_single : ByteArray := prog_14_method_5_code
def yX7_single : MethodName := ⟨RX7, "single", "(I)LFaceCoins$Cond;"⟩
def dkwX7_single_12 : List UInt8 := [187, 0, 131, 89, 21, 5, 21, 6, 21, 7, 183, 0, 133, 176]
abbrev dktX7_single_12 : List UInt8 := dkwX7_single_12 ++ []
def dkwX7_single_11 : List UInt8 := [160, 0, 7, 4, 167, 0, 4, 3, 4, 182, 0, 53, 42, 180, 0, 128, 54, 7, 42, 182, 0, 66]
abbrev dktX7_single_11 : List UInt8 := dkwX7_single_11 ++ dktX7_single_12
def dkwX7_single_10 : List UInt8 := [167, 0, 4, 3, 4, 182, 0, 53, 42, 180, 0, 128, 54, 6, 42, 182, 0, 66, 42, 42, 180, 0, 50, 5]
abbrev dktX7_single_10 : List UInt8 := dkwX7_single_10 ++ dktX7_single_11
def dkwX7_single_9 : List UInt8 := [154, 0, 21, 42, 16, 61, 182, 0, 84, 154, 0, 12, 42, 16, 62, 182, 0, 84, 153, 0, 7, 4]
abbrev dktX7_single_9 : List UInt8 := dkwX7_single_9 ++ dktX7_single_10
def dkwX7_single_8 : List UInt8 := [180, 0, 102, 180, 0, 106, 180, 0, 118, 182, 0, 121, 183, 0, 125, 176, 42, 42, 16, 60, 182, 0, 84]
abbrev dktX7_single_8 : List UInt8 := dkwX7_single_8 ++ dktX7_single_9
def dkwX7_single_7 : List UInt8 := [3, 167, 0, 33, 42, 42, 180, 0, 3, 180, 0, 102, 180, 0, 106, 180, 0, 112, 42, 180, 0, 3]
abbrev dktX7_single_7 : List UInt8 := dkwX7_single_7 ++ dktX7_single_8
def dkwX7_single_6 : List UInt8 := [182, 0, 96, 25, 6, 176, 21, 4, 2, 159, 0, 53, 187, 0, 100, 89, 21, 4, 21, 4, 6, 160, 0, 7]
abbrev dktX7_single_6 : List UInt8 := dkwX7_single_6 ++ dktX7_single_7
def dkwX7_single_5 : List UInt8 := [182, 0, 74, 183, 0, 93, 176, 29, 153, 0, 21, 42, 27, 4, 96, 182, 0, 46, 58, 6, 42, 16, 41]
abbrev dktX7_single_5 : List UInt8 := dkwX7_single_5 ++ dktX7_single_6
def dkwX7_single_4 : List UInt8 := [180, 0, 38, 4, 96, 181, 0, 38, 42, 182, 0, 66, 28, 153, 0, 18, 187, 0, 91, 89, 42, 27, 4, 96]
abbrev dktX7_single_4 : List UInt8 := dkwX7_single_4 ++ dktX7_single_5
def dkwX7_single_3 : List UInt8 := [16, 20, 162, 0, 13, 27, 16, 8, 163, 0, 7, 4, 167, 0, 4, 3, 7, 182, 0, 53, 42, 89]
abbrev dktX7_single_3 : List UInt8 := dkwX7_single_3 ++ dktX7_single_4
def dkwX7_single_2 : List UInt8 := [160, 0, 9, 21, 5, 2, 159, 0, 7, 4, 167, 0, 4, 3, 4, 182, 0, 53, 42, 42, 180, 0, 38]
abbrev dktX7_single_2 : List UInt8 := dkwX7_single_2 ++ dktX7_single_3
def dkwX7_single_1 : List UInt8 := [42, 42, 180, 0, 35, 182, 0, 87, 54, 5, 42, 28, 154, 0, 19, 29, 154, 0, 15, 21, 4, 2]
abbrev dktX7_single_1 : List UInt8 := dkwX7_single_1 ++ dktX7_single_2
def dkwX7_single_0 : List UInt8 := [42, 18, 82, 182, 0, 62, 61, 42, 16, 40, 182, 0, 84, 62, 42, 42, 180, 0, 25, 182, 0, 87, 54, 4]
abbrev dktX7_single_0 : List UInt8 := dkwX7_single_0 ++ dktX7_single_1
theorem dksX7_single_0 : cX7_single.data.toList.drop 0 = dktX7_single_0 := by decide +kernel
theorem dksX7_single_1 : cX7_single.data.toList.drop 24 = dktX7_single_1 := dk_seg dksX7_single_0 24 rfl rfl
theorem dksX7_single_2 : cX7_single.data.toList.drop 46 = dktX7_single_2 := dk_seg dksX7_single_1 22 rfl rfl
theorem dksX7_single_3 : cX7_single.data.toList.drop 69 = dktX7_single_3 := dk_seg dksX7_single_2 23 rfl rfl
theorem dksX7_single_4 : cX7_single.data.toList.drop 91 = dktX7_single_4 := dk_seg dksX7_single_3 22 rfl rfl
theorem dksX7_single_5 : cX7_single.data.toList.drop 115 = dktX7_single_5 := dk_seg dksX7_single_4 24 rfl rfl
theorem dksX7_single_6 : cX7_single.data.toList.drop 138 = dktX7_single_6 := dk_seg dksX7_single_5 23 rfl rfl
theorem dksX7_single_7 : cX7_single.data.toList.drop 162 = dktX7_single_7 := dk_seg dksX7_single_6 24 rfl rfl
theorem dksX7_single_8 : cX7_single.data.toList.drop 184 = dktX7_single_8 := dk_seg dksX7_single_7 22 rfl rfl
theorem dksX7_single_9 : cX7_single.data.toList.drop 207 = dktX7_single_9 := dk_seg dksX7_single_8 23 rfl rfl
theorem dksX7_single_10 : cX7_single.data.toList.drop 229 = dktX7_single_10 := dk_seg dksX7_single_9 22 rfl rfl
theorem dksX7_single_11 : cX7_single.data.toList.drop 253 = dktX7_single_11 := dk_seg dksX7_single_10 24 rfl rfl
theorem dksX7_single_12 : cX7_single.data.toList.drop 275 = dktX7_single_12 := dk_seg dksX7_single_11 22 rfl rfl
theorem dX7_single_0 : decode cX7_single 0 = .ok (.aload_n 0, 1) := dk_42 (dk_at dksX7_single_0 0 rfl rfl)
theorem dX7_single_1 : decode cX7_single 1 = .ok (.ldc 82, 2) := dk_18 82 (dk_at dksX7_single_0 1 rfl rfl)
theorem dX7_single_3 : decode cX7_single 3 = .ok (.invokevirtual 62, 3) := dk_182 0 62 (dk_at dksX7_single_0 3 rfl rfl)
theorem dX7_single_6 : decode cX7_single 6 = .ok (.istore_n 2, 1) := dk_61 (dk_at dksX7_single_0 6 rfl rfl)
theorem dX7_single_7 : decode cX7_single 7 = .ok (.aload_n 0, 1) := dk_42 (dk_at dksX7_single_0 7 rfl rfl)
theorem dX7_single_8 : decode cX7_single 8 = .ok (.bipush 40, 2) := dk_16 40 (dk_at dksX7_single_0 8 rfl rfl)
theorem dX7_single_10 : decode cX7_single 10 = .ok (.invokevirtual 84, 3) := dk_182 0 84 (dk_at dksX7_single_0 10 rfl rfl)
theorem dX7_single_13 : decode cX7_single 13 = .ok (.istore_n 3, 1) := dk_62 (dk_at dksX7_single_0 13 rfl rfl)
theorem dX7_single_14 : decode cX7_single 14 = .ok (.aload_n 0, 1) := dk_42 (dk_at dksX7_single_0 14 rfl rfl)
theorem dX7_single_15 : decode cX7_single 15 = .ok (.aload_n 0, 1) := dk_42 (dk_at dksX7_single_0 15 rfl rfl)
theorem dX7_single_16 : decode cX7_single 16 = .ok (.getfield 25, 3) := dk_180 0 25 (dk_at dksX7_single_0 16 rfl rfl)
theorem dX7_single_19 : decode cX7_single 19 = .ok (.invokevirtual 87, 3) := dk_182 0 87 (dk_at dksX7_single_0 19 rfl rfl)
theorem dX7_single_22 : decode cX7_single 22 = .ok (.istore 4, 2) := dk_54 4 (dk_at dksX7_single_0 22 rfl rfl)
theorem dX7_single_24 : decode cX7_single 24 = .ok (.aload_n 0, 1) := dk_42 (dk_at dksX7_single_1 0 rfl rfl)
theorem dX7_single_25 : decode cX7_single 25 = .ok (.aload_n 0, 1) := dk_42 (dk_at dksX7_single_1 1 rfl rfl)
theorem dX7_single_26 : decode cX7_single 26 = .ok (.getfield 35, 3) := dk_180 0 35 (dk_at dksX7_single_1 2 rfl rfl)
theorem dX7_single_29 : decode cX7_single 29 = .ok (.invokevirtual 87, 3) := dk_182 0 87 (dk_at dksX7_single_1 5 rfl rfl)
theorem dX7_single_32 : decode cX7_single 32 = .ok (.istore 5, 2) := dk_54 5 (dk_at dksX7_single_1 8 rfl rfl)
theorem dX7_single_34 : decode cX7_single 34 = .ok (.aload_n 0, 1) := dk_42 (dk_at dksX7_single_1 10 rfl rfl)
theorem dX7_single_35 : decode cX7_single 35 = .ok (.iload_n 2, 1) := dk_28 (dk_at dksX7_single_1 11 rfl rfl)
theorem dX7_single_36 : decode cX7_single 36 = .ok (.ifCond .ne 19, 3) := dk_154 0 19 (dk_at dksX7_single_1 12 rfl rfl)
theorem dX7_single_39 : decode cX7_single 39 = .ok (.iload_n 3, 1) := dk_29 (dk_at dksX7_single_1 15 rfl rfl)
theorem dX7_single_40 : decode cX7_single 40 = .ok (.ifCond .ne 15, 3) := dk_154 0 15 (dk_at dksX7_single_1 16 rfl rfl)
theorem dX7_single_43 : decode cX7_single 43 = .ok (.iload 4, 2) := dk_21 4 (dk_at dksX7_single_1 19 rfl rfl)
theorem dX7_single_45 : decode cX7_single 45 = .ok (.iconst (-1), 1) := dk_2 (dk_at dksX7_single_1 21 rfl rfl)
theorem dX7_single_46 : decode cX7_single 46 = .ok (.if_icmp .ne 9, 3) := dk_160 0 9 (dk_at dksX7_single_2 0 rfl rfl)
theorem dX7_single_49 : decode cX7_single 49 = .ok (.iload 5, 2) := dk_21 5 (dk_at dksX7_single_2 3 rfl rfl)
theorem dX7_single_51 : decode cX7_single 51 = .ok (.iconst (-1), 1) := dk_2 (dk_at dksX7_single_2 5 rfl rfl)
theorem dX7_single_52 : decode cX7_single 52 = .ok (.if_icmp .eq 7, 3) := dk_159 0 7 (dk_at dksX7_single_2 6 rfl rfl)
theorem dX7_single_55 : decode cX7_single 55 = .ok (.iconst 1, 1) := dk_4 (dk_at dksX7_single_2 9 rfl rfl)
theorem dX7_single_56 : decode cX7_single 56 = .ok (.goto 4, 3) := dk_167 0 4 (dk_at dksX7_single_2 10 rfl rfl)
theorem dX7_single_59 : decode cX7_single 59 = .ok (.iconst 0, 1) := dk_3 (dk_at dksX7_single_2 13 rfl rfl)
theorem dX7_single_60 : decode cX7_single 60 = .ok (.iconst 1, 1) := dk_4 (dk_at dksX7_single_2 14 rfl rfl)
theorem dX7_single_61 : decode cX7_single 61 = .ok (.invokevirtual 53, 3) := dk_182 0 53 (dk_at dksX7_single_2 15 rfl rfl)
theorem dX7_single_64 : decode cX7_single 64 = .ok (.aload_n 0, 1) := dk_42 (dk_at dksX7_single_2 18 rfl rfl)
theorem dX7_single_65 : decode cX7_single 65 = .ok (.aload_n 0, 1) := dk_42 (dk_at dksX7_single_2 19 rfl rfl)
theorem dX7_single_66 : decode cX7_single 66 = .ok (.getfield 38, 3) := dk_180 0 38 (dk_at dksX7_single_2 20 rfl rfl)
theorem dX7_single_69 : decode cX7_single 69 = .ok (.bipush 20, 2) := dk_16 20 (dk_at dksX7_single_3 0 rfl rfl)
theorem dX7_single_71 : decode cX7_single 71 = .ok (.if_icmp .ge 13, 3) := dk_162 0 13 (dk_at dksX7_single_3 2 rfl rfl)
theorem dX7_single_74 : decode cX7_single 74 = .ok (.iload_n 1, 1) := dk_27 (dk_at dksX7_single_3 5 rfl rfl)
theorem dX7_single_75 : decode cX7_single 75 = .ok (.bipush 8, 2) := dk_16 8 (dk_at dksX7_single_3 6 rfl rfl)
theorem dX7_single_77 : decode cX7_single 77 = .ok (.if_icmp .gt 7, 3) := dk_163 0 7 (dk_at dksX7_single_3 8 rfl rfl)
theorem dX7_single_80 : decode cX7_single 80 = .ok (.iconst 1, 1) := dk_4 (dk_at dksX7_single_3 11 rfl rfl)
theorem dX7_single_81 : decode cX7_single 81 = .ok (.goto 4, 3) := dk_167 0 4 (dk_at dksX7_single_3 12 rfl rfl)
theorem dX7_single_84 : decode cX7_single 84 = .ok (.iconst 0, 1) := dk_3 (dk_at dksX7_single_3 15 rfl rfl)
theorem dX7_single_85 : decode cX7_single 85 = .ok (.iconst 4, 1) := dk_7 (dk_at dksX7_single_3 16 rfl rfl)
theorem dX7_single_86 : decode cX7_single 86 = .ok (.invokevirtual 53, 3) := dk_182 0 53 (dk_at dksX7_single_3 17 rfl rfl)
theorem dX7_single_89 : decode cX7_single 89 = .ok (.aload_n 0, 1) := dk_42 (dk_at dksX7_single_3 20 rfl rfl)
theorem dX7_single_90 : decode cX7_single 90 = .ok (.dup, 1) := dk_89 (dk_at dksX7_single_3 21 rfl rfl)
theorem dX7_single_91 : decode cX7_single 91 = .ok (.getfield 38, 3) := dk_180 0 38 (dk_at dksX7_single_4 0 rfl rfl)
theorem dX7_single_94 : decode cX7_single 94 = .ok (.iconst 1, 1) := dk_4 (dk_at dksX7_single_4 3 rfl rfl)
theorem dX7_single_95 : decode cX7_single 95 = .ok (.iadd, 1) := dk_96 (dk_at dksX7_single_4 4 rfl rfl)
theorem dX7_single_96 : decode cX7_single 96 = .ok (.putfield 38, 3) := dk_181 0 38 (dk_at dksX7_single_4 5 rfl rfl)
theorem dX7_single_99 : decode cX7_single 99 = .ok (.aload_n 0, 1) := dk_42 (dk_at dksX7_single_4 8 rfl rfl)
theorem dX7_single_100 : decode cX7_single 100 = .ok (.invokevirtual 66, 3) := dk_182 0 66 (dk_at dksX7_single_4 9 rfl rfl)
theorem dX7_single_103 : decode cX7_single 103 = .ok (.iload_n 2, 1) := dk_28 (dk_at dksX7_single_4 12 rfl rfl)
theorem dX7_single_104 : decode cX7_single 104 = .ok (.ifCond .eq 18, 3) := dk_153 0 18 (dk_at dksX7_single_4 13 rfl rfl)
theorem dX7_single_107 : decode cX7_single 107 = .ok (.new 91, 3) := dk_187 0 91 (dk_at dksX7_single_4 16 rfl rfl)
theorem dX7_single_110 : decode cX7_single 110 = .ok (.dup, 1) := dk_89 (dk_at dksX7_single_4 19 rfl rfl)
theorem dX7_single_111 : decode cX7_single 111 = .ok (.aload_n 0, 1) := dk_42 (dk_at dksX7_single_4 20 rfl rfl)
theorem dX7_single_112 : decode cX7_single 112 = .ok (.iload_n 1, 1) := dk_27 (dk_at dksX7_single_4 21 rfl rfl)
theorem dX7_single_113 : decode cX7_single 113 = .ok (.iconst 1, 1) := dk_4 (dk_at dksX7_single_4 22 rfl rfl)
theorem dX7_single_114 : decode cX7_single 114 = .ok (.iadd, 1) := dk_96 (dk_at dksX7_single_4 23 rfl rfl)
theorem dX7_single_115 : decode cX7_single 115 = .ok (.invokevirtual 74, 3) := dk_182 0 74 (dk_at dksX7_single_5 0 rfl rfl)
theorem dX7_single_118 : decode cX7_single 118 = .ok (.invokespecial 93, 3) := dk_183 0 93 (dk_at dksX7_single_5 3 rfl rfl)
theorem dX7_single_121 : decode cX7_single 121 = .ok (.areturn, 1) := dk_176 (dk_at dksX7_single_5 6 rfl rfl)
theorem dX7_single_122 : decode cX7_single 122 = .ok (.iload_n 3, 1) := dk_29 (dk_at dksX7_single_5 7 rfl rfl)
theorem dX7_single_123 : decode cX7_single 123 = .ok (.ifCond .eq 21, 3) := dk_153 0 21 (dk_at dksX7_single_5 8 rfl rfl)
theorem dX7_single_126 : decode cX7_single 126 = .ok (.aload_n 0, 1) := dk_42 (dk_at dksX7_single_5 11 rfl rfl)
theorem dX7_single_127 : decode cX7_single 127 = .ok (.iload_n 1, 1) := dk_27 (dk_at dksX7_single_5 12 rfl rfl)
theorem dX7_single_128 : decode cX7_single 128 = .ok (.iconst 1, 1) := dk_4 (dk_at dksX7_single_5 13 rfl rfl)
theorem dX7_single_129 : decode cX7_single 129 = .ok (.iadd, 1) := dk_96 (dk_at dksX7_single_5 14 rfl rfl)
theorem dX7_single_130 : decode cX7_single 130 = .ok (.invokevirtual 46, 3) := dk_182 0 46 (dk_at dksX7_single_5 15 rfl rfl)
theorem dX7_single_133 : decode cX7_single 133 = .ok (.astore 6, 2) := dk_58 6 (dk_at dksX7_single_5 18 rfl rfl)
theorem dX7_single_135 : decode cX7_single 135 = .ok (.aload_n 0, 1) := dk_42 (dk_at dksX7_single_5 20 rfl rfl)
theorem dX7_single_136 : decode cX7_single 136 = .ok (.bipush 41, 2) := dk_16 41 (dk_at dksX7_single_5 21 rfl rfl)
theorem dX7_single_138 : decode cX7_single 138 = .ok (.invokevirtual 96, 3) := dk_182 0 96 (dk_at dksX7_single_6 0 rfl rfl)
theorem dX7_single_141 : decode cX7_single 141 = .ok (.aload 6, 2) := dk_25 6 (dk_at dksX7_single_6 3 rfl rfl)
theorem dX7_single_143 : decode cX7_single 143 = .ok (.areturn, 1) := dk_176 (dk_at dksX7_single_6 5 rfl rfl)
theorem dX7_single_144 : decode cX7_single 144 = .ok (.iload 4, 2) := dk_21 4 (dk_at dksX7_single_6 6 rfl rfl)
theorem dX7_single_146 : decode cX7_single 146 = .ok (.iconst (-1), 1) := dk_2 (dk_at dksX7_single_6 8 rfl rfl)
theorem dX7_single_147 : decode cX7_single 147 = .ok (.if_icmp .eq 53, 3) := dk_159 0 53 (dk_at dksX7_single_6 9 rfl rfl)
theorem dX7_single_150 : decode cX7_single 150 = .ok (.new 100, 3) := dk_187 0 100 (dk_at dksX7_single_6 12 rfl rfl)
theorem dX7_single_153 : decode cX7_single 153 = .ok (.dup, 1) := dk_89 (dk_at dksX7_single_6 15 rfl rfl)
theorem dX7_single_154 : decode cX7_single 154 = .ok (.iload 4, 2) := dk_21 4 (dk_at dksX7_single_6 16 rfl rfl)
theorem dX7_single_156 : decode cX7_single 156 = .ok (.iload 4, 2) := dk_21 4 (dk_at dksX7_single_6 18 rfl rfl)
theorem dX7_single_158 : decode cX7_single 158 = .ok (.iconst 3, 1) := dk_6 (dk_at dksX7_single_6 20 rfl rfl)
theorem dX7_single_159 : decode cX7_single 159 = .ok (.if_icmp .ne 7, 3) := dk_160 0 7 (dk_at dksX7_single_6 21 rfl rfl)
theorem dX7_single_162 : decode cX7_single 162 = .ok (.iconst 0, 1) := dk_3 (dk_at dksX7_single_7 0 rfl rfl)
theorem dX7_single_163 : decode cX7_single 163 = .ok (.goto 33, 3) := dk_167 0 33 (dk_at dksX7_single_7 1 rfl rfl)
theorem dX7_single_166 : decode cX7_single 166 = .ok (.aload_n 0, 1) := dk_42 (dk_at dksX7_single_7 4 rfl rfl)
theorem dX7_single_167 : decode cX7_single 167 = .ok (.aload_n 0, 1) := dk_42 (dk_at dksX7_single_7 5 rfl rfl)
theorem dX7_single_168 : decode cX7_single 168 = .ok (.getfield 3, 3) := dk_180 0 3 (dk_at dksX7_single_7 6 rfl rfl)
theorem dX7_single_171 : decode cX7_single 171 = .ok (.getfield 102, 3) := dk_180 0 102 (dk_at dksX7_single_7 9 rfl rfl)
theorem dX7_single_174 : decode cX7_single 174 = .ok (.getfield 106, 3) := dk_180 0 106 (dk_at dksX7_single_7 12 rfl rfl)
theorem dX7_single_177 : decode cX7_single 177 = .ok (.getfield 112, 3) := dk_180 0 112 (dk_at dksX7_single_7 15 rfl rfl)
theorem dX7_single_180 : decode cX7_single 180 = .ok (.aload_n 0, 1) := dk_42 (dk_at dksX7_single_7 18 rfl rfl)
theorem dX7_single_181 : decode cX7_single 181 = .ok (.getfield 3, 3) := dk_180 0 3 (dk_at dksX7_single_7 19 rfl rfl)
theorem dX7_single_184 : decode cX7_single 184 = .ok (.getfield 102, 3) := dk_180 0 102 (dk_at dksX7_single_8 0 rfl rfl)
theorem dX7_single_187 : decode cX7_single 187 = .ok (.getfield 106, 3) := dk_180 0 106 (dk_at dksX7_single_8 3 rfl rfl)
theorem dX7_single_190 : decode cX7_single 190 = .ok (.getfield 118, 3) := dk_180 0 118 (dk_at dksX7_single_8 6 rfl rfl)
theorem dX7_single_193 : decode cX7_single 193 = .ok (.invokevirtual 121, 3) := dk_182 0 121 (dk_at dksX7_single_8 9 rfl rfl)
theorem dX7_single_196 : decode cX7_single 196 = .ok (.invokespecial 125, 3) := dk_183 0 125 (dk_at dksX7_single_8 12 rfl rfl)
theorem dX7_single_199 : decode cX7_single 199 = .ok (.areturn, 1) := dk_176 (dk_at dksX7_single_8 15 rfl rfl)
theorem dX7_single_200 : decode cX7_single 200 = .ok (.aload_n 0, 1) := dk_42 (dk_at dksX7_single_8 16 rfl rfl)
theorem dX7_single_201 : decode cX7_single 201 = .ok (.aload_n 0, 1) := dk_42 (dk_at dksX7_single_8 17 rfl rfl)
theorem dX7_single_202 : decode cX7_single 202 = .ok (.bipush 60, 2) := dk_16 60 (dk_at dksX7_single_8 18 rfl rfl)
theorem dX7_single_204 : decode cX7_single 204 = .ok (.invokevirtual 84, 3) := dk_182 0 84 (dk_at dksX7_single_8 20 rfl rfl)
theorem dX7_single_207 : decode cX7_single 207 = .ok (.ifCond .ne 21, 3) := dk_154 0 21 (dk_at dksX7_single_9 0 rfl rfl)
theorem dX7_single_210 : decode cX7_single 210 = .ok (.aload_n 0, 1) := dk_42 (dk_at dksX7_single_9 3 rfl rfl)
theorem dX7_single_211 : decode cX7_single 211 = .ok (.bipush 61, 2) := dk_16 61 (dk_at dksX7_single_9 4 rfl rfl)
theorem dX7_single_213 : decode cX7_single 213 = .ok (.invokevirtual 84, 3) := dk_182 0 84 (dk_at dksX7_single_9 6 rfl rfl)
theorem dX7_single_216 : decode cX7_single 216 = .ok (.ifCond .ne 12, 3) := dk_154 0 12 (dk_at dksX7_single_9 9 rfl rfl)
theorem dX7_single_219 : decode cX7_single 219 = .ok (.aload_n 0, 1) := dk_42 (dk_at dksX7_single_9 12 rfl rfl)
theorem dX7_single_220 : decode cX7_single 220 = .ok (.bipush 62, 2) := dk_16 62 (dk_at dksX7_single_9 13 rfl rfl)
theorem dX7_single_222 : decode cX7_single 222 = .ok (.invokevirtual 84, 3) := dk_182 0 84 (dk_at dksX7_single_9 15 rfl rfl)
theorem dX7_single_225 : decode cX7_single 225 = .ok (.ifCond .eq 7, 3) := dk_153 0 7 (dk_at dksX7_single_9 18 rfl rfl)
theorem dX7_single_228 : decode cX7_single 228 = .ok (.iconst 1, 1) := dk_4 (dk_at dksX7_single_9 21 rfl rfl)
theorem dX7_single_229 : decode cX7_single 229 = .ok (.goto 4, 3) := dk_167 0 4 (dk_at dksX7_single_10 0 rfl rfl)
theorem dX7_single_232 : decode cX7_single 232 = .ok (.iconst 0, 1) := dk_3 (dk_at dksX7_single_10 3 rfl rfl)
theorem dX7_single_233 : decode cX7_single 233 = .ok (.iconst 1, 1) := dk_4 (dk_at dksX7_single_10 4 rfl rfl)
theorem dX7_single_234 : decode cX7_single 234 = .ok (.invokevirtual 53, 3) := dk_182 0 53 (dk_at dksX7_single_10 5 rfl rfl)
theorem dX7_single_237 : decode cX7_single 237 = .ok (.aload_n 0, 1) := dk_42 (dk_at dksX7_single_10 8 rfl rfl)
theorem dX7_single_238 : decode cX7_single 238 = .ok (.getfield 128, 3) := dk_180 0 128 (dk_at dksX7_single_10 9 rfl rfl)
theorem dX7_single_241 : decode cX7_single 241 = .ok (.istore 6, 2) := dk_54 6 (dk_at dksX7_single_10 12 rfl rfl)
theorem dX7_single_243 : decode cX7_single 243 = .ok (.aload_n 0, 1) := dk_42 (dk_at dksX7_single_10 14 rfl rfl)
theorem dX7_single_244 : decode cX7_single 244 = .ok (.invokevirtual 66, 3) := dk_182 0 66 (dk_at dksX7_single_10 15 rfl rfl)
theorem dX7_single_247 : decode cX7_single 247 = .ok (.aload_n 0, 1) := dk_42 (dk_at dksX7_single_10 18 rfl rfl)
theorem dX7_single_248 : decode cX7_single 248 = .ok (.aload_n 0, 1) := dk_42 (dk_at dksX7_single_10 19 rfl rfl)
theorem dX7_single_249 : decode cX7_single 249 = .ok (.getfield 50, 3) := dk_180 0 50 (dk_at dksX7_single_10 20 rfl rfl)
theorem dX7_single_252 : decode cX7_single 252 = .ok (.iconst 2, 1) := dk_5 (dk_at dksX7_single_10 23 rfl rfl)
theorem dX7_single_253 : decode cX7_single 253 = .ok (.if_icmp .ne 7, 3) := dk_160 0 7 (dk_at dksX7_single_11 0 rfl rfl)
theorem dX7_single_256 : decode cX7_single 256 = .ok (.iconst 1, 1) := dk_4 (dk_at dksX7_single_11 3 rfl rfl)
theorem dX7_single_257 : decode cX7_single 257 = .ok (.goto 4, 3) := dk_167 0 4 (dk_at dksX7_single_11 4 rfl rfl)
theorem dX7_single_260 : decode cX7_single 260 = .ok (.iconst 0, 1) := dk_3 (dk_at dksX7_single_11 7 rfl rfl)
theorem dX7_single_261 : decode cX7_single 261 = .ok (.iconst 1, 1) := dk_4 (dk_at dksX7_single_11 8 rfl rfl)
theorem dX7_single_262 : decode cX7_single 262 = .ok (.invokevirtual 53, 3) := dk_182 0 53 (dk_at dksX7_single_11 9 rfl rfl)
theorem dX7_single_265 : decode cX7_single 265 = .ok (.aload_n 0, 1) := dk_42 (dk_at dksX7_single_11 12 rfl rfl)
theorem dX7_single_266 : decode cX7_single 266 = .ok (.getfield 128, 3) := dk_180 0 128 (dk_at dksX7_single_11 13 rfl rfl)
theorem dX7_single_269 : decode cX7_single 269 = .ok (.istore 7, 2) := dk_54 7 (dk_at dksX7_single_11 16 rfl rfl)
theorem dX7_single_271 : decode cX7_single 271 = .ok (.aload_n 0, 1) := dk_42 (dk_at dksX7_single_11 18 rfl rfl)
theorem dX7_single_272 : decode cX7_single 272 = .ok (.invokevirtual 66, 3) := dk_182 0 66 (dk_at dksX7_single_11 19 rfl rfl)
theorem dX7_single_275 : decode cX7_single 275 = .ok (.new 131, 3) := dk_187 0 131 (dk_at dksX7_single_12 0 rfl rfl)
theorem dX7_single_278 : decode cX7_single 278 = .ok (.dup, 1) := dk_89 (dk_at dksX7_single_12 3 rfl rfl)
theorem dX7_single_279 : decode cX7_single 279 = .ok (.iload 5, 2) := dk_21 5 (dk_at dksX7_single_12 4 rfl rfl)
theorem dX7_single_281 : decode cX7_single 281 = .ok (.iload 6, 2) := dk_21 6 (dk_at dksX7_single_12 6 rfl rfl)
theorem dX7_single_283 : decode cX7_single 283 = .ok (.iload 7, 2) := dk_21 7 (dk_at dksX7_single_12 8 rfl rfl)
theorem dX7_single_285 : decode cX7_single 285 = .ok (.invokespecial 133, 3) := dk_183 0 133 (dk_at dksX7_single_12 10 rfl rfl)
theorem dX7_single_288 : decode cX7_single 288 = .ok (.areturn, 1) := dk_176 (dk_at dksX7_single_12 13 rfl rfl)
theorem q104 : (Jvm.Cond.initialized "FaceCoins$SentenceReader") ∈ lw_all := lw_g (lw_at lw_m1 9 rfl) rfl
theorem q239 : (Jvm.Cond.fieldLinkNest "FaceCoins$SentenceReader" (112 : Nat) "FaceCoins$Law" "people" "[LFaceCoins$Who;" "FaceCoins") ∈ lw_tbl := lw_at lw_m1 144 rfl
theorem q247 : (Jvm.Cond.fieldLinkNest "FaceCoins$SentenceReader" (118 : Nat) "FaceCoins$Law" "whoMany" "I" "FaceCoins") ∈ lw_tbl := lw_at lw_m1 152 rfl
theorem q288 : (Jvm.Cond.fieldLinkNest "FaceCoins$SentenceReader" (106 : Nat) "FaceCoins$State" "law" "LFaceCoins$Law;" "FaceCoins") ∈ lw_tbl := lw_at lw_m1 193 rfl
theorem q437 : (Jvm.Cond.fieldLink "FaceCoins$SentenceReader" (50 : Nat) "FaceCoins$SentenceReader" "token" "I") ∈ lw_all := lw_g (lw_at lw_m2 102 rfl) rfl
theorem q438 : (Jvm.Cond.sameField "FaceCoins$SentenceReader" "FaceCoins$Reader" "token" "I") ∈ lw_all := lw_g (lw_at lw_m2 103 rfl) rfl
theorem q440 : (Jvm.Cond.fieldLink "FaceCoins$SentenceReader" (128 : Nat) "FaceCoins$SentenceReader" "value" "I") ∈ lw_all := lw_g (lw_at lw_m2 105 rfl) rfl
theorem q441 : (Jvm.Cond.sameField "FaceCoins$SentenceReader" "FaceCoins$Reader" "value" "I") ∈ lw_all := lw_g (lw_at lw_m2 106 rfl) rfl
theorem q472 : (Jvm.Cond.instantiable "FaceCoins$SentenceReader" (12 : Nat)) ∈ lw_all := lw_g (lw_at lw_m2 137 rfl) rfl
theorem q474 : (Jvm.Cond.instanceMethod ({ cls := "FaceCoins$SentenceReader", name := "<init>", desc := "(LFaceCoins;)V" } : Jvm.MethodName)) ∈ lw_all := lw_g (lw_at lw_m2 139 rfl) rfl
theorem q475 : (Jvm.Cond.code ({ cls := "FaceCoins$SentenceReader", name := "<init>", desc := "(LFaceCoins;)V" } : Jvm.MethodName) prog_14_method_1_code (2 : Nat) (Option.none : Option Jvm.ClassFile.FieldType)) ∈ lw_all := lw_g (lw_at lw_m2 140 rfl) rfl
theorem q476 : (Jvm.Cond.methodLink "FaceCoins$SentenceReader" (9 : Nat) ({ cls := "FaceCoins$Reader", name := "<init>", desc := "(LFaceCoins;I)V" } : Jvm.MethodName)) ∈ lw_all := lw_g (lw_at lw_m2 141 rfl) rfl
theorem q477 : (Jvm.Cond.classLink "FaceCoins$SentenceReader" (15 : Nat) "java/lang/String") ∈ lw_all := lw_g (lw_at lw_m2 142 rfl) rfl
theorem q478 : (Jvm.Cond.stringRef "FaceCoins$SentenceReader" (17 : Nat) "bears") ∈ lw_tbl := lw_at lw_m2 143 rfl
theorem q479 : (Jvm.Cond.stringRef "FaceCoins$SentenceReader" (19 : Nat) "shows") ∈ lw_tbl := lw_at lw_m2 144 rfl
theorem q480 : (Jvm.Cond.stringRef "FaceCoins$SentenceReader" (21 : Nat) "held") ∈ lw_tbl := lw_at lw_m2 145 rfl
theorem q481 : (Jvm.Cond.stringRef "FaceCoins$SentenceReader" (23 : Nat) "false") ∈ lw_tbl := lw_at lw_m2 146 rfl
theorem q482 : (Jvm.Cond.stringRef "FaceCoins$SentenceReader" (29 : Nat) "grains") ∈ lw_tbl := lw_at lw_m2 147 rfl
theorem q483 : (Jvm.Cond.stringRef "FaceCoins$SentenceReader" (31 : Nat) "layers") ∈ lw_tbl := lw_at lw_m2 148 rfl
theorem q484 : (Jvm.Cond.stringRef "FaceCoins$SentenceReader" (33 : Nat) "struck") ∈ lw_tbl := lw_at lw_m2 149 rfl
theorem q485 : (Jvm.Cond.fieldLink "FaceCoins$SentenceReader" (25 : Nat) "FaceCoins$SentenceReader" "marks" "[Ljava/lang/String;") ∈ lw_all := lw_g (lw_at lw_m2 150 rfl) rfl
theorem q486 : (Jvm.Cond.fieldLink "FaceCoins$SentenceReader" (35 : Nat) "FaceCoins$SentenceReader" "counts" "[Ljava/lang/String;") ∈ lw_all := lw_g (lw_at lw_m2 151 rfl) rfl
theorem q487 : (Jvm.Cond.fieldLink "FaceCoins$SentenceReader" (38 : Nat) "FaceCoins$SentenceReader" "ones" "I") ∈ lw_all := lw_g (lw_at lw_m2 152 rfl) rfl
theorem q489 : (Jvm.Cond.fieldLink "FaceCoins$SentenceReader" (3 : Nat) "FaceCoins$SentenceReader" "this$0" "LFaceCoins;") ∈ lw_all := lw_g (lw_at lw_m2 154 rfl) rfl
theorem q490 : (Jvm.Cond.laysFinal "FaceCoins$SentenceReader" "FaceCoins$SentenceReader" "marks" "[Ljava/lang/String;") ∈ lw_all := lw_g (lw_at lw_m2 155 rfl) rfl
theorem q491 : (Jvm.Cond.soleField "FaceCoins$SentenceReader" "marks") ∈ lw_all := lw_g (lw_at lw_m2 156 rfl) rfl
theorem q492 : (Jvm.Cond.laysFinal "FaceCoins$SentenceReader" "FaceCoins$SentenceReader" "counts" "[Ljava/lang/String;") ∈ lw_all := lw_g (lw_at lw_m2 157 rfl) rfl
theorem q493 : (Jvm.Cond.soleField "FaceCoins$SentenceReader" "counts") ∈ lw_all := lw_g (lw_at lw_m2 158 rfl) rfl
theorem q494 : (Jvm.Cond.lays "FaceCoins$SentenceReader" "FaceCoins$SentenceReader" "ones" "I") ∈ lw_all := lw_g (lw_at lw_m2 159 rfl) rfl
theorem q495 : (Jvm.Cond.soleField "FaceCoins$SentenceReader" "ones") ∈ lw_all := lw_g (lw_at lw_m2 160 rfl) rfl
theorem q496 : (Jvm.Cond.laysFinal "FaceCoins$SentenceReader" "FaceCoins$SentenceReader" "this$0" "LFaceCoins;") ∈ lw_all := lw_g (lw_at lw_m2 161 rfl) rfl
theorem q497 : (Jvm.Cond.soleField "FaceCoins$SentenceReader" "this$0") ∈ lw_all := lw_g (lw_at lw_m2 162 rfl) rfl
theorem q498 : (Jvm.Cond.laysFinal "FaceCoins$SentenceReader" "FaceCoins$Reader" "most" "I") ∈ lw_all := lw_g (lw_at lw_m2 163 rfl) rfl
theorem q499 : (Jvm.Cond.lays "FaceCoins$SentenceReader" "FaceCoins$Reader" "p" "I") ∈ lw_all := lw_g (lw_at lw_m2 164 rfl) rfl
theorem q500 : (Jvm.Cond.lays "FaceCoins$SentenceReader" "FaceCoins$Reader" "at" "I") ∈ lw_all := lw_g (lw_at lw_m2 165 rfl) rfl
theorem q501 : (Jvm.Cond.lays "FaceCoins$SentenceReader" "FaceCoins$Reader" "token" "I") ∈ lw_all := lw_g (lw_at lw_m2 166 rfl) rfl
theorem q502 : (Jvm.Cond.lays "FaceCoins$SentenceReader" "FaceCoins$Reader" "value" "I") ∈ lw_all := lw_g (lw_at lw_m2 167 rfl) rfl
theorem q503 : (Jvm.Cond.lays "FaceCoins$SentenceReader" "FaceCoins$Reader" "many" "I") ∈ lw_all := lw_g (lw_at lw_m2 168 rfl) rfl
theorem q504 : (Jvm.Cond.lays "FaceCoins$SentenceReader" "FaceCoins$Reader" "name" "J") ∈ lw_all := lw_g (lw_at lw_m2 169 rfl) rfl
theorem q505 : (Jvm.Cond.laysFinal "FaceCoins$SentenceReader" "FaceCoins$Reader" "this$0" "LFaceCoins;") ∈ lw_all := lw_g (lw_at lw_m2 170 rfl) rfl
theorem q506 : (Jvm.Cond.superclass "FaceCoins$SentenceReader" "FaceCoins$Reader") ∈ lw_all := lw_g (lw_at lw_m2 171 rfl) rfl
theorem q522 : (Jvm.Cond.fieldLinkNest "FaceCoins$SentenceReader" (102 : Nat) "FaceCoins" "now" "LFaceCoins$State;" "FaceCoins") ∈ lw_tbl := lw_at lw_m2 187 rfl
theorem q639 : (Jvm.Cond.selects "FaceCoins$SentenceReader" ({ cls := "FaceCoins$Reader", name := "next", desc := "()V" } : Jvm.MethodName) ({ cls := "FaceCoins$Reader", name := "next", desc := "()V" } : Jvm.MethodName)) ∈ lw_all := lw_g (lw_at lw_m3 64 rfl) rfl
theorem q670 : (Jvm.Cond.selects "FaceCoins$SentenceReader" ({ cls := "FaceCoins$Reader", name := "is", desc := "(Ljava/lang/String;)Z" } : Jvm.MethodName) ({ cls := "FaceCoins$Reader", name := "is", desc := "(Ljava/lang/String;)Z" } : Jvm.MethodName)) ∈ lw_all := lw_g (lw_at lw_m3 95 rfl) rfl
theorem q730 : (Jvm.Cond.selects "FaceCoins$SentenceReader" ({ cls := "FaceCoins$Reader", name := "wrong", desc := "(I)LFaceCoins$Fault;" } : Jvm.MethodName) ({ cls := "FaceCoins$Reader", name := "wrong", desc := "(I)LFaceCoins$Fault;" } : Jvm.MethodName)) ∈ lw_all := lw_g (lw_at lw_m3 155 rfl) rfl
theorem q842 : (Jvm.Cond.selects "FaceCoins$SentenceReader" ({ cls := "FaceCoins$Reader", name := "is", desc := "(I)Z" } : Jvm.MethodName) ({ cls := "FaceCoins$Reader", name := "is", desc := "(I)Z" } : Jvm.MethodName)) ∈ lw_all := lw_g (lw_at lw_m4 27 rfl) rfl
theorem q1080 : (Jvm.Cond.instanceMethod ({ cls := "FaceCoins$SentenceReader", name := "read", desc := "()LFaceCoins$Cond;" } : Jvm.MethodName)) ∈ lw_all := lw_g (lw_at lw_m5 25 rfl) rfl
theorem q1081 : (Jvm.Cond.selects "FaceCoins$SentenceReader" ({ cls := "FaceCoins$SentenceReader", name := "read", desc := "()LFaceCoins$Cond;" } : Jvm.MethodName) ({ cls := "FaceCoins$SentenceReader", name := "read", desc := "()LFaceCoins$Cond;" } : Jvm.MethodName)) ∈ lw_all := lw_g (lw_at lw_m5 26 rfl) rfl
theorem q1082 : (Jvm.Cond.code ({ cls := "FaceCoins$SentenceReader", name := "read", desc := "()LFaceCoins$Cond;" } : Jvm.MethodName) prog_14_method_2_code (2 : Nat) (Option.some (Jvm.ClassFile.FieldType.object "FaceCoins$Cond"))) ∈ lw_all := lw_g (lw_at lw_m5 27 rfl) rfl
theorem q1083 : (Jvm.Cond.methodLink "FaceCoins$SentenceReader" (42 : Nat) ({ cls := "FaceCoins$SentenceReader", name := "begin", desc := "()V" } : Jvm.MethodName)) ∈ lw_all := lw_g (lw_at lw_m5 28 rfl) rfl
theorem q1084 : (Jvm.Cond.sameMethod "FaceCoins$SentenceReader" "FaceCoins$Reader" "begin" "()V") ∈ lw_all := lw_g (lw_at lw_m5 29 rfl) rfl
theorem q1085 : (Jvm.Cond.selects "FaceCoins$SentenceReader" ({ cls := "FaceCoins$SentenceReader", name := "begin", desc := "()V" } : Jvm.MethodName) ({ cls := "FaceCoins$Reader", name := "begin", desc := "()V" } : Jvm.MethodName)) ∈ lw_all := lw_g (lw_at lw_m5 30 rfl) rfl
theorem q1086 : (Jvm.Cond.methodLink "FaceCoins$SentenceReader" (46 : Nat) ({ cls := "FaceCoins$SentenceReader", name := "any", desc := "(I)LFaceCoins$Cond;" } : Jvm.MethodName)) ∈ lw_all := lw_g (lw_at lw_m5 31 rfl) rfl
theorem q1087 : (Jvm.Cond.privateMethod ({ cls := "FaceCoins$SentenceReader", name := "any", desc := "(I)LFaceCoins$Cond;" } : Jvm.MethodName)) ∈ lw_tbl := lw_at lw_m5 32 rfl
theorem q1088 : (Jvm.Cond.instanceMethod ({ cls := "FaceCoins$SentenceReader", name := "any", desc := "(I)LFaceCoins$Cond;" } : Jvm.MethodName)) ∈ lw_all := lw_g (lw_at lw_m5 33 rfl) rfl
theorem q1089 : (Jvm.Cond.code ({ cls := "FaceCoins$SentenceReader", name := "any", desc := "(I)LFaceCoins$Cond;" } : Jvm.MethodName) prog_14_method_3_code (3 : Nat) (Option.some (Jvm.ClassFile.FieldType.object "FaceCoins$Cond"))) ∈ lw_all := lw_g (lw_at lw_m5 34 rfl) rfl
theorem q1090 : (Jvm.Cond.methodLink "FaceCoins$SentenceReader" (57 : Nat) ({ cls := "FaceCoins$SentenceReader", name := "both", desc := "(I)LFaceCoins$Cond;" } : Jvm.MethodName)) ∈ lw_all := lw_g (lw_at lw_m5 35 rfl) rfl
theorem q1091 : (Jvm.Cond.privateMethod ({ cls := "FaceCoins$SentenceReader", name := "both", desc := "(I)LFaceCoins$Cond;" } : Jvm.MethodName)) ∈ lw_tbl := lw_at lw_m5 36 rfl
theorem q1092 : (Jvm.Cond.instanceMethod ({ cls := "FaceCoins$SentenceReader", name := "both", desc := "(I)LFaceCoins$Cond;" } : Jvm.MethodName)) ∈ lw_all := lw_g (lw_at lw_m5 37 rfl) rfl
theorem q1093 : (Jvm.Cond.code ({ cls := "FaceCoins$SentenceReader", name := "both", desc := "(I)LFaceCoins$Cond;" } : Jvm.MethodName) prog_14_method_4_code (3 : Nat) (Option.some (Jvm.ClassFile.FieldType.object "FaceCoins$Cond"))) ∈ lw_all := lw_g (lw_at lw_m5 38 rfl) rfl
theorem q1094 : (Jvm.Cond.methodLink "FaceCoins$SentenceReader" (74 : Nat) ({ cls := "FaceCoins$SentenceReader", name := "single", desc := "(I)LFaceCoins$Cond;" } : Jvm.MethodName)) ∈ lw_all := lw_g (lw_at lw_m5 39 rfl) rfl
theorem q1095 : (Jvm.Cond.privateMethod ({ cls := "FaceCoins$SentenceReader", name := "single", desc := "(I)LFaceCoins$Cond;" } : Jvm.MethodName)) ∈ lw_tbl := lw_at lw_m5 40 rfl
theorem q1096 : (Jvm.Cond.instanceMethod ({ cls := "FaceCoins$SentenceReader", name := "single", desc := "(I)LFaceCoins$Cond;" } : Jvm.MethodName)) ∈ lw_all := lw_g (lw_at lw_m5 41 rfl) rfl
theorem q1097 : (Jvm.Cond.code ({ cls := "FaceCoins$SentenceReader", name := "single", desc := "(I)LFaceCoins$Cond;" } : Jvm.MethodName) prog_14_method_5_code (8 : Nat) (Option.some (Jvm.ClassFile.FieldType.object "FaceCoins$Cond"))) ∈ lw_all := lw_g (lw_at lw_m5 42 rfl) rfl
theorem q1098 : (Jvm.Cond.stringRef "FaceCoins$SentenceReader" (82 : Nat) "not") ∈ lw_tbl := lw_at lw_m5 43 rfl
theorem q1099 : (Jvm.Cond.methodLink "FaceCoins$SentenceReader" (62 : Nat) ({ cls := "FaceCoins$SentenceReader", name := "is", desc := "(Ljava/lang/String;)Z" } : Jvm.MethodName)) ∈ lw_all := lw_g (lw_at lw_m5 44 rfl) rfl
theorem q1100 : (Jvm.Cond.sameMethod "FaceCoins$SentenceReader" "FaceCoins$Reader" "is" "(Ljava/lang/String;)Z") ∈ lw_all := lw_g (lw_at lw_m5 45 rfl) rfl
theorem q1101 : (Jvm.Cond.selects "FaceCoins$SentenceReader" ({ cls := "FaceCoins$SentenceReader", name := "is", desc := "(Ljava/lang/String;)Z" } : Jvm.MethodName) ({ cls := "FaceCoins$Reader", name := "is", desc := "(Ljava/lang/String;)Z" } : Jvm.MethodName)) ∈ lw_all := lw_g (lw_at lw_m5 46 rfl) rfl
theorem q1102 : (Jvm.Cond.methodLink "FaceCoins$SentenceReader" (84 : Nat) ({ cls := "FaceCoins$SentenceReader", name := "is", desc := "(I)Z" } : Jvm.MethodName)) ∈ lw_all := lw_g (lw_at lw_m5 47 rfl) rfl
theorem q1103 : (Jvm.Cond.sameMethod "FaceCoins$SentenceReader" "FaceCoins$Reader" "is" "(I)Z") ∈ lw_all := lw_g (lw_at lw_m5 48 rfl) rfl
theorem q1105 : (Jvm.Cond.selects "FaceCoins$SentenceReader" ({ cls := "FaceCoins$SentenceReader", name := "is", desc := "(I)Z" } : Jvm.MethodName) ({ cls := "FaceCoins$Reader", name := "is", desc := "(I)Z" } : Jvm.MethodName)) ∈ lw_all := lw_g (lw_at lw_m5 50 rfl) rfl
theorem q1106 : (Jvm.Cond.methodLink "FaceCoins$SentenceReader" (87 : Nat) ({ cls := "FaceCoins$SentenceReader", name := "find", desc := "([Ljava/lang/String;)I" } : Jvm.MethodName)) ∈ lw_all := lw_g (lw_at lw_m5 51 rfl) rfl
theorem q1107 : (Jvm.Cond.sameMethod "FaceCoins$SentenceReader" "FaceCoins$Reader" "find" "([Ljava/lang/String;)I") ∈ lw_all := lw_g (lw_at lw_m5 52 rfl) rfl
theorem q1108 : (Jvm.Cond.selects "FaceCoins$SentenceReader" ({ cls := "FaceCoins$SentenceReader", name := "find", desc := "([Ljava/lang/String;)I" } : Jvm.MethodName) ({ cls := "FaceCoins$Reader", name := "find", desc := "([Ljava/lang/String;)I" } : Jvm.MethodName)) ∈ lw_all := lw_g (lw_at lw_m5 53 rfl) rfl
theorem q1109 : (Jvm.Cond.methodLink "FaceCoins$SentenceReader" (53 : Nat) ({ cls := "FaceCoins$SentenceReader", name := "must", desc := "(ZI)V" } : Jvm.MethodName)) ∈ lw_all := lw_g (lw_at lw_m5 54 rfl) rfl
theorem q1110 : (Jvm.Cond.sameMethod "FaceCoins$SentenceReader" "FaceCoins$Reader" "must" "(ZI)V") ∈ lw_all := lw_g (lw_at lw_m5 55 rfl) rfl
theorem q1111 : (Jvm.Cond.selects "FaceCoins$SentenceReader" ({ cls := "FaceCoins$SentenceReader", name := "must", desc := "(ZI)V" } : Jvm.MethodName) ({ cls := "FaceCoins$Reader", name := "must", desc := "(ZI)V" } : Jvm.MethodName)) ∈ lw_all := lw_g (lw_at lw_m5 56 rfl) rfl
theorem q1112 : (Jvm.Cond.methodLink "FaceCoins$SentenceReader" (66 : Nat) ({ cls := "FaceCoins$SentenceReader", name := "next", desc := "()V" } : Jvm.MethodName)) ∈ lw_all := lw_g (lw_at lw_m5 57 rfl) rfl
theorem q1113 : (Jvm.Cond.sameMethod "FaceCoins$SentenceReader" "FaceCoins$Reader" "next" "()V") ∈ lw_all := lw_g (lw_at lw_m5 58 rfl) rfl
theorem q1114 : (Jvm.Cond.selects "FaceCoins$SentenceReader" ({ cls := "FaceCoins$SentenceReader", name := "next", desc := "()V" } : Jvm.MethodName) ({ cls := "FaceCoins$Reader", name := "next", desc := "()V" } : Jvm.MethodName)) ∈ lw_all := lw_g (lw_at lw_m5 59 rfl) rfl
theorem q1115 : (Jvm.Cond.classLink "FaceCoins$SentenceReader" (91 : Nat) "FaceCoins$Not") ∈ lw_all := lw_g (lw_at lw_m5 60 rfl) rfl
theorem q1117 : (Jvm.Cond.methodLink "FaceCoins$SentenceReader" (93 : Nat) ({ cls := "FaceCoins$Not", name := "<init>", desc := "(LFaceCoins$Cond;)V" } : Jvm.MethodName)) ∈ lw_all := lw_g (lw_at lw_m5 62 rfl) rfl
theorem q1128 : (Jvm.Cond.methodLink "FaceCoins$SentenceReader" (96 : Nat) ({ cls := "FaceCoins$SentenceReader", name := "sign", desc := "(I)V" } : Jvm.MethodName)) ∈ lw_all := lw_g (lw_at lw_m5 73 rfl) rfl
theorem q1129 : (Jvm.Cond.sameMethod "FaceCoins$SentenceReader" "FaceCoins$Reader" "sign" "(I)V") ∈ lw_all := lw_g (lw_at lw_m5 74 rfl) rfl
theorem q1130 : (Jvm.Cond.selects "FaceCoins$SentenceReader" ({ cls := "FaceCoins$SentenceReader", name := "sign", desc := "(I)V" } : Jvm.MethodName) ({ cls := "FaceCoins$Reader", name := "sign", desc := "(I)V" } : Jvm.MethodName)) ∈ lw_all := lw_g (lw_at lw_m5 75 rfl) rfl
theorem q1131 : (Jvm.Cond.classLink "FaceCoins$SentenceReader" (100 : Nat) "FaceCoins$Marks") ∈ lw_all := lw_g (lw_at lw_m5 76 rfl) rfl
theorem q1133 : (Jvm.Cond.methodLink "FaceCoins$SentenceReader" (121 : Nat) ({ cls := "FaceCoins$SentenceReader", name := "known", desc := "([LFaceCoins$Named;I)I" } : Jvm.MethodName)) ∈ lw_all := lw_g (lw_at lw_m5 78 rfl) rfl
theorem q1134 : (Jvm.Cond.sameMethod "FaceCoins$SentenceReader" "FaceCoins$Reader" "known" "([LFaceCoins$Named;I)I") ∈ lw_all := lw_g (lw_at lw_m5 79 rfl) rfl
theorem q1135 : (Jvm.Cond.selects "FaceCoins$SentenceReader" ({ cls := "FaceCoins$SentenceReader", name := "known", desc := "([LFaceCoins$Named;I)I" } : Jvm.MethodName) ({ cls := "FaceCoins$Reader", name := "known", desc := "([LFaceCoins$Named;I)I" } : Jvm.MethodName)) ∈ lw_all := lw_g (lw_at lw_m5 80 rfl) rfl
theorem q1136 : (Jvm.Cond.methodLink "FaceCoins$SentenceReader" (125 : Nat) ({ cls := "FaceCoins$Marks", name := "<init>", desc := "(II)V" } : Jvm.MethodName)) ∈ lw_all := lw_g (lw_at lw_m5 81 rfl) rfl
theorem q1147 : (Jvm.Cond.classLink "FaceCoins$SentenceReader" (131 : Nat) "FaceCoins$Counts") ∈ lw_all := lw_g (lw_at lw_m5 92 rfl) rfl
theorem q1149 : (Jvm.Cond.methodLink "FaceCoins$SentenceReader" (133 : Nat) ({ cls := "FaceCoins$Counts", name := "<init>", desc := "(III)V" } : Jvm.MethodName)) ∈ lw_all := lw_g (lw_at lw_m5 94 rfl) rfl
theorem q1163 : (Jvm.Cond.stringRef "FaceCoins$SentenceReader" (77 : Nat) "and") ∈ lw_tbl := lw_at lw_m5 108 rfl
theorem q1164 : (Jvm.Cond.classLink "FaceCoins$SentenceReader" (79 : Nat) "FaceCoins$Both") ∈ lw_all := lw_g (lw_at lw_m5 109 rfl) rfl
theorem q1166 : (Jvm.Cond.methodLink "FaceCoins$SentenceReader" (81 : Nat) ({ cls := "FaceCoins$Both", name := "<init>", desc := "(LFaceCoins$Cond;LFaceCoins$Cond;)V" } : Jvm.MethodName)) ∈ lw_all := lw_g (lw_at lw_m5 111 rfl) rfl
theorem q1177 : (Jvm.Cond.stringRef "FaceCoins$SentenceReader" (60 : Nat) "or") ∈ lw_tbl := lw_at lw_m5 122 rfl
theorem q1178 : (Jvm.Cond.classLink "FaceCoins$SentenceReader" (69 : Nat) "FaceCoins$Any") ∈ lw_all := lw_g (lw_at lw_m5 123 rfl) rfl
theorem q1180 : (Jvm.Cond.methodLink "FaceCoins$SentenceReader" (71 : Nat) ({ cls := "FaceCoins$Any", name := "<init>", desc := "(LFaceCoins$Cond;LFaceCoins$Cond;)V" } : Jvm.MethodName)) ∈ lw_all := lw_g (lw_at lw_m5 125 rfl) rfl
theorem q1904 : (Jvm.Cond.selects "FaceCoins$SentenceReader" ({ cls := "FaceCoins$Reader", name := "find", desc := "([Ljava/lang/String;)I" } : Jvm.MethodName) ({ cls := "FaceCoins$Reader", name := "find", desc := "([Ljava/lang/String;)I" } : Jvm.MethodName)) ∈ lw_all := lw_g (lw_at lw_m8 129 rfl) rfl
theorem q1907 : (Jvm.Cond.selects "FaceCoins$SentenceReader" ({ cls := "FaceCoins$Reader", name := "must", desc := "(ZI)V" } : Jvm.MethodName) ({ cls := "FaceCoins$Reader", name := "must", desc := "(ZI)V" } : Jvm.MethodName)) ∈ lw_all := lw_g (lw_at lw_m8 132 rfl) rfl
theorem q1910 : (Jvm.Cond.selects "FaceCoins$SentenceReader" ({ cls := "FaceCoins$Reader", name := "isName", desc := "()Z" } : Jvm.MethodName) ({ cls := "FaceCoins$Reader", name := "isName", desc := "()Z" } : Jvm.MethodName)) ∈ lw_all := lw_g (lw_at lw_m8 135 rfl) rfl
theorem q1913 : (Jvm.Cond.selects "FaceCoins$SentenceReader" ({ cls := "FaceCoins$Reader", name := "of", desc := "([LFaceCoins$Named;I)I" } : Jvm.MethodName) ({ cls := "FaceCoins$Reader", name := "of", desc := "([LFaceCoins$Named;I)I" } : Jvm.MethodName)) ∈ lw_all := lw_g (lw_at lw_m8 138 rfl) rfl
theorem q1919 : (Jvm.Cond.castable "FaceCoins$SentenceReader" "java/lang/Object") ∈ lw_tbl := lw_at lw_m8 144 rfl
theorem in_X7 : ∀ w ∈ wsX70, w ∈ lw_all := lw_in wsX70 [498, 499, 500, 501, 502, 503, 504, 505, 490, 492, 494, 496] (by decide +kernel) (by decide +kernel)
/-! FaceCoins$Named -/
set_option maxRecDepth 100000
def RX9 : String := "FaceCoins$Named"
abbrev cX9_init : ByteArray := prog_11_method_1_code
def yX9_init : MethodName := ⟨RX9, "<init>", "(J)V"⟩
def dkwX9_init_0 : List UInt8 := [42, 183, 0, 1, 42, 31, 181, 0, 7, 177]
abbrev dktX9_init_0 : List UInt8 := dkwX9_init_0 ++ []
theorem dksX9_init_0 : cX9_init.data.toList.drop 0 = dktX9_init_0 := by decide +kernel
theorem dX9_init_0 : decode cX9_init 0 = .ok (.aload_n 0, 1) := dk_42 (dk_at dksX9_init_0 0 rfl rfl)
theorem dX9_init_1 : decode cX9_init 1 = .ok (.invokespecial 1, 3) := dk_183 0 1 (dk_at dksX9_init_0 1 rfl rfl)
theorem dX9_init_4 : decode cX9_init 4 = .ok (.aload_n 0, 1) := dk_42 (dk_at dksX9_init_0 4 rfl rfl)
theorem dX9_init_5 : decode cX9_init 5 = .ok (.lload_n 1, 1) := dk_31 (dk_at dksX9_init_0 5 rfl rfl)
theorem dX9_init_6 : decode cX9_init 6 = .ok (.putfield 7, 3) := dk_181 0 7 (dk_at dksX9_init_0 6 rfl rfl)
theorem dX9_init_9 : decode cX9_init 9 = .ok (.return_, 1) := dk_177 (dk_at dksX9_init_0 9 rfl rfl)
theorem q110 : (Jvm.Cond.initialized "FaceCoins$Named") ∈ lw_all := lw_g (lw_at lw_m1 15 rfl) rfl
theorem q766 : (Jvm.Cond.instanceMethod ({ cls := "FaceCoins$Named", name := "<init>", desc := "(J)V" } : Jvm.MethodName)) ∈ lw_all := lw_g (lw_at lw_m3 191 rfl) rfl
theorem q767 : (Jvm.Cond.code ({ cls := "FaceCoins$Named", name := "<init>", desc := "(J)V" } : Jvm.MethodName) prog_11_method_1_code (3 : Nat) (Option.none : Option Jvm.ClassFile.FieldType)) ∈ lw_all := lw_g (lw_at lw_m3 192 rfl) rfl
theorem q768 : (Jvm.Cond.methodLink "FaceCoins$Named" (1 : Nat) ({ cls := "java/lang/Object", name := "<init>", desc := "()V" } : Jvm.MethodName)) ∈ lw_all := lw_g (lw_at lw_m3 193 rfl) rfl
theorem q778 : (Jvm.Cond.fieldLink "FaceCoins$Named" (7 : Nat) "FaceCoins$Named" "name" "J") ∈ lw_all := lw_g (lw_at lw_m3 203 rfl) rfl
theorem q787 : (Jvm.Cond.soleField "FaceCoins$Named" "name") ∈ lw_all := lw_g (lw_at lw_m3 212 rfl) rfl
/-! FaceCoins$Who -/
set_option maxRecDepth 100000
def RX10 : String := "FaceCoins$Who"
def TX10 : u_T := fun k => match k with
  | 0 => ("FaceCoins$Named", "name", "J", true)
  | 1 => ("FaceCoins$Who", "begs", "Z", false)
  | 2 => ("FaceCoins$Who", "owes", "Z", false)
  | _ => ("FaceCoins$Who", "takes", "[I", true)
def tyX10 : Nat → FieldType := fun k => match k with
  | 0 => .long
  | 1 => .boolean
  | 2 => .boolean
  | _ => .array .int
abbrev wsX100 : List Cond := u_ws RX10 TX10 4
theorem nmX10 : ∀ a, a < 4 → ∀ b, b < 4 → a ≠ b → (TX10 a).2.1 ≠ (TX10 b).2.1 := by decide +kernel
theorem tyX10_ok : ∀ k, k < 4 → parseFieldDescriptor (TX10 k).2.2.1 = some (tyX10 k) := by decide +kernel
abbrev cX10_init : ByteArray := prog_16_method_1_code
def yX10_init : MethodName := ⟨RX10, "<init>", "(J)V"⟩
def dkwX10_init_1 : List UInt8 := [180, 0, 9, 29, 2, 79, 132, 3, 1, 167, 255, 240, 177]
abbrev dktX10_init_1 : List UInt8 := dkwX10_init_1 ++ []
def dkwX10_init_0 : List UInt8 := [42, 31, 183, 0, 3, 42, 16, 8, 188, 10, 181, 0, 9, 3, 62, 29, 16, 8, 162, 0, 16, 42]
abbrev dktX10_init_0 : List UInt8 := dkwX10_init_0 ++ dktX10_init_1
theorem dksX10_init_0 : cX10_init.data.toList.drop 0 = dktX10_init_0 := by decide +kernel
theorem dksX10_init_1 : cX10_init.data.toList.drop 22 = dktX10_init_1 := dk_seg dksX10_init_0 22 rfl rfl
theorem dX10_init_0 : decode cX10_init 0 = .ok (.aload_n 0, 1) := dk_42 (dk_at dksX10_init_0 0 rfl rfl)
theorem dX10_init_1 : decode cX10_init 1 = .ok (.lload_n 1, 1) := dk_31 (dk_at dksX10_init_0 1 rfl rfl)
theorem dX10_init_2 : decode cX10_init 2 = .ok (.invokespecial 3, 3) := dk_183 0 3 (dk_at dksX10_init_0 2 rfl rfl)
theorem dX10_init_5 : decode cX10_init 5 = .ok (.aload_n 0, 1) := dk_42 (dk_at dksX10_init_0 5 rfl rfl)
theorem dX10_init_6 : decode cX10_init 6 = .ok (.bipush 8, 2) := dk_16 8 (dk_at dksX10_init_0 6 rfl rfl)
theorem dX10_init_8 : decode cX10_init 8 = .ok (.newarray .int, 2) := dk_188_10 (dk_at dksX10_init_0 8 rfl rfl)
theorem dX10_init_10 : decode cX10_init 10 = .ok (.putfield 9, 3) := dk_181 0 9 (dk_at dksX10_init_0 10 rfl rfl)
theorem dX10_init_13 : decode cX10_init 13 = .ok (.iconst 0, 1) := dk_3 (dk_at dksX10_init_0 13 rfl rfl)
theorem dX10_init_14 : decode cX10_init 14 = .ok (.istore_n 3, 1) := dk_62 (dk_at dksX10_init_0 14 rfl rfl)
theorem dX10_init_15 : decode cX10_init 15 = .ok (.iload_n 3, 1) := dk_29 (dk_at dksX10_init_0 15 rfl rfl)
theorem dX10_init_16 : decode cX10_init 16 = .ok (.bipush 8, 2) := dk_16 8 (dk_at dksX10_init_0 16 rfl rfl)
theorem dX10_init_18 : decode cX10_init 18 = .ok (.if_icmp .ge 16, 3) := dk_162 0 16 (dk_at dksX10_init_0 18 rfl rfl)
theorem dX10_init_21 : decode cX10_init 21 = .ok (.aload_n 0, 1) := dk_42 (dk_at dksX10_init_0 21 rfl rfl)
theorem dX10_init_22 : decode cX10_init 22 = .ok (.getfield 9, 3) := dk_180 0 9 (dk_at dksX10_init_1 0 rfl rfl)
theorem dX10_init_25 : decode cX10_init 25 = .ok (.iload_n 3, 1) := dk_29 (dk_at dksX10_init_1 3 rfl rfl)
theorem dX10_init_26 : decode cX10_init 26 = .ok (.iconst (-1), 1) := dk_2 (dk_at dksX10_init_1 4 rfl rfl)
theorem dX10_init_27 : decode cX10_init 27 = .ok (.iastore, 1) := dk_79 (dk_at dksX10_init_1 5 rfl rfl)
theorem dX10_init_28 : decode cX10_init 28 = .ok (.iinc 3 1, 3) := dk_132 3 1 (dk_at dksX10_init_1 6 rfl rfl)
theorem dX10_init_31 : decode cX10_init 31 = .ok (.goto (-16), 3) := dk_167 255 240 (dk_at dksX10_init_1 9 rfl rfl)
theorem dX10_init_34 : decode cX10_init 34 = .ok (.return_, 1) := dk_177 (dk_at dksX10_init_1 12 rfl rfl)
theorem q111 : (Jvm.Cond.initialized "FaceCoins$Who") ∈ lw_all := lw_g (lw_at lw_m1 16 rfl) rfl
theorem q744 : (Jvm.Cond.instantiable "FaceCoins$Who" (4 : Nat)) ∈ lw_all := lw_g (lw_at lw_m3 169 rfl) rfl
theorem q763 : (Jvm.Cond.instanceMethod ({ cls := "FaceCoins$Who", name := "<init>", desc := "(J)V" } : Jvm.MethodName)) ∈ lw_all := lw_g (lw_at lw_m3 188 rfl) rfl
theorem q764 : (Jvm.Cond.code ({ cls := "FaceCoins$Who", name := "<init>", desc := "(J)V" } : Jvm.MethodName) prog_16_method_1_code (4 : Nat) (Option.none : Option Jvm.ClassFile.FieldType)) ∈ lw_all := lw_g (lw_at lw_m3 189 rfl) rfl
theorem q765 : (Jvm.Cond.methodLink "FaceCoins$Who" (3 : Nat) ({ cls := "FaceCoins$Named", name := "<init>", desc := "(J)V" } : Jvm.MethodName)) ∈ lw_all := lw_g (lw_at lw_m3 190 rfl) rfl
theorem q775 : (Jvm.Cond.fieldLink "FaceCoins$Who" (9 : Nat) "FaceCoins$Who" "takes" "[I") ∈ lw_all := lw_g (lw_at lw_m3 200 rfl) rfl
theorem q780 : (Jvm.Cond.lays "FaceCoins$Who" "FaceCoins$Who" "begs" "Z") ∈ lw_all := lw_g (lw_at lw_m3 205 rfl) rfl
theorem q781 : (Jvm.Cond.soleField "FaceCoins$Who" "begs") ∈ lw_all := lw_g (lw_at lw_m3 206 rfl) rfl
theorem q782 : (Jvm.Cond.lays "FaceCoins$Who" "FaceCoins$Who" "owes" "Z") ∈ lw_all := lw_g (lw_at lw_m3 207 rfl) rfl
theorem q783 : (Jvm.Cond.soleField "FaceCoins$Who" "owes") ∈ lw_all := lw_g (lw_at lw_m3 208 rfl) rfl
theorem q784 : (Jvm.Cond.laysFinal "FaceCoins$Who" "FaceCoins$Who" "takes" "[I") ∈ lw_all := lw_g (lw_at lw_m3 209 rfl) rfl
theorem q785 : (Jvm.Cond.soleField "FaceCoins$Who" "takes") ∈ lw_all := lw_g (lw_at lw_m3 210 rfl) rfl
theorem q786 : (Jvm.Cond.laysFinal "FaceCoins$Who" "FaceCoins$Named" "name" "J") ∈ lw_all := lw_g (lw_at lw_m3 211 rfl) rfl
theorem q788 : (Jvm.Cond.superclass "FaceCoins$Who" "FaceCoins$Named") ∈ lw_all := lw_g (lw_at lw_m3 213 rfl) rfl
theorem q1921 : (Jvm.Cond.castable "FaceCoins$Who" "java/lang/Object") ∈ lw_tbl := lw_at lw_m8 146 rfl
theorem in_X10 : ∀ w ∈ wsX100, w ∈ lw_all := lw_in wsX100 [786, 780, 782, 784] (by decide +kernel) (by decide +kernel)
/-! FaceCoins$Mint -/
set_option maxRecDepth 100000
def RX11 : String := "FaceCoins$Mint"
def TX11 : u_T := fun k => match k with
  | 0 => ("FaceCoins$Named", "name", "J", true)
  | 1 => ("FaceCoins$Mint", "loss", "I", true)
  | _ => ("FaceCoins$Mint", "blur", "I", true)
def tyX11 : Nat → FieldType := fun k => match k with
  | 0 => .long
  | 1 => .int
  | _ => .int
abbrev wsX110 : List Cond := u_ws RX11 TX11 3
theorem nmX11 : ∀ a, a < 3 → ∀ b, b < 3 → a ≠ b → (TX11 a).2.1 ≠ (TX11 b).2.1 := by decide +kernel
theorem tyX11_ok : ∀ k, k < 3 → parseFieldDescriptor (TX11 k).2.2.1 = some (tyX11 k) := by decide +kernel
abbrev cX11_init : ByteArray := prog_10_method_1_code
def yX11_init : MethodName := ⟨RX11, "<init>", "(JII)V"⟩
def dkwX11_init_0 : List UInt8 := [42, 31, 183, 0, 1, 42, 29, 181, 0, 7, 42, 21, 4, 181, 0, 13, 177]
abbrev dktX11_init_0 : List UInt8 := dkwX11_init_0 ++ []
theorem dksX11_init_0 : cX11_init.data.toList.drop 0 = dktX11_init_0 := by decide +kernel
theorem dX11_init_0 : decode cX11_init 0 = .ok (.aload_n 0, 1) := dk_42 (dk_at dksX11_init_0 0 rfl rfl)
theorem dX11_init_1 : decode cX11_init 1 = .ok (.lload_n 1, 1) := dk_31 (dk_at dksX11_init_0 1 rfl rfl)
theorem dX11_init_2 : decode cX11_init 2 = .ok (.invokespecial 1, 3) := dk_183 0 1 (dk_at dksX11_init_0 2 rfl rfl)
theorem dX11_init_5 : decode cX11_init 5 = .ok (.aload_n 0, 1) := dk_42 (dk_at dksX11_init_0 5 rfl rfl)
theorem dX11_init_6 : decode cX11_init 6 = .ok (.iload_n 3, 1) := dk_29 (dk_at dksX11_init_0 6 rfl rfl)
theorem dX11_init_7 : decode cX11_init 7 = .ok (.putfield 7, 3) := dk_181 0 7 (dk_at dksX11_init_0 7 rfl rfl)
theorem dX11_init_10 : decode cX11_init 10 = .ok (.aload_n 0, 1) := dk_42 (dk_at dksX11_init_0 10 rfl rfl)
theorem dX11_init_11 : decode cX11_init 11 = .ok (.iload 4, 2) := dk_21 4 (dk_at dksX11_init_0 11 rfl rfl)
theorem dX11_init_13 : decode cX11_init 13 = .ok (.putfield 13, 3) := dk_181 0 13 (dk_at dksX11_init_0 13 rfl rfl)
theorem dX11_init_16 : decode cX11_init 16 = .ok (.return_, 1) := dk_177 (dk_at dksX11_init_0 16 rfl rfl)
theorem q112 : (Jvm.Cond.initialized "FaceCoins$Mint") ∈ lw_all := lw_g (lw_at lw_m1 17 rfl) rfl
theorem q807 : (Jvm.Cond.instantiable "FaceCoins$Mint" (3 : Nat)) ∈ lw_all := lw_g (lw_at lw_m3 232 rfl) rfl
theorem q809 : (Jvm.Cond.instanceMethod ({ cls := "FaceCoins$Mint", name := "<init>", desc := "(JII)V" } : Jvm.MethodName)) ∈ lw_all := lw_g (lw_at lw_m3 234 rfl) rfl
theorem q810 : (Jvm.Cond.code ({ cls := "FaceCoins$Mint", name := "<init>", desc := "(JII)V" } : Jvm.MethodName) prog_10_method_1_code (5 : Nat) (Option.none : Option Jvm.ClassFile.FieldType)) ∈ lw_all := lw_g (lw_at lw_m3 235 rfl) rfl
theorem q811 : (Jvm.Cond.methodLink "FaceCoins$Mint" (1 : Nat) ({ cls := "FaceCoins$Named", name := "<init>", desc := "(J)V" } : Jvm.MethodName)) ∈ lw_all := lw_g (lw_at lw_m3 236 rfl) rfl
theorem q812 : (Jvm.Cond.fieldLink "FaceCoins$Mint" (7 : Nat) "FaceCoins$Mint" "loss" "I") ∈ lw_all := lw_g (lw_at lw_m3 237 rfl) rfl
theorem q815 : (Jvm.Cond.fieldLink "FaceCoins$Mint" (13 : Nat) "FaceCoins$Mint" "blur" "I") ∈ lw_all := lw_g (lw_at lw_m4 0 rfl) rfl
theorem q818 : (Jvm.Cond.laysFinal "FaceCoins$Mint" "FaceCoins$Mint" "loss" "I") ∈ lw_all := lw_g (lw_at lw_m4 3 rfl) rfl
theorem q819 : (Jvm.Cond.soleField "FaceCoins$Mint" "loss") ∈ lw_all := lw_g (lw_at lw_m4 4 rfl) rfl
theorem q820 : (Jvm.Cond.laysFinal "FaceCoins$Mint" "FaceCoins$Mint" "blur" "I") ∈ lw_all := lw_g (lw_at lw_m4 5 rfl) rfl
theorem q821 : (Jvm.Cond.soleField "FaceCoins$Mint" "blur") ∈ lw_all := lw_g (lw_at lw_m4 6 rfl) rfl
theorem q822 : (Jvm.Cond.laysFinal "FaceCoins$Mint" "FaceCoins$Named" "name" "J") ∈ lw_all := lw_g (lw_at lw_m4 7 rfl) rfl
theorem q823 : (Jvm.Cond.superclass "FaceCoins$Mint" "FaceCoins$Named") ∈ lw_all := lw_g (lw_at lw_m4 8 rfl) rfl
theorem q1922 : (Jvm.Cond.castable "FaceCoins$Mint" "java/lang/Object") ∈ lw_tbl := lw_at lw_m8 147 rfl
theorem in_X11 : ∀ w ∈ wsX110, w ∈ lw_all := lw_in wsX110 [822, 818, 820] (by decide +kernel) (by decide +kernel)
/-! FaceCoins$Cond -/
set_option maxRecDepth 100000
def RX12 : String := "FaceCoins$Cond"
abbrev cX12_init : ByteArray := prog_4_method_1_code
def yX12_init : MethodName := ⟨RX12, "<init>", "()V"⟩
theorem dX12_init_0 : decode cX12_init 0 = .ok (.aload_n 0, 1) := by decide +kernel
theorem dX12_init_1 : decode cX12_init 1 = .ok (.invokespecial 1, 3) := by decide +kernel
theorem dX12_init_4 : decode cX12_init 4 = .ok (.return_, 1) := by decide +kernel
theorem q117 : (Jvm.Cond.initialized "FaceCoins$Cond") ∈ lw_all := lw_g (lw_at lw_m1 22 rfl) rfl
theorem q1121 : (Jvm.Cond.instanceMethod ({ cls := "FaceCoins$Cond", name := "<init>", desc := "()V" } : Jvm.MethodName)) ∈ lw_all := lw_g (lw_at lw_m5 66 rfl) rfl
theorem q1122 : (Jvm.Cond.code ({ cls := "FaceCoins$Cond", name := "<init>", desc := "()V" } : Jvm.MethodName) prog_4_method_1_code (1 : Nat) (Option.none : Option Jvm.ClassFile.FieldType)) ∈ lw_all := lw_g (lw_at lw_m5 67 rfl) rfl
theorem q1123 : (Jvm.Cond.methodLink "FaceCoins$Cond" (1 : Nat) ({ cls := "java/lang/Object", name := "<init>", desc := "()V" } : Jvm.MethodName)) ∈ lw_all := lw_g (lw_at lw_m5 68 rfl) rfl
theorem q1196 : (Jvm.Cond.declares ({ cls := "FaceCoins$Cond", name := "is", desc := "(LFaceCoins$State;I)Z" } : Jvm.MethodName)) ∈ lw_tbl := lw_at lw_m5 141 rfl
theorem q1197 : (Jvm.Cond.sameMethod "FaceCoins$Cond" "FaceCoins$Cond" "is" "(LFaceCoins$State;I)Z") ∈ lw_all := lw_g (lw_at lw_m5 142 rfl) rfl
/-! FaceCoins$Not -/
set_option maxRecDepth 100000
def RX13 : String := "FaceCoins$Not"
def TX13 : u_T := fun k => match k with
  | _ => ("FaceCoins$Not", "a", "LFaceCoins$Cond;", true)
def tyX13 : Nat → FieldType := fun k => match k with
  | _ => .object "FaceCoins$Cond"
abbrev wsX130 : List Cond := u_ws RX13 TX13 1
theorem nmX13 : ∀ a, a < 1 → ∀ b, b < 1 → a ≠ b → (TX13 a).2.1 ≠ (TX13 b).2.1 := by decide +kernel
theorem tyX13_ok : ∀ k, k < 1 → parseFieldDescriptor (TX13 k).2.2.1 = some (tyX13 k) := by decide +kernel
abbrev cX13_init : ByteArray := prog_12_method_1_code
def yX13_init : MethodName := ⟨RX13, "<init>", "(LFaceCoins$Cond;)V"⟩
def dkwX13_init_0 : List UInt8 := [42, 183, 0, 1, 42, 43, 181, 0, 7, 177]
abbrev dktX13_init_0 : List UInt8 := dkwX13_init_0 ++ []
theorem dksX13_init_0 : cX13_init.data.toList.drop 0 = dktX13_init_0 := by decide +kernel
theorem dX13_init_0 : decode cX13_init 0 = .ok (.aload_n 0, 1) := dk_42 (dk_at dksX13_init_0 0 rfl rfl)
theorem dX13_init_1 : decode cX13_init 1 = .ok (.invokespecial 1, 3) := dk_183 0 1 (dk_at dksX13_init_0 1 rfl rfl)
theorem dX13_init_4 : decode cX13_init 4 = .ok (.aload_n 0, 1) := dk_42 (dk_at dksX13_init_0 4 rfl rfl)
theorem dX13_init_5 : decode cX13_init 5 = .ok (.aload_n 1, 1) := dk_43 (dk_at dksX13_init_0 5 rfl rfl)
theorem dX13_init_6 : decode cX13_init 6 = .ok (.putfield 7, 3) := dk_181 0 7 (dk_at dksX13_init_0 6 rfl rfl)
theorem dX13_init_9 : decode cX13_init 9 = .ok (.return_, 1) := dk_177 (dk_at dksX13_init_0 9 rfl rfl)
abbrev cX13_is : ByteArray := prog_12_method_2_code
def yX13_is : MethodName := ⟨RX13, "is", "(LFaceCoins$State;I)Z"⟩
def dkwX13_is_0 : List UInt8 := [42, 180, 0, 7, 43, 28, 182, 0, 13, 154, 0, 7, 4, 167, 0, 4, 3, 172]
abbrev dktX13_is_0 : List UInt8 := dkwX13_is_0 ++ []
theorem dksX13_is_0 : cX13_is.data.toList.drop 0 = dktX13_is_0 := by decide +kernel
theorem dX13_is_0 : decode cX13_is 0 = .ok (.aload_n 0, 1) := dk_42 (dk_at dksX13_is_0 0 rfl rfl)
theorem dX13_is_1 : decode cX13_is 1 = .ok (.getfield 7, 3) := dk_180 0 7 (dk_at dksX13_is_0 1 rfl rfl)
theorem dX13_is_4 : decode cX13_is 4 = .ok (.aload_n 1, 1) := dk_43 (dk_at dksX13_is_0 4 rfl rfl)
theorem dX13_is_5 : decode cX13_is 5 = .ok (.iload_n 2, 1) := dk_28 (dk_at dksX13_is_0 5 rfl rfl)
theorem dX13_is_6 : decode cX13_is 6 = .ok (.invokevirtual 13, 3) := dk_182 0 13 (dk_at dksX13_is_0 6 rfl rfl)
theorem dX13_is_9 : decode cX13_is 9 = .ok (.ifCond .ne 7, 3) := dk_154 0 7 (dk_at dksX13_is_0 9 rfl rfl)
theorem dX13_is_12 : decode cX13_is 12 = .ok (.iconst 1, 1) := dk_4 (dk_at dksX13_is_0 12 rfl rfl)
theorem dX13_is_13 : decode cX13_is 13 = .ok (.goto 4, 3) := dk_167 0 4 (dk_at dksX13_is_0 13 rfl rfl)
theorem dX13_is_16 : decode cX13_is 16 = .ok (.iconst 0, 1) := dk_3 (dk_at dksX13_is_0 16 rfl rfl)
theorem dX13_is_17 : decode cX13_is 17 = .ok (.ireturn, 1) := dk_172 (dk_at dksX13_is_0 17 rfl rfl)
theorem q118 : (Jvm.Cond.initialized "FaceCoins$Not") ∈ lw_all := lw_g (lw_at lw_m1 23 rfl) rfl
theorem q1116 : (Jvm.Cond.instantiable "FaceCoins$Not" (1 : Nat)) ∈ lw_all := lw_g (lw_at lw_m5 61 rfl) rfl
theorem q1118 : (Jvm.Cond.instanceMethod ({ cls := "FaceCoins$Not", name := "<init>", desc := "(LFaceCoins$Cond;)V" } : Jvm.MethodName)) ∈ lw_all := lw_g (lw_at lw_m5 63 rfl) rfl
theorem q1119 : (Jvm.Cond.code ({ cls := "FaceCoins$Not", name := "<init>", desc := "(LFaceCoins$Cond;)V" } : Jvm.MethodName) prog_12_method_1_code (2 : Nat) (Option.none : Option Jvm.ClassFile.FieldType)) ∈ lw_all := lw_g (lw_at lw_m5 64 rfl) rfl
theorem q1120 : (Jvm.Cond.methodLinkNest "FaceCoins$Not" (1 : Nat) ({ cls := "FaceCoins$Cond", name := "<init>", desc := "()V" } : Jvm.MethodName) "FaceCoins") ∈ lw_tbl := lw_at lw_m5 65 rfl
theorem q1124 : (Jvm.Cond.fieldLink "FaceCoins$Not" (7 : Nat) "FaceCoins$Not" "a" "LFaceCoins$Cond;") ∈ lw_all := lw_g (lw_at lw_m5 69 rfl) rfl
theorem q1125 : (Jvm.Cond.laysFinal "FaceCoins$Not" "FaceCoins$Not" "a" "LFaceCoins$Cond;") ∈ lw_all := lw_g (lw_at lw_m5 70 rfl) rfl
theorem q1126 : (Jvm.Cond.soleField "FaceCoins$Not" "a") ∈ lw_all := lw_g (lw_at lw_m5 71 rfl) rfl
theorem q1127 : (Jvm.Cond.superclass "FaceCoins$Not" "FaceCoins$Cond") ∈ lw_all := lw_g (lw_at lw_m5 72 rfl) rfl
theorem q1219 : (Jvm.Cond.instanceMethod ({ cls := "FaceCoins$Not", name := "is", desc := "(LFaceCoins$State;I)Z" } : Jvm.MethodName)) ∈ lw_all := lw_g (lw_at lw_m5 164 rfl) rfl
theorem q1220 : (Jvm.Cond.code ({ cls := "FaceCoins$Not", name := "is", desc := "(LFaceCoins$State;I)Z" } : Jvm.MethodName) prog_12_method_2_code (3 : Nat) (Option.some Jvm.ClassFile.FieldType.boolean)) ∈ lw_all := lw_g (lw_at lw_m5 165 rfl) rfl
theorem q1221 : (Jvm.Cond.methodLink "FaceCoins$Not" (13 : Nat) ({ cls := "FaceCoins$Cond", name := "is", desc := "(LFaceCoins$State;I)Z" } : Jvm.MethodName)) ∈ lw_all := lw_g (lw_at lw_m5 166 rfl) rfl
theorem q1225 : (Jvm.Cond.selects "FaceCoins$Not" ({ cls := "FaceCoins$Cond", name := "is", desc := "(LFaceCoins$State;I)Z" } : Jvm.MethodName) ({ cls := "FaceCoins$Not", name := "is", desc := "(LFaceCoins$State;I)Z" } : Jvm.MethodName)) ∈ lw_all := lw_g (lw_at lw_m5 170 rfl) rfl
theorem q1924 : (Jvm.Cond.castable "FaceCoins$Not" "java/lang/Object") ∈ lw_tbl := lw_at lw_m8 149 rfl
theorem q1931 : (Jvm.Cond.castable "FaceCoins$Not" "FaceCoins$Cond") ∈ lw_tbl := lw_at lw_m8 156 rfl
theorem in_X13 : ∀ w ∈ wsX130, w ∈ lw_all := lw_in wsX130 [1125] (by decide +kernel) (by decide +kernel)
/-! FaceCoins$Marks -/
set_option maxRecDepth 100000
def RX14 : String := "FaceCoins$Marks"
def TX14 : u_T := fun k => match k with
  | 0 => ("FaceCoins$Marks", "what", "I", true)
  | _ => ("FaceCoins$Marks", "who", "I", true)
def tyX14 : Nat → FieldType := fun k => match k with
  | 0 => .int
  | _ => .int
abbrev wsX140 : List Cond := u_ws RX14 TX14 2
theorem nmX14 : ∀ a, a < 2 → ∀ b, b < 2 → a ≠ b → (TX14 a).2.1 ≠ (TX14 b).2.1 := by decide +kernel
theorem tyX14_ok : ∀ k, k < 2 → parseFieldDescriptor (TX14 k).2.2.1 = some (tyX14 k) := by decide +kernel
abbrev cX14_init : ByteArray := prog_9_method_1_code
def yX14_init : MethodName := ⟨RX14, "<init>", "(II)V"⟩
def dkwX14_init_0 : List UInt8 := [42, 183, 0, 1, 42, 27, 181, 0, 7, 42, 28, 181, 0, 13, 177]
abbrev dktX14_init_0 : List UInt8 := dkwX14_init_0 ++ []
theorem dksX14_init_0 : cX14_init.data.toList.drop 0 = dktX14_init_0 := by decide +kernel
theorem dX14_init_0 : decode cX14_init 0 = .ok (.aload_n 0, 1) := dk_42 (dk_at dksX14_init_0 0 rfl rfl)
theorem dX14_init_1 : decode cX14_init 1 = .ok (.invokespecial 1, 3) := dk_183 0 1 (dk_at dksX14_init_0 1 rfl rfl)
theorem dX14_init_4 : decode cX14_init 4 = .ok (.aload_n 0, 1) := dk_42 (dk_at dksX14_init_0 4 rfl rfl)
theorem dX14_init_5 : decode cX14_init 5 = .ok (.iload_n 1, 1) := dk_27 (dk_at dksX14_init_0 5 rfl rfl)
theorem dX14_init_6 : decode cX14_init 6 = .ok (.putfield 7, 3) := dk_181 0 7 (dk_at dksX14_init_0 6 rfl rfl)
theorem dX14_init_9 : decode cX14_init 9 = .ok (.aload_n 0, 1) := dk_42 (dk_at dksX14_init_0 9 rfl rfl)
theorem dX14_init_10 : decode cX14_init 10 = .ok (.iload_n 2, 1) := dk_28 (dk_at dksX14_init_0 10 rfl rfl)
theorem dX14_init_11 : decode cX14_init 11 = .ok (.putfield 13, 3) := dk_181 0 13 (dk_at dksX14_init_0 11 rfl rfl)
theorem dX14_init_14 : decode cX14_init 14 = .ok (.return_, 1) := dk_177 (dk_at dksX14_init_0 14 rfl rfl)
abbrev cX14_is : ByteArray := prog_9_method_2_code
def yX14_is : MethodName := ⟨RX14, "is", "(LFaceCoins$State;I)Z"⟩
def dkwX14_is_3 : List UInt8 := [4, 167, 0, 12, 3, 167, 0, 8, 43, 28, 182, 0, 35, 172]
abbrev dktX14_is_3 : List UInt8 := dkwX14_is_3 ++ []
def dkwX14_is_2 : List UInt8 := [167, 0, 37, 42, 180, 0, 7, 5, 160, 0, 24, 43, 180, 0, 31, 28, 46, 42, 180, 0, 13, 160, 0, 7]
abbrev dktX14_is_2 : List UInt8 := dkwX14_is_2 ++ dktX14_is_3
def dkwX14_is_1 : List UInt8 := [167, 0, 60, 42, 180, 0, 7, 4, 160, 0, 18, 43, 28, 182, 0, 22, 42, 180, 0, 13, 184, 0, 25]
abbrev dktX14_is_1 : List UInt8 := dkwX14_is_1 ++ dktX14_is_2
def dkwX14_is_0 : List UInt8 := [42, 180, 0, 7, 154, 0, 23, 43, 28, 182, 0, 16, 42, 180, 0, 13, 160, 0, 7, 4, 167, 0, 64, 3]
abbrev dktX14_is_0 : List UInt8 := dkwX14_is_0 ++ dktX14_is_1
theorem dksX14_is_0 : cX14_is.data.toList.drop 0 = dktX14_is_0 := by decide +kernel
theorem dksX14_is_1 : cX14_is.data.toList.drop 24 = dktX14_is_1 := dk_seg dksX14_is_0 24 rfl rfl
theorem dksX14_is_2 : cX14_is.data.toList.drop 47 = dktX14_is_2 := dk_seg dksX14_is_1 23 rfl rfl
theorem dksX14_is_3 : cX14_is.data.toList.drop 71 = dktX14_is_3 := dk_seg dksX14_is_2 24 rfl rfl
theorem dX14_is_0 : decode cX14_is 0 = .ok (.aload_n 0, 1) := dk_42 (dk_at dksX14_is_0 0 rfl rfl)
theorem dX14_is_1 : decode cX14_is 1 = .ok (.getfield 7, 3) := dk_180 0 7 (dk_at dksX14_is_0 1 rfl rfl)
theorem dX14_is_4 : decode cX14_is 4 = .ok (.ifCond .ne 23, 3) := dk_154 0 23 (dk_at dksX14_is_0 4 rfl rfl)
theorem dX14_is_7 : decode cX14_is 7 = .ok (.aload_n 1, 1) := dk_43 (dk_at dksX14_is_0 7 rfl rfl)
theorem dX14_is_8 : decode cX14_is 8 = .ok (.iload_n 2, 1) := dk_28 (dk_at dksX14_is_0 8 rfl rfl)
theorem dX14_is_9 : decode cX14_is 9 = .ok (.invokevirtual 16, 3) := dk_182 0 16 (dk_at dksX14_is_0 9 rfl rfl)
theorem dX14_is_12 : decode cX14_is 12 = .ok (.aload_n 0, 1) := dk_42 (dk_at dksX14_is_0 12 rfl rfl)
theorem dX14_is_13 : decode cX14_is 13 = .ok (.getfield 13, 3) := dk_180 0 13 (dk_at dksX14_is_0 13 rfl rfl)
theorem dX14_is_16 : decode cX14_is 16 = .ok (.if_icmp .ne 7, 3) := dk_160 0 7 (dk_at dksX14_is_0 16 rfl rfl)
theorem dX14_is_19 : decode cX14_is 19 = .ok (.iconst 1, 1) := dk_4 (dk_at dksX14_is_0 19 rfl rfl)
theorem dX14_is_20 : decode cX14_is 20 = .ok (.goto 64, 3) := dk_167 0 64 (dk_at dksX14_is_0 20 rfl rfl)
theorem dX14_is_23 : decode cX14_is 23 = .ok (.iconst 0, 1) := dk_3 (dk_at dksX14_is_0 23 rfl rfl)
theorem dX14_is_24 : decode cX14_is 24 = .ok (.goto 60, 3) := dk_167 0 60 (dk_at dksX14_is_1 0 rfl rfl)
theorem dX14_is_27 : decode cX14_is 27 = .ok (.aload_n 0, 1) := dk_42 (dk_at dksX14_is_1 3 rfl rfl)
theorem dX14_is_28 : decode cX14_is 28 = .ok (.getfield 7, 3) := dk_180 0 7 (dk_at dksX14_is_1 4 rfl rfl)
theorem dX14_is_31 : decode cX14_is 31 = .ok (.iconst 1, 1) := dk_4 (dk_at dksX14_is_1 7 rfl rfl)
theorem dX14_is_32 : decode cX14_is 32 = .ok (.if_icmp .ne 18, 3) := dk_160 0 18 (dk_at dksX14_is_1 8 rfl rfl)
theorem dX14_is_35 : decode cX14_is 35 = .ok (.aload_n 1, 1) := dk_43 (dk_at dksX14_is_1 11 rfl rfl)
theorem dX14_is_36 : decode cX14_is 36 = .ok (.iload_n 2, 1) := dk_28 (dk_at dksX14_is_1 12 rfl rfl)
theorem dX14_is_37 : decode cX14_is 37 = .ok (.invokevirtual 22, 3) := dk_182 0 22 (dk_at dksX14_is_1 13 rfl rfl)
theorem dX14_is_40 : decode cX14_is 40 = .ok (.aload_n 0, 1) := dk_42 (dk_at dksX14_is_1 16 rfl rfl)
theorem dX14_is_41 : decode cX14_is 41 = .ok (.getfield 13, 3) := dk_180 0 13 (dk_at dksX14_is_1 17 rfl rfl)
theorem dX14_is_44 : decode cX14_is 44 = .ok (.invokestatic 25, 3) := dk_184 0 25 (dk_at dksX14_is_1 20 rfl rfl)
theorem dX14_is_47 : decode cX14_is 47 = .ok (.goto 37, 3) := dk_167 0 37 (dk_at dksX14_is_2 0 rfl rfl)
theorem dX14_is_50 : decode cX14_is 50 = .ok (.aload_n 0, 1) := dk_42 (dk_at dksX14_is_2 3 rfl rfl)
theorem dX14_is_51 : decode cX14_is 51 = .ok (.getfield 7, 3) := dk_180 0 7 (dk_at dksX14_is_2 4 rfl rfl)
theorem dX14_is_54 : decode cX14_is 54 = .ok (.iconst 2, 1) := dk_5 (dk_at dksX14_is_2 7 rfl rfl)
theorem dX14_is_55 : decode cX14_is 55 = .ok (.if_icmp .ne 24, 3) := dk_160 0 24 (dk_at dksX14_is_2 8 rfl rfl)
theorem dX14_is_58 : decode cX14_is 58 = .ok (.aload_n 1, 1) := dk_43 (dk_at dksX14_is_2 11 rfl rfl)
theorem dX14_is_59 : decode cX14_is 59 = .ok (.getfield 31, 3) := dk_180 0 31 (dk_at dksX14_is_2 12 rfl rfl)
theorem dX14_is_62 : decode cX14_is 62 = .ok (.iload_n 2, 1) := dk_28 (dk_at dksX14_is_2 15 rfl rfl)
theorem dX14_is_63 : decode cX14_is 63 = .ok (.iaload, 1) := dk_46 (dk_at dksX14_is_2 16 rfl rfl)
theorem dX14_is_64 : decode cX14_is 64 = .ok (.aload_n 0, 1) := dk_42 (dk_at dksX14_is_2 17 rfl rfl)
theorem dX14_is_65 : decode cX14_is 65 = .ok (.getfield 13, 3) := dk_180 0 13 (dk_at dksX14_is_2 18 rfl rfl)
theorem dX14_is_68 : decode cX14_is 68 = .ok (.if_icmp .ne 7, 3) := dk_160 0 7 (dk_at dksX14_is_2 21 rfl rfl)
theorem dX14_is_71 : decode cX14_is 71 = .ok (.iconst 1, 1) := dk_4 (dk_at dksX14_is_3 0 rfl rfl)
theorem dX14_is_72 : decode cX14_is 72 = .ok (.goto 12, 3) := dk_167 0 12 (dk_at dksX14_is_3 1 rfl rfl)
theorem dX14_is_75 : decode cX14_is 75 = .ok (.iconst 0, 1) := dk_3 (dk_at dksX14_is_3 4 rfl rfl)
theorem dX14_is_76 : decode cX14_is 76 = .ok (.goto 8, 3) := dk_167 0 8 (dk_at dksX14_is_3 5 rfl rfl)
theorem dX14_is_79 : decode cX14_is 79 = .ok (.aload_n 1, 1) := dk_43 (dk_at dksX14_is_3 8 rfl rfl)
theorem dX14_is_80 : decode cX14_is 80 = .ok (.iload_n 2, 1) := dk_28 (dk_at dksX14_is_3 9 rfl rfl)
theorem dX14_is_81 : decode cX14_is 81 = .ok (.invokevirtual 35, 3) := dk_182 0 35 (dk_at dksX14_is_3 10 rfl rfl)
theorem dX14_is_84 : decode cX14_is 84 = .ok (.ireturn, 1) := dk_172 (dk_at dksX14_is_3 13 rfl rfl)
theorem q119 : (Jvm.Cond.initialized "FaceCoins$Marks") ∈ lw_all := lw_g (lw_at lw_m1 24 rfl) rfl
theorem q294 : (Jvm.Cond.fieldLinkNest "FaceCoins$Marks" (31 : Nat) "FaceCoins$State" "owner" "[I" "FaceCoins") ∈ lw_tbl := lw_at lw_m1 199 rfl
theorem q1132 : (Jvm.Cond.instantiable "FaceCoins$Marks" (2 : Nat)) ∈ lw_all := lw_g (lw_at lw_m5 77 rfl) rfl
theorem q1137 : (Jvm.Cond.instanceMethod ({ cls := "FaceCoins$Marks", name := "<init>", desc := "(II)V" } : Jvm.MethodName)) ∈ lw_all := lw_g (lw_at lw_m5 82 rfl) rfl
theorem q1138 : (Jvm.Cond.code ({ cls := "FaceCoins$Marks", name := "<init>", desc := "(II)V" } : Jvm.MethodName) prog_9_method_1_code (3 : Nat) (Option.none : Option Jvm.ClassFile.FieldType)) ∈ lw_all := lw_g (lw_at lw_m5 83 rfl) rfl
theorem q1139 : (Jvm.Cond.methodLinkNest "FaceCoins$Marks" (1 : Nat) ({ cls := "FaceCoins$Cond", name := "<init>", desc := "()V" } : Jvm.MethodName) "FaceCoins") ∈ lw_tbl := lw_at lw_m5 84 rfl
theorem q1140 : (Jvm.Cond.fieldLink "FaceCoins$Marks" (7 : Nat) "FaceCoins$Marks" "what" "I") ∈ lw_all := lw_g (lw_at lw_m5 85 rfl) rfl
theorem q1141 : (Jvm.Cond.fieldLink "FaceCoins$Marks" (13 : Nat) "FaceCoins$Marks" "who" "I") ∈ lw_all := lw_g (lw_at lw_m5 86 rfl) rfl
theorem q1142 : (Jvm.Cond.laysFinal "FaceCoins$Marks" "FaceCoins$Marks" "what" "I") ∈ lw_all := lw_g (lw_at lw_m5 87 rfl) rfl
theorem q1143 : (Jvm.Cond.soleField "FaceCoins$Marks" "what") ∈ lw_all := lw_g (lw_at lw_m5 88 rfl) rfl
theorem q1144 : (Jvm.Cond.laysFinal "FaceCoins$Marks" "FaceCoins$Marks" "who" "I") ∈ lw_all := lw_g (lw_at lw_m5 89 rfl) rfl
theorem q1145 : (Jvm.Cond.soleField "FaceCoins$Marks" "who") ∈ lw_all := lw_g (lw_at lw_m5 90 rfl) rfl
theorem q1146 : (Jvm.Cond.superclass "FaceCoins$Marks" "FaceCoins$Cond") ∈ lw_all := lw_g (lw_at lw_m5 91 rfl) rfl
theorem q1207 : (Jvm.Cond.instanceMethod ({ cls := "FaceCoins$Marks", name := "is", desc := "(LFaceCoins$State;I)Z" } : Jvm.MethodName)) ∈ lw_all := lw_g (lw_at lw_m5 152 rfl) rfl
theorem q1208 : (Jvm.Cond.code ({ cls := "FaceCoins$Marks", name := "is", desc := "(LFaceCoins$State;I)Z" } : Jvm.MethodName) prog_9_method_2_code (3 : Nat) (Option.some Jvm.ClassFile.FieldType.boolean)) ∈ lw_all := lw_g (lw_at lw_m5 153 rfl) rfl
theorem q1209 : (Jvm.Cond.methodLink "FaceCoins$Marks" (16 : Nat) ({ cls := "FaceCoins$State", name := "top", desc := "(I)I" } : Jvm.MethodName)) ∈ lw_all := lw_g (lw_at lw_m5 154 rfl) rfl
theorem q1210 : (Jvm.Cond.methodLink "FaceCoins$Marks" (22 : Nat) ({ cls := "FaceCoins$State", name := "shows", desc := "(I)I" } : Jvm.MethodName)) ∈ lw_all := lw_g (lw_at lw_m5 155 rfl) rfl
theorem q1214 : (Jvm.Cond.methodLinkNest "FaceCoins$Marks" (25 : Nat) ({ cls := "FaceCoins", name := "has", desc := "(II)Z" } : Jvm.MethodName) "FaceCoins") ∈ lw_tbl := lw_at lw_m5 159 rfl
theorem q1215 : (Jvm.Cond.methodLink "FaceCoins$Marks" (35 : Nat) ({ cls := "FaceCoins$State", name := "showsFalse", desc := "(I)Z" } : Jvm.MethodName)) ∈ lw_all := lw_g (lw_at lw_m5 160 rfl) rfl
theorem q1224 : (Jvm.Cond.selects "FaceCoins$Marks" ({ cls := "FaceCoins$Cond", name := "is", desc := "(LFaceCoins$State;I)Z" } : Jvm.MethodName) ({ cls := "FaceCoins$Marks", name := "is", desc := "(LFaceCoins$State;I)Z" } : Jvm.MethodName)) ∈ lw_all := lw_g (lw_at lw_m5 169 rfl) rfl
theorem q1925 : (Jvm.Cond.castable "FaceCoins$Marks" "java/lang/Object") ∈ lw_tbl := lw_at lw_m8 150 rfl
theorem q1932 : (Jvm.Cond.castable "FaceCoins$Marks" "FaceCoins$Cond") ∈ lw_tbl := lw_at lw_m8 157 rfl
theorem in_X14 : ∀ w ∈ wsX140, w ∈ lw_all := lw_in wsX140 [1142, 1144] (by decide +kernel) (by decide +kernel)
/-! FaceCoins$Counts -/
set_option maxRecDepth 100000
def RX15 : String := "FaceCoins$Counts"
def TX15 : u_T := fun k => match k with
  | 0 => ("FaceCoins$Counts", "what", "I", true)
  | 1 => ("FaceCoins$Counts", "sign", "I", true)
  | _ => ("FaceCoins$Counts", "number", "I", true)
def tyX15 : Nat → FieldType := fun k => match k with
  | 0 => .int
  | 1 => .int
  | _ => .int
abbrev wsX150 : List Cond := u_ws RX15 TX15 3
theorem nmX15 : ∀ a, a < 3 → ∀ b, b < 3 → a ≠ b → (TX15 a).2.1 ≠ (TX15 b).2.1 := by decide +kernel
theorem tyX15_ok : ∀ k, k < 3 → parseFieldDescriptor (TX15 k).2.2.1 = some (tyX15 k) := by decide +kernel
abbrev cX15_init : ByteArray := prog_5_method_1_code
def yX15_init : MethodName := ⟨RX15, "<init>", "(III)V"⟩
def dkwX15_init_0 : List UInt8 := [42, 183, 0, 1, 42, 27, 181, 0, 7, 42, 28, 181, 0, 13, 42, 29, 181, 0, 16, 177]
abbrev dktX15_init_0 : List UInt8 := dkwX15_init_0 ++ []
theorem dksX15_init_0 : cX15_init.data.toList.drop 0 = dktX15_init_0 := by decide +kernel
theorem dX15_init_0 : decode cX15_init 0 = .ok (.aload_n 0, 1) := dk_42 (dk_at dksX15_init_0 0 rfl rfl)
theorem dX15_init_1 : decode cX15_init 1 = .ok (.invokespecial 1, 3) := dk_183 0 1 (dk_at dksX15_init_0 1 rfl rfl)
theorem dX15_init_4 : decode cX15_init 4 = .ok (.aload_n 0, 1) := dk_42 (dk_at dksX15_init_0 4 rfl rfl)
theorem dX15_init_5 : decode cX15_init 5 = .ok (.iload_n 1, 1) := dk_27 (dk_at dksX15_init_0 5 rfl rfl)
theorem dX15_init_6 : decode cX15_init 6 = .ok (.putfield 7, 3) := dk_181 0 7 (dk_at dksX15_init_0 6 rfl rfl)
theorem dX15_init_9 : decode cX15_init 9 = .ok (.aload_n 0, 1) := dk_42 (dk_at dksX15_init_0 9 rfl rfl)
theorem dX15_init_10 : decode cX15_init 10 = .ok (.iload_n 2, 1) := dk_28 (dk_at dksX15_init_0 10 rfl rfl)
theorem dX15_init_11 : decode cX15_init 11 = .ok (.putfield 13, 3) := dk_181 0 13 (dk_at dksX15_init_0 11 rfl rfl)
theorem dX15_init_14 : decode cX15_init 14 = .ok (.aload_n 0, 1) := dk_42 (dk_at dksX15_init_0 14 rfl rfl)
theorem dX15_init_15 : decode cX15_init 15 = .ok (.iload_n 3, 1) := dk_29 (dk_at dksX15_init_0 15 rfl rfl)
theorem dX15_init_16 : decode cX15_init 16 = .ok (.putfield 16, 3) := dk_181 0 16 (dk_at dksX15_init_0 16 rfl rfl)
theorem dX15_init_19 : decode cX15_init 19 = .ok (.return_, 1) := dk_177 (dk_at dksX15_init_0 19 rfl rfl)
abbrev cX15_is : ByteArray := prog_5_method_2_code
def yX15_is : MethodName := ⟨RX15, "is", "(LFaceCoins$State;I)Z"⟩
def dkwX15_is_4 : List UInt8 := [180, 0, 16, 164, 0, 7, 4, 167, 0, 4, 3, 172]
abbrev dktX15_is_4 : List UInt8 := dkwX15_is_4 ++ []
def dkwX15_is_3 : List UInt8 := [16, 61, 160, 0, 19, 29, 42, 180, 0, 16, 160, 0, 7, 4, 167, 0, 20, 3, 167, 0, 16, 29, 42]
abbrev dktX15_is_3 : List UInt8 := dkwX15_is_3 ++ dktX15_is_4
def dkwX15_is_2 : List UInt8 := [160, 0, 19, 29, 42, 180, 0, 16, 162, 0, 7, 4, 167, 0, 45, 3, 167, 0, 41, 42, 180, 0, 13]
abbrev dktX15_is_2 : List UInt8 := dkwX15_is_2 ++ dktX15_is_3
def dkwX15_is_1 : List UInt8 := [43, 180, 0, 25, 28, 46, 167, 0, 9, 43, 180, 0, 28, 28, 46, 62, 42, 180, 0, 13, 16, 60]
abbrev dktX15_is_1 : List UInt8 := dkwX15_is_1 ++ dktX15_is_2
def dkwX15_is_0 : List UInt8 := [42, 180, 0, 7, 154, 0, 12, 43, 180, 0, 19, 28, 46, 167, 0, 26, 42, 180, 0, 7, 4, 160, 0, 12]
abbrev dktX15_is_0 : List UInt8 := dkwX15_is_0 ++ dktX15_is_1
theorem dksX15_is_0 : cX15_is.data.toList.drop 0 = dktX15_is_0 := by decide +kernel
theorem dksX15_is_1 : cX15_is.data.toList.drop 24 = dktX15_is_1 := dk_seg dksX15_is_0 24 rfl rfl
theorem dksX15_is_2 : cX15_is.data.toList.drop 46 = dktX15_is_2 := dk_seg dksX15_is_1 22 rfl rfl
theorem dksX15_is_3 : cX15_is.data.toList.drop 69 = dktX15_is_3 := dk_seg dksX15_is_2 23 rfl rfl
theorem dksX15_is_4 : cX15_is.data.toList.drop 92 = dktX15_is_4 := dk_seg dksX15_is_3 23 rfl rfl
theorem dX15_is_0 : decode cX15_is 0 = .ok (.aload_n 0, 1) := dk_42 (dk_at dksX15_is_0 0 rfl rfl)
theorem dX15_is_1 : decode cX15_is 1 = .ok (.getfield 7, 3) := dk_180 0 7 (dk_at dksX15_is_0 1 rfl rfl)
theorem dX15_is_4 : decode cX15_is 4 = .ok (.ifCond .ne 12, 3) := dk_154 0 12 (dk_at dksX15_is_0 4 rfl rfl)
theorem dX15_is_7 : decode cX15_is 7 = .ok (.aload_n 1, 1) := dk_43 (dk_at dksX15_is_0 7 rfl rfl)
theorem dX15_is_8 : decode cX15_is 8 = .ok (.getfield 19, 3) := dk_180 0 19 (dk_at dksX15_is_0 8 rfl rfl)
theorem dX15_is_11 : decode cX15_is 11 = .ok (.iload_n 2, 1) := dk_28 (dk_at dksX15_is_0 11 rfl rfl)
theorem dX15_is_12 : decode cX15_is 12 = .ok (.iaload, 1) := dk_46 (dk_at dksX15_is_0 12 rfl rfl)
theorem dX15_is_13 : decode cX15_is 13 = .ok (.goto 26, 3) := dk_167 0 26 (dk_at dksX15_is_0 13 rfl rfl)
theorem dX15_is_16 : decode cX15_is 16 = .ok (.aload_n 0, 1) := dk_42 (dk_at dksX15_is_0 16 rfl rfl)
theorem dX15_is_17 : decode cX15_is 17 = .ok (.getfield 7, 3) := dk_180 0 7 (dk_at dksX15_is_0 17 rfl rfl)
theorem dX15_is_20 : decode cX15_is 20 = .ok (.iconst 1, 1) := dk_4 (dk_at dksX15_is_0 20 rfl rfl)
theorem dX15_is_21 : decode cX15_is 21 = .ok (.if_icmp .ne 12, 3) := dk_160 0 12 (dk_at dksX15_is_0 21 rfl rfl)
theorem dX15_is_24 : decode cX15_is 24 = .ok (.aload_n 1, 1) := dk_43 (dk_at dksX15_is_1 0 rfl rfl)
theorem dX15_is_25 : decode cX15_is 25 = .ok (.getfield 25, 3) := dk_180 0 25 (dk_at dksX15_is_1 1 rfl rfl)
theorem dX15_is_28 : decode cX15_is 28 = .ok (.iload_n 2, 1) := dk_28 (dk_at dksX15_is_1 4 rfl rfl)
theorem dX15_is_29 : decode cX15_is 29 = .ok (.iaload, 1) := dk_46 (dk_at dksX15_is_1 5 rfl rfl)
theorem dX15_is_30 : decode cX15_is 30 = .ok (.goto 9, 3) := dk_167 0 9 (dk_at dksX15_is_1 6 rfl rfl)
theorem dX15_is_33 : decode cX15_is 33 = .ok (.aload_n 1, 1) := dk_43 (dk_at dksX15_is_1 9 rfl rfl)
theorem dX15_is_34 : decode cX15_is 34 = .ok (.getfield 28, 3) := dk_180 0 28 (dk_at dksX15_is_1 10 rfl rfl)
theorem dX15_is_37 : decode cX15_is 37 = .ok (.iload_n 2, 1) := dk_28 (dk_at dksX15_is_1 13 rfl rfl)
theorem dX15_is_38 : decode cX15_is 38 = .ok (.iaload, 1) := dk_46 (dk_at dksX15_is_1 14 rfl rfl)
theorem dX15_is_39 : decode cX15_is 39 = .ok (.istore_n 3, 1) := dk_62 (dk_at dksX15_is_1 15 rfl rfl)
theorem dX15_is_40 : decode cX15_is 40 = .ok (.aload_n 0, 1) := dk_42 (dk_at dksX15_is_1 16 rfl rfl)
theorem dX15_is_41 : decode cX15_is 41 = .ok (.getfield 13, 3) := dk_180 0 13 (dk_at dksX15_is_1 17 rfl rfl)
theorem dX15_is_44 : decode cX15_is 44 = .ok (.bipush 60, 2) := dk_16 60 (dk_at dksX15_is_1 20 rfl rfl)
theorem dX15_is_46 : decode cX15_is 46 = .ok (.if_icmp .ne 19, 3) := dk_160 0 19 (dk_at dksX15_is_2 0 rfl rfl)
theorem dX15_is_49 : decode cX15_is 49 = .ok (.iload_n 3, 1) := dk_29 (dk_at dksX15_is_2 3 rfl rfl)
theorem dX15_is_50 : decode cX15_is 50 = .ok (.aload_n 0, 1) := dk_42 (dk_at dksX15_is_2 4 rfl rfl)
theorem dX15_is_51 : decode cX15_is 51 = .ok (.getfield 16, 3) := dk_180 0 16 (dk_at dksX15_is_2 5 rfl rfl)
theorem dX15_is_54 : decode cX15_is 54 = .ok (.if_icmp .ge 7, 3) := dk_162 0 7 (dk_at dksX15_is_2 8 rfl rfl)
theorem dX15_is_57 : decode cX15_is 57 = .ok (.iconst 1, 1) := dk_4 (dk_at dksX15_is_2 11 rfl rfl)
theorem dX15_is_58 : decode cX15_is 58 = .ok (.goto 45, 3) := dk_167 0 45 (dk_at dksX15_is_2 12 rfl rfl)
theorem dX15_is_61 : decode cX15_is 61 = .ok (.iconst 0, 1) := dk_3 (dk_at dksX15_is_2 15 rfl rfl)
theorem dX15_is_62 : decode cX15_is 62 = .ok (.goto 41, 3) := dk_167 0 41 (dk_at dksX15_is_2 16 rfl rfl)
theorem dX15_is_65 : decode cX15_is 65 = .ok (.aload_n 0, 1) := dk_42 (dk_at dksX15_is_2 19 rfl rfl)
theorem dX15_is_66 : decode cX15_is 66 = .ok (.getfield 13, 3) := dk_180 0 13 (dk_at dksX15_is_2 20 rfl rfl)
theorem dX15_is_69 : decode cX15_is 69 = .ok (.bipush 61, 2) := dk_16 61 (dk_at dksX15_is_3 0 rfl rfl)
theorem dX15_is_71 : decode cX15_is 71 = .ok (.if_icmp .ne 19, 3) := dk_160 0 19 (dk_at dksX15_is_3 2 rfl rfl)
theorem dX15_is_74 : decode cX15_is 74 = .ok (.iload_n 3, 1) := dk_29 (dk_at dksX15_is_3 5 rfl rfl)
theorem dX15_is_75 : decode cX15_is 75 = .ok (.aload_n 0, 1) := dk_42 (dk_at dksX15_is_3 6 rfl rfl)
theorem dX15_is_76 : decode cX15_is 76 = .ok (.getfield 16, 3) := dk_180 0 16 (dk_at dksX15_is_3 7 rfl rfl)
theorem dX15_is_79 : decode cX15_is 79 = .ok (.if_icmp .ne 7, 3) := dk_160 0 7 (dk_at dksX15_is_3 10 rfl rfl)
theorem dX15_is_82 : decode cX15_is 82 = .ok (.iconst 1, 1) := dk_4 (dk_at dksX15_is_3 13 rfl rfl)
theorem dX15_is_83 : decode cX15_is 83 = .ok (.goto 20, 3) := dk_167 0 20 (dk_at dksX15_is_3 14 rfl rfl)
theorem dX15_is_86 : decode cX15_is 86 = .ok (.iconst 0, 1) := dk_3 (dk_at dksX15_is_3 17 rfl rfl)
theorem dX15_is_87 : decode cX15_is 87 = .ok (.goto 16, 3) := dk_167 0 16 (dk_at dksX15_is_3 18 rfl rfl)
theorem dX15_is_90 : decode cX15_is 90 = .ok (.iload_n 3, 1) := dk_29 (dk_at dksX15_is_3 21 rfl rfl)
theorem dX15_is_91 : decode cX15_is 91 = .ok (.aload_n 0, 1) := dk_42 (dk_at dksX15_is_3 22 rfl rfl)
theorem dX15_is_92 : decode cX15_is 92 = .ok (.getfield 16, 3) := dk_180 0 16 (dk_at dksX15_is_4 0 rfl rfl)
theorem dX15_is_95 : decode cX15_is 95 = .ok (.if_icmp .le 7, 3) := dk_164 0 7 (dk_at dksX15_is_4 3 rfl rfl)
theorem dX15_is_98 : decode cX15_is 98 = .ok (.iconst 1, 1) := dk_4 (dk_at dksX15_is_4 6 rfl rfl)
theorem dX15_is_99 : decode cX15_is 99 = .ok (.goto 4, 3) := dk_167 0 4 (dk_at dksX15_is_4 7 rfl rfl)
theorem dX15_is_102 : decode cX15_is 102 = .ok (.iconst 0, 1) := dk_3 (dk_at dksX15_is_4 10 rfl rfl)
theorem dX15_is_103 : decode cX15_is 103 = .ok (.ireturn, 1) := dk_172 (dk_at dksX15_is_4 11 rfl rfl)
theorem q120 : (Jvm.Cond.initialized "FaceCoins$Counts") ∈ lw_all := lw_g (lw_at lw_m1 25 rfl) rfl
theorem q291 : (Jvm.Cond.fieldLinkNest "FaceCoins$Counts" (19 : Nat) "FaceCoins$State" "grains" "[I" "FaceCoins") ∈ lw_tbl := lw_at lw_m1 196 rfl
theorem q297 : (Jvm.Cond.fieldLinkNest "FaceCoins$Counts" (28 : Nat) "FaceCoins$State" "struck" "[I" "FaceCoins") ∈ lw_tbl := lw_at lw_m1 202 rfl
theorem q300 : (Jvm.Cond.fieldLinkNest "FaceCoins$Counts" (25 : Nat) "FaceCoins$State" "layers" "[I" "FaceCoins") ∈ lw_tbl := lw_at lw_m1 205 rfl
theorem q1148 : (Jvm.Cond.instantiable "FaceCoins$Counts" (3 : Nat)) ∈ lw_all := lw_g (lw_at lw_m5 93 rfl) rfl
theorem q1150 : (Jvm.Cond.instanceMethod ({ cls := "FaceCoins$Counts", name := "<init>", desc := "(III)V" } : Jvm.MethodName)) ∈ lw_all := lw_g (lw_at lw_m5 95 rfl) rfl
theorem q1151 : (Jvm.Cond.code ({ cls := "FaceCoins$Counts", name := "<init>", desc := "(III)V" } : Jvm.MethodName) prog_5_method_1_code (4 : Nat) (Option.none : Option Jvm.ClassFile.FieldType)) ∈ lw_all := lw_g (lw_at lw_m5 96 rfl) rfl
theorem q1152 : (Jvm.Cond.methodLinkNest "FaceCoins$Counts" (1 : Nat) ({ cls := "FaceCoins$Cond", name := "<init>", desc := "()V" } : Jvm.MethodName) "FaceCoins") ∈ lw_tbl := lw_at lw_m5 97 rfl
theorem q1153 : (Jvm.Cond.fieldLink "FaceCoins$Counts" (7 : Nat) "FaceCoins$Counts" "what" "I") ∈ lw_all := lw_g (lw_at lw_m5 98 rfl) rfl
theorem q1154 : (Jvm.Cond.fieldLink "FaceCoins$Counts" (13 : Nat) "FaceCoins$Counts" "sign" "I") ∈ lw_all := lw_g (lw_at lw_m5 99 rfl) rfl
theorem q1155 : (Jvm.Cond.fieldLink "FaceCoins$Counts" (16 : Nat) "FaceCoins$Counts" "number" "I") ∈ lw_all := lw_g (lw_at lw_m5 100 rfl) rfl
theorem q1156 : (Jvm.Cond.laysFinal "FaceCoins$Counts" "FaceCoins$Counts" "what" "I") ∈ lw_all := lw_g (lw_at lw_m5 101 rfl) rfl
theorem q1157 : (Jvm.Cond.soleField "FaceCoins$Counts" "what") ∈ lw_all := lw_g (lw_at lw_m5 102 rfl) rfl
theorem q1158 : (Jvm.Cond.laysFinal "FaceCoins$Counts" "FaceCoins$Counts" "sign" "I") ∈ lw_all := lw_g (lw_at lw_m5 103 rfl) rfl
theorem q1159 : (Jvm.Cond.soleField "FaceCoins$Counts" "sign") ∈ lw_all := lw_g (lw_at lw_m5 104 rfl) rfl
theorem q1160 : (Jvm.Cond.laysFinal "FaceCoins$Counts" "FaceCoins$Counts" "number" "I") ∈ lw_all := lw_g (lw_at lw_m5 105 rfl) rfl
theorem q1161 : (Jvm.Cond.soleField "FaceCoins$Counts" "number") ∈ lw_all := lw_g (lw_at lw_m5 106 rfl) rfl
theorem q1162 : (Jvm.Cond.superclass "FaceCoins$Counts" "FaceCoins$Cond") ∈ lw_all := lw_g (lw_at lw_m5 107 rfl) rfl
theorem q1205 : (Jvm.Cond.instanceMethod ({ cls := "FaceCoins$Counts", name := "is", desc := "(LFaceCoins$State;I)Z" } : Jvm.MethodName)) ∈ lw_all := lw_g (lw_at lw_m5 150 rfl) rfl
theorem q1206 : (Jvm.Cond.code ({ cls := "FaceCoins$Counts", name := "is", desc := "(LFaceCoins$State;I)Z" } : Jvm.MethodName) prog_5_method_2_code (4 : Nat) (Option.some Jvm.ClassFile.FieldType.boolean)) ∈ lw_all := lw_g (lw_at lw_m5 151 rfl) rfl
theorem q1223 : (Jvm.Cond.selects "FaceCoins$Counts" ({ cls := "FaceCoins$Cond", name := "is", desc := "(LFaceCoins$State;I)Z" } : Jvm.MethodName) ({ cls := "FaceCoins$Counts", name := "is", desc := "(LFaceCoins$State;I)Z" } : Jvm.MethodName)) ∈ lw_all := lw_g (lw_at lw_m5 168 rfl) rfl
theorem q1926 : (Jvm.Cond.castable "FaceCoins$Counts" "java/lang/Object") ∈ lw_tbl := lw_at lw_m8 151 rfl
theorem q1933 : (Jvm.Cond.castable "FaceCoins$Counts" "FaceCoins$Cond") ∈ lw_tbl := lw_at lw_m8 158 rfl
theorem in_X15 : ∀ w ∈ wsX150, w ∈ lw_all := lw_in wsX150 [1156, 1158, 1160] (by decide +kernel) (by decide +kernel)
/-! FaceCoins$Both -/
set_option maxRecDepth 100000
def RX16 : String := "FaceCoins$Both"
def TX16 : u_T := fun k => match k with
  | 0 => ("FaceCoins$Both", "a", "LFaceCoins$Cond;", true)
  | _ => ("FaceCoins$Both", "b", "LFaceCoins$Cond;", true)
def tyX16 : Nat → FieldType := fun k => match k with
  | 0 => .object "FaceCoins$Cond"
  | _ => .object "FaceCoins$Cond"
abbrev wsX160 : List Cond := u_ws RX16 TX16 2
theorem nmX16 : ∀ a, a < 2 → ∀ b, b < 2 → a ≠ b → (TX16 a).2.1 ≠ (TX16 b).2.1 := by decide +kernel
theorem tyX16_ok : ∀ k, k < 2 → parseFieldDescriptor (TX16 k).2.2.1 = some (tyX16 k) := by decide +kernel
abbrev cX16_init : ByteArray := prog_3_method_1_code
def yX16_init : MethodName := ⟨RX16, "<init>", "(LFaceCoins$Cond;LFaceCoins$Cond;)V"⟩
def dkwX16_init_0 : List UInt8 := [42, 183, 0, 1, 42, 43, 181, 0, 7, 42, 44, 181, 0, 13, 177]
abbrev dktX16_init_0 : List UInt8 := dkwX16_init_0 ++ []
theorem dksX16_init_0 : cX16_init.data.toList.drop 0 = dktX16_init_0 := by decide +kernel
theorem dX16_init_0 : decode cX16_init 0 = .ok (.aload_n 0, 1) := dk_42 (dk_at dksX16_init_0 0 rfl rfl)
theorem dX16_init_1 : decode cX16_init 1 = .ok (.invokespecial 1, 3) := dk_183 0 1 (dk_at dksX16_init_0 1 rfl rfl)
theorem dX16_init_4 : decode cX16_init 4 = .ok (.aload_n 0, 1) := dk_42 (dk_at dksX16_init_0 4 rfl rfl)
theorem dX16_init_5 : decode cX16_init 5 = .ok (.aload_n 1, 1) := dk_43 (dk_at dksX16_init_0 5 rfl rfl)
theorem dX16_init_6 : decode cX16_init 6 = .ok (.putfield 7, 3) := dk_181 0 7 (dk_at dksX16_init_0 6 rfl rfl)
theorem dX16_init_9 : decode cX16_init 9 = .ok (.aload_n 0, 1) := dk_42 (dk_at dksX16_init_0 9 rfl rfl)
theorem dX16_init_10 : decode cX16_init 10 = .ok (.aload_n 2, 1) := dk_44 (dk_at dksX16_init_0 10 rfl rfl)
theorem dX16_init_11 : decode cX16_init 11 = .ok (.putfield 13, 3) := dk_181 0 13 (dk_at dksX16_init_0 11 rfl rfl)
theorem dX16_init_14 : decode cX16_init 14 = .ok (.return_, 1) := dk_177 (dk_at dksX16_init_0 14 rfl rfl)
abbrev cX16_is : ByteArray := prog_3_method_2_code
def yX16_is : MethodName := ⟨RX16, "is", "(LFaceCoins$State;I)Z"⟩
def dkwX16_is_1 : List UInt8 := [4, 167, 0, 4, 3, 172]
abbrev dktX16_is_1 : List UInt8 := dkwX16_is_1 ++ []
def dkwX16_is_0 : List UInt8 := [42, 180, 0, 7, 43, 28, 182, 0, 16, 153, 0, 19, 42, 180, 0, 13, 43, 28, 182, 0, 16, 153, 0, 7]
abbrev dktX16_is_0 : List UInt8 := dkwX16_is_0 ++ dktX16_is_1
theorem dksX16_is_0 : cX16_is.data.toList.drop 0 = dktX16_is_0 := by decide +kernel
theorem dksX16_is_1 : cX16_is.data.toList.drop 24 = dktX16_is_1 := dk_seg dksX16_is_0 24 rfl rfl
theorem dX16_is_0 : decode cX16_is 0 = .ok (.aload_n 0, 1) := dk_42 (dk_at dksX16_is_0 0 rfl rfl)
theorem dX16_is_1 : decode cX16_is 1 = .ok (.getfield 7, 3) := dk_180 0 7 (dk_at dksX16_is_0 1 rfl rfl)
theorem dX16_is_4 : decode cX16_is 4 = .ok (.aload_n 1, 1) := dk_43 (dk_at dksX16_is_0 4 rfl rfl)
theorem dX16_is_5 : decode cX16_is 5 = .ok (.iload_n 2, 1) := dk_28 (dk_at dksX16_is_0 5 rfl rfl)
theorem dX16_is_6 : decode cX16_is 6 = .ok (.invokevirtual 16, 3) := dk_182 0 16 (dk_at dksX16_is_0 6 rfl rfl)
theorem dX16_is_9 : decode cX16_is 9 = .ok (.ifCond .eq 19, 3) := dk_153 0 19 (dk_at dksX16_is_0 9 rfl rfl)
theorem dX16_is_12 : decode cX16_is 12 = .ok (.aload_n 0, 1) := dk_42 (dk_at dksX16_is_0 12 rfl rfl)
theorem dX16_is_13 : decode cX16_is 13 = .ok (.getfield 13, 3) := dk_180 0 13 (dk_at dksX16_is_0 13 rfl rfl)
theorem dX16_is_16 : decode cX16_is 16 = .ok (.aload_n 1, 1) := dk_43 (dk_at dksX16_is_0 16 rfl rfl)
theorem dX16_is_17 : decode cX16_is 17 = .ok (.iload_n 2, 1) := dk_28 (dk_at dksX16_is_0 17 rfl rfl)
theorem dX16_is_18 : decode cX16_is 18 = .ok (.invokevirtual 16, 3) := dk_182 0 16 (dk_at dksX16_is_0 18 rfl rfl)
theorem dX16_is_21 : decode cX16_is 21 = .ok (.ifCond .eq 7, 3) := dk_153 0 7 (dk_at dksX16_is_0 21 rfl rfl)
theorem dX16_is_24 : decode cX16_is 24 = .ok (.iconst 1, 1) := dk_4 (dk_at dksX16_is_1 0 rfl rfl)
theorem dX16_is_25 : decode cX16_is 25 = .ok (.goto 4, 3) := dk_167 0 4 (dk_at dksX16_is_1 1 rfl rfl)
theorem dX16_is_28 : decode cX16_is 28 = .ok (.iconst 0, 1) := dk_3 (dk_at dksX16_is_1 4 rfl rfl)
theorem dX16_is_29 : decode cX16_is 29 = .ok (.ireturn, 1) := dk_172 (dk_at dksX16_is_1 5 rfl rfl)
theorem q121 : (Jvm.Cond.initialized "FaceCoins$Both") ∈ lw_all := lw_g (lw_at lw_m1 26 rfl) rfl
theorem q1165 : (Jvm.Cond.instantiable "FaceCoins$Both" (2 : Nat)) ∈ lw_all := lw_g (lw_at lw_m5 110 rfl) rfl
theorem q1167 : (Jvm.Cond.instanceMethod ({ cls := "FaceCoins$Both", name := "<init>", desc := "(LFaceCoins$Cond;LFaceCoins$Cond;)V" } : Jvm.MethodName)) ∈ lw_all := lw_g (lw_at lw_m5 112 rfl) rfl
theorem q1168 : (Jvm.Cond.code ({ cls := "FaceCoins$Both", name := "<init>", desc := "(LFaceCoins$Cond;LFaceCoins$Cond;)V" } : Jvm.MethodName) prog_3_method_1_code (3 : Nat) (Option.none : Option Jvm.ClassFile.FieldType)) ∈ lw_all := lw_g (lw_at lw_m5 113 rfl) rfl
theorem q1169 : (Jvm.Cond.methodLinkNest "FaceCoins$Both" (1 : Nat) ({ cls := "FaceCoins$Cond", name := "<init>", desc := "()V" } : Jvm.MethodName) "FaceCoins") ∈ lw_tbl := lw_at lw_m5 114 rfl
theorem q1170 : (Jvm.Cond.fieldLink "FaceCoins$Both" (7 : Nat) "FaceCoins$Both" "a" "LFaceCoins$Cond;") ∈ lw_all := lw_g (lw_at lw_m5 115 rfl) rfl
theorem q1171 : (Jvm.Cond.fieldLink "FaceCoins$Both" (13 : Nat) "FaceCoins$Both" "b" "LFaceCoins$Cond;") ∈ lw_all := lw_g (lw_at lw_m5 116 rfl) rfl
theorem q1172 : (Jvm.Cond.laysFinal "FaceCoins$Both" "FaceCoins$Both" "a" "LFaceCoins$Cond;") ∈ lw_all := lw_g (lw_at lw_m5 117 rfl) rfl
theorem q1173 : (Jvm.Cond.soleField "FaceCoins$Both" "a") ∈ lw_all := lw_g (lw_at lw_m5 118 rfl) rfl
theorem q1174 : (Jvm.Cond.laysFinal "FaceCoins$Both" "FaceCoins$Both" "b" "LFaceCoins$Cond;") ∈ lw_all := lw_g (lw_at lw_m5 119 rfl) rfl
theorem q1175 : (Jvm.Cond.soleField "FaceCoins$Both" "b") ∈ lw_all := lw_g (lw_at lw_m5 120 rfl) rfl
theorem q1176 : (Jvm.Cond.superclass "FaceCoins$Both" "FaceCoins$Cond") ∈ lw_all := lw_g (lw_at lw_m5 121 rfl) rfl
theorem q1202 : (Jvm.Cond.instanceMethod ({ cls := "FaceCoins$Both", name := "is", desc := "(LFaceCoins$State;I)Z" } : Jvm.MethodName)) ∈ lw_all := lw_g (lw_at lw_m5 147 rfl) rfl
theorem q1203 : (Jvm.Cond.code ({ cls := "FaceCoins$Both", name := "is", desc := "(LFaceCoins$State;I)Z" } : Jvm.MethodName) prog_3_method_2_code (3 : Nat) (Option.some Jvm.ClassFile.FieldType.boolean)) ∈ lw_all := lw_g (lw_at lw_m5 148 rfl) rfl
theorem q1204 : (Jvm.Cond.methodLink "FaceCoins$Both" (16 : Nat) ({ cls := "FaceCoins$Cond", name := "is", desc := "(LFaceCoins$State;I)Z" } : Jvm.MethodName)) ∈ lw_all := lw_g (lw_at lw_m5 149 rfl) rfl
theorem q1222 : (Jvm.Cond.selects "FaceCoins$Both" ({ cls := "FaceCoins$Cond", name := "is", desc := "(LFaceCoins$State;I)Z" } : Jvm.MethodName) ({ cls := "FaceCoins$Both", name := "is", desc := "(LFaceCoins$State;I)Z" } : Jvm.MethodName)) ∈ lw_all := lw_g (lw_at lw_m5 167 rfl) rfl
theorem q1927 : (Jvm.Cond.castable "FaceCoins$Both" "java/lang/Object") ∈ lw_tbl := lw_at lw_m8 152 rfl
theorem q1934 : (Jvm.Cond.castable "FaceCoins$Both" "FaceCoins$Cond") ∈ lw_tbl := lw_at lw_m8 159 rfl
theorem in_X16 : ∀ w ∈ wsX160, w ∈ lw_all := lw_in wsX160 [1172, 1174] (by decide +kernel) (by decide +kernel)
/-! FaceCoins$Any -/
set_option maxRecDepth 100000
def RX17 : String := "FaceCoins$Any"
def TX17 : u_T := fun k => match k with
  | 0 => ("FaceCoins$Any", "a", "LFaceCoins$Cond;", true)
  | _ => ("FaceCoins$Any", "b", "LFaceCoins$Cond;", true)
def tyX17 : Nat → FieldType := fun k => match k with
  | 0 => .object "FaceCoins$Cond"
  | _ => .object "FaceCoins$Cond"
abbrev wsX170 : List Cond := u_ws RX17 TX17 2
theorem nmX17 : ∀ a, a < 2 → ∀ b, b < 2 → a ≠ b → (TX17 a).2.1 ≠ (TX17 b).2.1 := by decide +kernel
theorem tyX17_ok : ∀ k, k < 2 → parseFieldDescriptor (TX17 k).2.2.1 = some (tyX17 k) := by decide +kernel
abbrev cX17_init : ByteArray := prog_2_method_1_code
def yX17_init : MethodName := ⟨RX17, "<init>", "(LFaceCoins$Cond;LFaceCoins$Cond;)V"⟩
def dkwX17_init_0 : List UInt8 := [42, 183, 0, 1, 42, 43, 181, 0, 7, 42, 44, 181, 0, 13, 177]
abbrev dktX17_init_0 : List UInt8 := dkwX17_init_0 ++ []
theorem dksX17_init_0 : cX17_init.data.toList.drop 0 = dktX17_init_0 := by decide +kernel
theorem dX17_init_0 : decode cX17_init 0 = .ok (.aload_n 0, 1) := dk_42 (dk_at dksX17_init_0 0 rfl rfl)
theorem dX17_init_1 : decode cX17_init 1 = .ok (.invokespecial 1, 3) := dk_183 0 1 (dk_at dksX17_init_0 1 rfl rfl)
theorem dX17_init_4 : decode cX17_init 4 = .ok (.aload_n 0, 1) := dk_42 (dk_at dksX17_init_0 4 rfl rfl)
theorem dX17_init_5 : decode cX17_init 5 = .ok (.aload_n 1, 1) := dk_43 (dk_at dksX17_init_0 5 rfl rfl)
theorem dX17_init_6 : decode cX17_init 6 = .ok (.putfield 7, 3) := dk_181 0 7 (dk_at dksX17_init_0 6 rfl rfl)
theorem dX17_init_9 : decode cX17_init 9 = .ok (.aload_n 0, 1) := dk_42 (dk_at dksX17_init_0 9 rfl rfl)
theorem dX17_init_10 : decode cX17_init 10 = .ok (.aload_n 2, 1) := dk_44 (dk_at dksX17_init_0 10 rfl rfl)
theorem dX17_init_11 : decode cX17_init 11 = .ok (.putfield 13, 3) := dk_181 0 13 (dk_at dksX17_init_0 11 rfl rfl)
theorem dX17_init_14 : decode cX17_init 14 = .ok (.return_, 1) := dk_177 (dk_at dksX17_init_0 14 rfl rfl)
abbrev cX17_is : ByteArray := prog_2_method_2_code
def yX17_is : MethodName := ⟨RX17, "is", "(LFaceCoins$State;I)Z"⟩
def dkwX17_is_1 : List UInt8 := [4, 167, 0, 4, 3, 172]
abbrev dktX17_is_1 : List UInt8 := dkwX17_is_1 ++ []
def dkwX17_is_0 : List UInt8 := [42, 180, 0, 7, 43, 28, 182, 0, 16, 154, 0, 15, 42, 180, 0, 13, 43, 28, 182, 0, 16, 153, 0, 7]
abbrev dktX17_is_0 : List UInt8 := dkwX17_is_0 ++ dktX17_is_1
theorem dksX17_is_0 : cX17_is.data.toList.drop 0 = dktX17_is_0 := by decide +kernel
theorem dksX17_is_1 : cX17_is.data.toList.drop 24 = dktX17_is_1 := dk_seg dksX17_is_0 24 rfl rfl
theorem dX17_is_0 : decode cX17_is 0 = .ok (.aload_n 0, 1) := dk_42 (dk_at dksX17_is_0 0 rfl rfl)
theorem dX17_is_1 : decode cX17_is 1 = .ok (.getfield 7, 3) := dk_180 0 7 (dk_at dksX17_is_0 1 rfl rfl)
theorem dX17_is_4 : decode cX17_is 4 = .ok (.aload_n 1, 1) := dk_43 (dk_at dksX17_is_0 4 rfl rfl)
theorem dX17_is_5 : decode cX17_is 5 = .ok (.iload_n 2, 1) := dk_28 (dk_at dksX17_is_0 5 rfl rfl)
theorem dX17_is_6 : decode cX17_is 6 = .ok (.invokevirtual 16, 3) := dk_182 0 16 (dk_at dksX17_is_0 6 rfl rfl)
theorem dX17_is_9 : decode cX17_is 9 = .ok (.ifCond .ne 15, 3) := dk_154 0 15 (dk_at dksX17_is_0 9 rfl rfl)
theorem dX17_is_12 : decode cX17_is 12 = .ok (.aload_n 0, 1) := dk_42 (dk_at dksX17_is_0 12 rfl rfl)
theorem dX17_is_13 : decode cX17_is 13 = .ok (.getfield 13, 3) := dk_180 0 13 (dk_at dksX17_is_0 13 rfl rfl)
theorem dX17_is_16 : decode cX17_is 16 = .ok (.aload_n 1, 1) := dk_43 (dk_at dksX17_is_0 16 rfl rfl)
theorem dX17_is_17 : decode cX17_is 17 = .ok (.iload_n 2, 1) := dk_28 (dk_at dksX17_is_0 17 rfl rfl)
theorem dX17_is_18 : decode cX17_is 18 = .ok (.invokevirtual 16, 3) := dk_182 0 16 (dk_at dksX17_is_0 18 rfl rfl)
theorem dX17_is_21 : decode cX17_is 21 = .ok (.ifCond .eq 7, 3) := dk_153 0 7 (dk_at dksX17_is_0 21 rfl rfl)
theorem dX17_is_24 : decode cX17_is 24 = .ok (.iconst 1, 1) := dk_4 (dk_at dksX17_is_1 0 rfl rfl)
theorem dX17_is_25 : decode cX17_is 25 = .ok (.goto 4, 3) := dk_167 0 4 (dk_at dksX17_is_1 1 rfl rfl)
theorem dX17_is_28 : decode cX17_is 28 = .ok (.iconst 0, 1) := dk_3 (dk_at dksX17_is_1 4 rfl rfl)
theorem dX17_is_29 : decode cX17_is 29 = .ok (.ireturn, 1) := dk_172 (dk_at dksX17_is_1 5 rfl rfl)
theorem q122 : (Jvm.Cond.initialized "FaceCoins$Any") ∈ lw_all := lw_g (lw_at lw_m1 27 rfl) rfl
theorem q1179 : (Jvm.Cond.instantiable "FaceCoins$Any" (2 : Nat)) ∈ lw_all := lw_g (lw_at lw_m5 124 rfl) rfl
theorem q1181 : (Jvm.Cond.instanceMethod ({ cls := "FaceCoins$Any", name := "<init>", desc := "(LFaceCoins$Cond;LFaceCoins$Cond;)V" } : Jvm.MethodName)) ∈ lw_all := lw_g (lw_at lw_m5 126 rfl) rfl
theorem q1182 : (Jvm.Cond.code ({ cls := "FaceCoins$Any", name := "<init>", desc := "(LFaceCoins$Cond;LFaceCoins$Cond;)V" } : Jvm.MethodName) prog_2_method_1_code (3 : Nat) (Option.none : Option Jvm.ClassFile.FieldType)) ∈ lw_all := lw_g (lw_at lw_m5 127 rfl) rfl
theorem q1183 : (Jvm.Cond.methodLinkNest "FaceCoins$Any" (1 : Nat) ({ cls := "FaceCoins$Cond", name := "<init>", desc := "()V" } : Jvm.MethodName) "FaceCoins") ∈ lw_tbl := lw_at lw_m5 128 rfl
theorem q1184 : (Jvm.Cond.fieldLink "FaceCoins$Any" (7 : Nat) "FaceCoins$Any" "a" "LFaceCoins$Cond;") ∈ lw_all := lw_g (lw_at lw_m5 129 rfl) rfl
theorem q1185 : (Jvm.Cond.fieldLink "FaceCoins$Any" (13 : Nat) "FaceCoins$Any" "b" "LFaceCoins$Cond;") ∈ lw_all := lw_g (lw_at lw_m5 130 rfl) rfl
theorem q1186 : (Jvm.Cond.laysFinal "FaceCoins$Any" "FaceCoins$Any" "a" "LFaceCoins$Cond;") ∈ lw_all := lw_g (lw_at lw_m5 131 rfl) rfl
theorem q1187 : (Jvm.Cond.soleField "FaceCoins$Any" "a") ∈ lw_all := lw_g (lw_at lw_m5 132 rfl) rfl
theorem q1188 : (Jvm.Cond.laysFinal "FaceCoins$Any" "FaceCoins$Any" "b" "LFaceCoins$Cond;") ∈ lw_all := lw_g (lw_at lw_m5 133 rfl) rfl
theorem q1189 : (Jvm.Cond.soleField "FaceCoins$Any" "b") ∈ lw_all := lw_g (lw_at lw_m5 134 rfl) rfl
theorem q1190 : (Jvm.Cond.superclass "FaceCoins$Any" "FaceCoins$Cond") ∈ lw_all := lw_g (lw_at lw_m5 135 rfl) rfl
theorem q1198 : (Jvm.Cond.selects "FaceCoins$Any" ({ cls := "FaceCoins$Cond", name := "is", desc := "(LFaceCoins$State;I)Z" } : Jvm.MethodName) ({ cls := "FaceCoins$Any", name := "is", desc := "(LFaceCoins$State;I)Z" } : Jvm.MethodName)) ∈ lw_all := lw_g (lw_at lw_m5 143 rfl) rfl
theorem q1199 : (Jvm.Cond.instanceMethod ({ cls := "FaceCoins$Any", name := "is", desc := "(LFaceCoins$State;I)Z" } : Jvm.MethodName)) ∈ lw_all := lw_g (lw_at lw_m5 144 rfl) rfl
theorem q1200 : (Jvm.Cond.code ({ cls := "FaceCoins$Any", name := "is", desc := "(LFaceCoins$State;I)Z" } : Jvm.MethodName) prog_2_method_2_code (3 : Nat) (Option.some Jvm.ClassFile.FieldType.boolean)) ∈ lw_all := lw_g (lw_at lw_m5 145 rfl) rfl
theorem q1201 : (Jvm.Cond.methodLink "FaceCoins$Any" (16 : Nat) ({ cls := "FaceCoins$Cond", name := "is", desc := "(LFaceCoins$State;I)Z" } : Jvm.MethodName)) ∈ lw_all := lw_g (lw_at lw_m5 146 rfl) rfl
theorem q1928 : (Jvm.Cond.castable "FaceCoins$Any" "java/lang/Object") ∈ lw_tbl := lw_at lw_m8 153 rfl
theorem q1935 : (Jvm.Cond.castable "FaceCoins$Any" "FaceCoins$Cond") ∈ lw_tbl := lw_at lw_m8 160 rfl
theorem in_X17 : ∀ w ∈ wsX170, w ∈ lw_all := lw_in wsX170 [1186, 1188] (by decide +kernel) (by decide +kernel)
