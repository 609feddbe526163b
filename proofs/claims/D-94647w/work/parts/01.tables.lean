-- ===== PART A: goes FIRST, ahead of the names: the tables' words, and 'selects' of the private methods out of them =====
/-- a private method of a class that the tables say can be made, by its rows of tables_1 -/
def lw_okq (q : MethodName × Nat) : Prop := (q.1.cls ≠ "java/lang/invoke/MethodHandle" ∧ q.1.cls ≠ "java/lang/invoke/VarHandle") ∧ Cond.instantiable q.1.cls q.2 ∈ tables_1 ∧ Cond.privateMethod q.1 ∈ tables_1 ∧ Cond.instanceMethod q.1 ∈ tables_1
set_option maxRecDepth 100000
theorem lw_t1 {w : Cond} (h : w ∈ tables_1_1) : w ∈ tables_1 := List.mem_append_left _ h
theorem lw_t2 {w : Cond} (h : w ∈ tables_1_2) : w ∈ tables_1 := List.mem_append_right _ (List.mem_append_left _ h)
theorem lw_t3 {w : Cond} (h : w ∈ tables_1_3) : w ∈ tables_1 := List.mem_append_right _ (List.mem_append_right _ (List.mem_append_left _ h))
theorem lw_t4 {w : Cond} (h : w ∈ tables_1_4) : w ∈ tables_1 := List.mem_append_right _ (List.mem_append_right _ (List.mem_append_right _ (List.mem_append_left _ h)))
theorem lw_t5 {w : Cond} (h : w ∈ tables_1_5) : w ∈ tables_1 := List.mem_append_right _ (List.mem_append_right _ (List.mem_append_right _ (List.mem_append_right _ (List.mem_append_left _ h))))
theorem lw_t6 {w : Cond} (h : w ∈ tables_1_6) : w ∈ tables_1 := List.mem_append_right _ (List.mem_append_right _ (List.mem_append_right _ (List.mem_append_right _ (List.mem_append_right _ (List.mem_append_left _ h)))))
theorem lw_t7 {w : Cond} (h : w ∈ tables_1_7) : w ∈ tables_1 := List.mem_append_right _ (List.mem_append_right _ (List.mem_append_right _ (List.mem_append_right _ (List.mem_append_right _ (List.mem_append_right _ (List.mem_append_left _ h))))))
theorem lw_t8 {w : Cond} (h : w ∈ tables_1_8) : w ∈ tables_1 := List.mem_append_right _ (List.mem_append_right _ (List.mem_append_right _ (List.mem_append_right _ (List.mem_append_right _ (List.mem_append_right _ (List.mem_append_right _ h))))))
theorem lw_p0 : lw_okq (⟨"java/lang/Throwable", "fillInStackTrace", "(I)Ljava/lang/Throwable;"⟩, 6) := ⟨⟨by decide +kernel, by decide +kernel⟩, lw_t1 (List.mem_of_getElem? (i := 72) rfl), lw_t1 (List.mem_of_getElem? (i := 70) rfl), lw_t1 (List.mem_of_getElem? (i := 71) rfl)⟩
theorem lw_p1 : lw_okq (⟨"FaceCoins", "four", "(I)V"⟩, 29) := ⟨⟨by decide +kernel, by decide +kernel⟩, lw_t1 (List.mem_of_getElem? (i := 29) rfl), lw_t3 (List.mem_of_getElem? (i := 33) rfl), lw_t3 (List.mem_of_getElem? (i := 34) rfl)⟩
theorem lw_p2 : lw_okq (⟨"FaceCoins", "taken", "()V"⟩, 29) := ⟨⟨by decide +kernel, by decide +kernel⟩, lw_t1 (List.mem_of_getElem? (i := 29) rfl), lw_t3 (List.mem_of_getElem? (i := 45) rfl), lw_t3 (List.mem_of_getElem? (i := 46) rfl)⟩
theorem lw_p3 : lw_okq (⟨"FaceCoins$LawReader", "line", "(I)V"⟩, 11) := ⟨⟨by decide +kernel, by decide +kernel⟩, lw_t2 (List.mem_of_getElem? (i := 86) rfl), lw_t3 (List.mem_of_getElem? (i := 165) rfl), lw_t3 (List.mem_of_getElem? (i := 166) rfl)⟩
theorem lw_p4 : lw_okq (⟨"FaceCoins$LawReader", "fresh", "()J"⟩, 11) := ⟨⟨by decide +kernel, by decide +kernel⟩, lw_t2 (List.mem_of_getElem? (i := 86) rfl), lw_t3 (List.mem_of_getElem? (i := 171) rfl), lw_t3 (List.mem_of_getElem? (i := 172) rfl)⟩
theorem lw_p5 : lw_okq (⟨"FaceCoins$LawReader", "takes", "(Ljava/lang/String;)Z"⟩, 11) := ⟨⟨by decide +kernel, by decide +kernel⟩, lw_t2 (List.mem_of_getElem? (i := 86) rfl), lw_t3 (List.mem_of_getElem? (i := 216) rfl), lw_t3 (List.mem_of_getElem? (i := 217) rfl)⟩
theorem lw_p6 : lw_okq (⟨"FaceCoins", "isLiving", "(I)Z"⟩, 29) := ⟨⟨by decide +kernel, by decide +kernel⟩, lw_t1 (List.mem_of_getElem? (i := 29) rfl), lw_t4 (List.mem_of_getElem? (i := 53) rfl), lw_t4 (List.mem_of_getElem? (i := 54) rfl)⟩
theorem lw_p7 : lw_okq (⟨"FaceCoins", "isWho", "(I)Z"⟩, 29) := ⟨⟨by decide +kernel, by decide +kernel⟩, lw_t1 (List.mem_of_getElem? (i := 29) rfl), lw_t4 (List.mem_of_getElem? (i := 57) rfl), lw_t4 (List.mem_of_getElem? (i := 58) rfl)⟩
theorem lw_p8 : lw_okq (⟨"FaceCoins", "isMint", "(I)Z"⟩, 29) := ⟨⟨by decide +kernel, by decide +kernel⟩, lw_t1 (List.mem_of_getElem? (i := 29) rfl), lw_t4 (List.mem_of_getElem? (i := 63) rfl), lw_t4 (List.mem_of_getElem? (i := 64) rfl)⟩
theorem lw_p9 : lw_okq (⟨"FaceCoins", "keep", "()V"⟩, 29) := ⟨⟨by decide +kernel, by decide +kernel⟩, lw_t1 (List.mem_of_getElem? (i := 29) rfl), lw_t4 (List.mem_of_getElem? (i := 72) rfl), lw_t4 (List.mem_of_getElem? (i := 73) rfl)⟩
theorem lw_p10 : lw_okq (⟨"FaceCoins", "isCoin", "(I)Z"⟩, 29) := ⟨⟨by decide +kernel, by decide +kernel⟩, lw_t1 (List.mem_of_getElem? (i := 29) rfl), lw_t4 (List.mem_of_getElem? (i := 84) rfl), lw_t4 (List.mem_of_getElem? (i := 85) rfl)⟩
theorem lw_p11 : lw_okq (⟨"FaceCoins", "areCoins", "()Z"⟩, 29) := ⟨⟨by decide +kernel, by decide +kernel⟩, lw_t1 (List.mem_of_getElem? (i := 29) rfl), lw_t4 (List.mem_of_getElem? (i := 125) rfl), lw_t4 (List.mem_of_getElem? (i := 126) rfl)⟩
theorem lw_p12 : lw_okq (⟨"FaceCoins", "one", "(I)I"⟩, 29) := ⟨⟨by decide +kernel, by decide +kernel⟩, lw_t1 (List.mem_of_getElem? (i := 29) rfl), lw_t4 (List.mem_of_getElem? (i := 129) rfl), lw_t4 (List.mem_of_getElem? (i := 130) rfl)⟩
theorem lw_p13 : lw_okq (⟨"FaceCoins", "sell", "(IIIIII)I"⟩, 29) := ⟨⟨by decide +kernel, by decide +kernel⟩, lw_t1 (List.mem_of_getElem? (i := 29) rfl), lw_t4 (List.mem_of_getElem? (i := 136) rfl), lw_t4 (List.mem_of_getElem? (i := 137) rfl)⟩
theorem lw_p14 : lw_okq (⟨"FaceCoins", "passes", "(IIII)V"⟩, 29) := ⟨⟨by decide +kernel, by decide +kernel⟩, lw_t1 (List.mem_of_getElem? (i := 29) rfl), lw_t4 (List.mem_of_getElem? (i := 140) rfl), lw_t4 (List.mem_of_getElem? (i := 141) rfl)⟩
theorem lw_p15 : lw_okq (⟨"FaceCoins", "isPayment", "(IIII)Z"⟩, 29) := ⟨⟨by decide +kernel, by decide +kernel⟩, lw_t1 (List.mem_of_getElem? (i := 29) rfl), lw_t4 (List.mem_of_getElem? (i := 152) rfl), lw_t4 (List.mem_of_getElem? (i := 153) rfl)⟩
def lw_privs_1 : List (MethodName × Nat) := [(⟨"java/lang/Throwable", "fillInStackTrace", "(I)Ljava/lang/Throwable;"⟩, 6), (⟨"FaceCoins", "four", "(I)V"⟩, 29), (⟨"FaceCoins", "taken", "()V"⟩, 29), (⟨"FaceCoins$LawReader", "line", "(I)V"⟩, 11), (⟨"FaceCoins$LawReader", "fresh", "()J"⟩, 11), (⟨"FaceCoins$LawReader", "takes", "(Ljava/lang/String;)Z"⟩, 11), (⟨"FaceCoins", "isLiving", "(I)Z"⟩, 29), (⟨"FaceCoins", "isWho", "(I)Z"⟩, 29), (⟨"FaceCoins", "isMint", "(I)Z"⟩, 29), (⟨"FaceCoins", "keep", "()V"⟩, 29), (⟨"FaceCoins", "isCoin", "(I)Z"⟩, 29), (⟨"FaceCoins", "areCoins", "()Z"⟩, 29), (⟨"FaceCoins", "one", "(I)I"⟩, 29), (⟨"FaceCoins", "sell", "(IIIIII)I"⟩, 29), (⟨"FaceCoins", "passes", "(IIII)V"⟩, 29), (⟨"FaceCoins", "isPayment", "(IIII)Z"⟩, 29)]
theorem lw_r1 : ∀ q ∈ lw_privs_1, lw_okq q := List.forall_mem_cons.mpr ⟨lw_p0, List.forall_mem_cons.mpr ⟨lw_p1, List.forall_mem_cons.mpr ⟨lw_p2, List.forall_mem_cons.mpr ⟨lw_p3, List.forall_mem_cons.mpr ⟨lw_p4, List.forall_mem_cons.mpr ⟨lw_p5, List.forall_mem_cons.mpr ⟨lw_p6, List.forall_mem_cons.mpr ⟨lw_p7, List.forall_mem_cons.mpr ⟨lw_p8, List.forall_mem_cons.mpr ⟨lw_p9, List.forall_mem_cons.mpr ⟨lw_p10, List.forall_mem_cons.mpr ⟨lw_p11, List.forall_mem_cons.mpr ⟨lw_p12, List.forall_mem_cons.mpr ⟨lw_p13, List.forall_mem_cons.mpr ⟨lw_p14, List.forall_mem_cons.mpr ⟨lw_p15, fun _ h => absurd h List.not_mem_nil⟩⟩⟩⟩⟩⟩⟩⟩⟩⟩⟩⟩⟩⟩⟩⟩
theorem lw_p16 : lw_okq (⟨"FaceCoins", "finds", "(IIII)Z"⟩, 29) := ⟨⟨by decide +kernel, by decide +kernel⟩, lw_t1 (List.mem_of_getElem? (i := 29) rfl), lw_t4 (List.mem_of_getElem? (i := 156) rfl), lw_t4 (List.mem_of_getElem? (i := 157) rfl)⟩
theorem lw_p17 : lw_okq (⟨"FaceCoins", "worthOf", "(IIIIII)I"⟩, 29) := ⟨⟨by decide +kernel, by decide +kernel⟩, lw_t1 (List.mem_of_getElem? (i := 29) rfl), lw_t4 (List.mem_of_getElem? (i := 160) rfl), lw_t4 (List.mem_of_getElem? (i := 161) rfl)⟩
theorem lw_p18 : lw_okq (⟨"FaceCoins", "cost", "(I)I"⟩, 29) := ⟨⟨by decide +kernel, by decide +kernel⟩, lw_t1 (List.mem_of_getElem? (i := 29) rfl), lw_t4 (List.mem_of_getElem? (i := 166) rfl), lw_t4 (List.mem_of_getElem? (i := 167) rfl)⟩
theorem lw_p19 : lw_okq (⟨"FaceCoins", "optionOf", "(II)I"⟩, 29) := ⟨⟨by decide +kernel, by decide +kernel⟩, lw_t1 (List.mem_of_getElem? (i := 29) rfl), lw_t4 (List.mem_of_getElem? (i := 170) rfl), lw_t4 (List.mem_of_getElem? (i := 171) rfl)⟩
theorem lw_p20 : lw_okq (⟨"FaceCoins", "hasRoom", "()Z"⟩, 29) := ⟨⟨by decide +kernel, by decide +kernel⟩, lw_t1 (List.mem_of_getElem? (i := 29) rfl), lw_t4 (List.mem_of_getElem? (i := 182) rfl), lw_t4 (List.mem_of_getElem? (i := 183) rfl)⟩
theorem lw_p21 : lw_okq (⟨"FaceCoins", "pays", "(IIII)V"⟩, 29) := ⟨⟨by decide +kernel, by decide +kernel⟩, lw_t1 (List.mem_of_getElem? (i := 29) rfl), lw_t4 (List.mem_of_getElem? (i := 186) rfl), lw_t4 (List.mem_of_getElem? (i := 187) rfl)⟩
theorem lw_p22 : lw_okq (⟨"FaceCoins", "rowsFrom", "(IIII)I"⟩, 29) := ⟨⟨by decide +kernel, by decide +kernel⟩, lw_t1 (List.mem_of_getElem? (i := 29) rfl), lw_t4 (List.mem_of_getElem? (i := 239) rfl), lw_t5 (List.mem_of_getElem? (i := 0) rfl)⟩
theorem lw_p23 : lw_okq (⟨"FaceCoins", "looks", "(III)Z"⟩, 29) := ⟨⟨by decide +kernel, by decide +kernel⟩, lw_t1 (List.mem_of_getElem? (i := 29) rfl), lw_t5 (List.mem_of_getElem? (i := 3) rfl), lw_t5 (List.mem_of_getElem? (i := 4) rfl)⟩
theorem lw_p24 : lw_okq (⟨"FaceCoins", "draw", "(I)I"⟩, 29) := ⟨⟨by decide +kernel, by decide +kernel⟩, lw_t1 (List.mem_of_getElem? (i := 29) rfl), lw_t5 (List.mem_of_getElem? (i := 16) rfl), lw_t5 (List.mem_of_getElem? (i := 17) rfl)⟩
theorem lw_p25 : lw_okq (⟨"FaceCoins$SentenceReader", "any", "(I)LFaceCoins$Cond;"⟩, 12) := ⟨⟨by decide +kernel, by decide +kernel⟩, lw_t2 (List.mem_of_getElem? (i := 137) rfl), lw_t5 (List.mem_of_getElem? (i := 32) rfl), lw_t5 (List.mem_of_getElem? (i := 33) rfl)⟩
theorem lw_p26 : lw_okq (⟨"FaceCoins$SentenceReader", "both", "(I)LFaceCoins$Cond;"⟩, 12) := ⟨⟨by decide +kernel, by decide +kernel⟩, lw_t2 (List.mem_of_getElem? (i := 137) rfl), lw_t5 (List.mem_of_getElem? (i := 36) rfl), lw_t5 (List.mem_of_getElem? (i := 37) rfl)⟩
theorem lw_p27 : lw_okq (⟨"FaceCoins$SentenceReader", "single", "(I)LFaceCoins$Cond;"⟩, 12) := ⟨⟨by decide +kernel, by decide +kernel⟩, lw_t2 (List.mem_of_getElem? (i := 137) rfl), lw_t5 (List.mem_of_getElem? (i := 40) rfl), lw_t5 (List.mem_of_getElem? (i := 41) rfl)⟩
theorem lw_p28 : lw_okq (⟨"FaceCoins", "isShown", "(I)Z"⟩, 29) := ⟨⟨by decide +kernel, by decide +kernel⟩, lw_t1 (List.mem_of_getElem? (i := 29) rfl), lw_t6 (List.mem_of_getElem? (i := 7) rfl), lw_t6 (List.mem_of_getElem? (i := 8) rfl)⟩
theorem lw_p29 : lw_okq (⟨"FaceCoinsModel", "come", "(I)V"⟩, 47) := ⟨⟨by decide +kernel, by decide +kernel⟩, lw_t6 (List.mem_of_getElem? (i := 11) rfl), lw_t6 (List.mem_of_getElem? (i := 169) rfl), lw_t6 (List.mem_of_getElem? (i := 170) rfl)⟩
theorem lw_p30 : lw_okq (⟨"FaceCoinsModel", "begin", "(I)V"⟩, 47) := ⟨⟨by decide +kernel, by decide +kernel⟩, lw_t6 (List.mem_of_getElem? (i := 11) rfl), lw_t6 (List.mem_of_getElem? (i := 181) rfl), lw_t6 (List.mem_of_getElem? (i := 182) rfl)⟩
theorem lw_p31 : lw_okq (⟨"FaceCoinsModel", "lay", "()V"⟩, 47) := ⟨⟨by decide +kernel, by decide +kernel⟩, lw_t6 (List.mem_of_getElem? (i := 11) rfl), lw_t6 (List.mem_of_getElem? (i := 185) rfl), lw_t6 (List.mem_of_getElem? (i := 186) rfl)⟩
def lw_privs_2 : List (MethodName × Nat) := [(⟨"FaceCoins", "finds", "(IIII)Z"⟩, 29), (⟨"FaceCoins", "worthOf", "(IIIIII)I"⟩, 29), (⟨"FaceCoins", "cost", "(I)I"⟩, 29), (⟨"FaceCoins", "optionOf", "(II)I"⟩, 29), (⟨"FaceCoins", "hasRoom", "()Z"⟩, 29), (⟨"FaceCoins", "pays", "(IIII)V"⟩, 29), (⟨"FaceCoins", "rowsFrom", "(IIII)I"⟩, 29), (⟨"FaceCoins", "looks", "(III)Z"⟩, 29), (⟨"FaceCoins", "draw", "(I)I"⟩, 29), (⟨"FaceCoins$SentenceReader", "any", "(I)LFaceCoins$Cond;"⟩, 12), (⟨"FaceCoins$SentenceReader", "both", "(I)LFaceCoins$Cond;"⟩, 12), (⟨"FaceCoins$SentenceReader", "single", "(I)LFaceCoins$Cond;"⟩, 12), (⟨"FaceCoins", "isShown", "(I)Z"⟩, 29), (⟨"FaceCoinsModel", "come", "(I)V"⟩, 47), (⟨"FaceCoinsModel", "begin", "(I)V"⟩, 47), (⟨"FaceCoinsModel", "lay", "()V"⟩, 47)]
theorem lw_r2 : ∀ q ∈ lw_privs_2, lw_okq q := List.forall_mem_cons.mpr ⟨lw_p16, List.forall_mem_cons.mpr ⟨lw_p17, List.forall_mem_cons.mpr ⟨lw_p18, List.forall_mem_cons.mpr ⟨lw_p19, List.forall_mem_cons.mpr ⟨lw_p20, List.forall_mem_cons.mpr ⟨lw_p21, List.forall_mem_cons.mpr ⟨lw_p22, List.forall_mem_cons.mpr ⟨lw_p23, List.forall_mem_cons.mpr ⟨lw_p24, List.forall_mem_cons.mpr ⟨lw_p25, List.forall_mem_cons.mpr ⟨lw_p26, List.forall_mem_cons.mpr ⟨lw_p27, List.forall_mem_cons.mpr ⟨lw_p28, List.forall_mem_cons.mpr ⟨lw_p29, List.forall_mem_cons.mpr ⟨lw_p30, List.forall_mem_cons.mpr ⟨lw_p31, fun _ h => absurd h List.not_mem_nil⟩⟩⟩⟩⟩⟩⟩⟩⟩⟩⟩⟩⟩⟩⟩⟩
theorem lw_p32 : lw_okq (⟨"FaceCoinsModel", "plain", "([I)V"⟩, 47) := ⟨⟨by decide +kernel, by decide +kernel⟩, lw_t6 (List.mem_of_getElem? (i := 11) rfl), lw_t6 (List.mem_of_getElem? (i := 189) rfl), lw_t6 (List.mem_of_getElem? (i := 190) rfl)⟩
theorem lw_p33 : lw_okq (⟨"FaceCoinsModel", "take", "()I"⟩, 47) := ⟨⟨by decide +kernel, by decide +kernel⟩, lw_t6 (List.mem_of_getElem? (i := 11) rfl), lw_t6 (List.mem_of_getElem? (i := 193) rfl), lw_t6 (List.mem_of_getElem? (i := 194) rfl)⟩
theorem lw_p34 : lw_okq (⟨"FaceCoinsModel", "go", "()V"⟩, 47) := ⟨⟨by decide +kernel, by decide +kernel⟩, lw_t6 (List.mem_of_getElem? (i := 11) rfl), lw_t6 (List.mem_of_getElem? (i := 197) rfl), lw_t6 (List.mem_of_getElem? (i := 198) rfl)⟩
theorem lw_p35 : lw_okq (⟨"FaceCoinsModel", "byteAt", "(I)I"⟩, 47) := ⟨⟨by decide +kernel, by decide +kernel⟩, lw_t6 (List.mem_of_getElem? (i := 11) rfl), lw_t6 (List.mem_of_getElem? (i := 207) rfl), lw_t6 (List.mem_of_getElem? (i := 208) rfl)⟩
theorem lw_p36 : lw_okq (⟨"FaceCoinsModel", "readLine", "()Z"⟩, 47) := ⟨⟨by decide +kernel, by decide +kernel⟩, lw_t6 (List.mem_of_getElem? (i := 11) rfl), lw_t6 (List.mem_of_getElem? (i := 213) rfl), lw_t6 (List.mem_of_getElem? (i := 214) rfl)⟩
theorem lw_p37 : lw_okq (⟨"FaceCoinsModel", "isWord", "(I)Z"⟩, 47) := ⟨⟨by decide +kernel, by decide +kernel⟩, lw_t6 (List.mem_of_getElem? (i := 11) rfl), lw_t6 (List.mem_of_getElem? (i := 217) rfl), lw_t6 (List.mem_of_getElem? (i := 218) rfl)⟩
theorem lw_p38 : lw_okq (⟨"FaceCoinsModel", "readWho", "()Z"⟩, 47) := ⟨⟨by decide +kernel, by decide +kernel⟩, lw_t6 (List.mem_of_getElem? (i := 11) rfl), lw_t6 (List.mem_of_getElem? (i := 230) rfl), lw_t6 (List.mem_of_getElem? (i := 231) rfl)⟩
theorem lw_p39 : lw_okq (⟨"FaceCoinsModel", "bad", "(I)Z"⟩, 47) := ⟨⟨by decide +kernel, by decide +kernel⟩, lw_t6 (List.mem_of_getElem? (i := 11) rfl), lw_t6 (List.mem_of_getElem? (i := 234) rfl), lw_t6 (List.mem_of_getElem? (i := 235) rfl)⟩
theorem lw_p40 : lw_okq (⟨"FaceCoinsModel", "readNew", "(I)Z"⟩, 47) := ⟨⟨by decide +kernel, by decide +kernel⟩, lw_t6 (List.mem_of_getElem? (i := 11) rfl), lw_t6 (List.mem_of_getElem? (i := 238) rfl), lw_t6 (List.mem_of_getElem? (i := 239) rfl)⟩
theorem lw_p41 : lw_okq (⟨"FaceCoinsModel", "isName", "()Z"⟩, 47) := ⟨⟨by decide +kernel, by decide +kernel⟩, lw_t6 (List.mem_of_getElem? (i := 11) rfl), lw_t7 (List.mem_of_getElem? (i := 2) rfl), lw_t7 (List.mem_of_getElem? (i := 3) rfl)⟩
theorem lw_p42 : lw_okq (⟨"FaceCoinsModel", "findIn", "([JII)I"⟩, 47) := ⟨⟨by decide +kernel, by decide +kernel⟩, lw_t6 (List.mem_of_getElem? (i := 11) rfl), lw_t7 (List.mem_of_getElem? (i := 6) rfl), lw_t7 (List.mem_of_getElem? (i := 7) rfl)⟩
theorem lw_p43 : lw_okq (⟨"FaceCoinsModel", "readMint", "()Z"⟩, 47) := ⟨⟨by decide +kernel, by decide +kernel⟩, lw_t6 (List.mem_of_getElem? (i := 11) rfl), lw_t7 (List.mem_of_getElem? (i := 10) rfl), lw_t7 (List.mem_of_getElem? (i := 11) rfl)⟩
theorem lw_p44 : lw_okq (⟨"FaceCoinsModel", "readNumber", "(II)Z"⟩, 47) := ⟨⟨by decide +kernel, by decide +kernel⟩, lw_t6 (List.mem_of_getElem? (i := 11) rfl), lw_t7 (List.mem_of_getElem? (i := 14) rfl), lw_t7 (List.mem_of_getElem? (i := 15) rfl)⟩
theorem lw_p45 : lw_okq (⟨"FaceCoinsModel", "readTakes", "()Z"⟩, 47) := ⟨⟨by decide +kernel, by decide +kernel⟩, lw_t6 (List.mem_of_getElem? (i := 11) rfl), lw_t7 (List.mem_of_getElem? (i := 21) rfl), lw_t7 (List.mem_of_getElem? (i := 22) rfl)⟩
theorem lw_p46 : lw_okq (⟨"FaceCoinsModel", "readWhoTold", "()Z"⟩, 47) := ⟨⟨by decide +kernel, by decide +kernel⟩, lw_t6 (List.mem_of_getElem? (i := 11) rfl), lw_t7 (List.mem_of_getElem? (i := 25) rfl), lw_t7 (List.mem_of_getElem? (i := 26) rfl)⟩
theorem lw_p47 : lw_okq (⟨"FaceCoinsModel", "readOnce", "(IIII)Z"⟩, 47) := ⟨⟨by decide +kernel, by decide +kernel⟩, lw_t6 (List.mem_of_getElem? (i := 11) rfl), lw_t7 (List.mem_of_getElem? (i := 29) rfl), lw_t7 (List.mem_of_getElem? (i := 30) rfl)⟩
def lw_privs_3 : List (MethodName × Nat) := [(⟨"FaceCoinsModel", "plain", "([I)V"⟩, 47), (⟨"FaceCoinsModel", "take", "()I"⟩, 47), (⟨"FaceCoinsModel", "go", "()V"⟩, 47), (⟨"FaceCoinsModel", "byteAt", "(I)I"⟩, 47), (⟨"FaceCoinsModel", "readLine", "()Z"⟩, 47), (⟨"FaceCoinsModel", "isWord", "(I)Z"⟩, 47), (⟨"FaceCoinsModel", "readWho", "()Z"⟩, 47), (⟨"FaceCoinsModel", "bad", "(I)Z"⟩, 47), (⟨"FaceCoinsModel", "readNew", "(I)Z"⟩, 47), (⟨"FaceCoinsModel", "isName", "()Z"⟩, 47), (⟨"FaceCoinsModel", "findIn", "([JII)I"⟩, 47), (⟨"FaceCoinsModel", "readMint", "()Z"⟩, 47), (⟨"FaceCoinsModel", "readNumber", "(II)Z"⟩, 47), (⟨"FaceCoinsModel", "readTakes", "()Z"⟩, 47), (⟨"FaceCoinsModel", "readWhoTold", "()Z"⟩, 47), (⟨"FaceCoinsModel", "readOnce", "(IIII)Z"⟩, 47)]
theorem lw_r3 : ∀ q ∈ lw_privs_3, lw_okq q := List.forall_mem_cons.mpr ⟨lw_p32, List.forall_mem_cons.mpr ⟨lw_p33, List.forall_mem_cons.mpr ⟨lw_p34, List.forall_mem_cons.mpr ⟨lw_p35, List.forall_mem_cons.mpr ⟨lw_p36, List.forall_mem_cons.mpr ⟨lw_p37, List.forall_mem_cons.mpr ⟨lw_p38, List.forall_mem_cons.mpr ⟨lw_p39, List.forall_mem_cons.mpr ⟨lw_p40, List.forall_mem_cons.mpr ⟨lw_p41, List.forall_mem_cons.mpr ⟨lw_p42, List.forall_mem_cons.mpr ⟨lw_p43, List.forall_mem_cons.mpr ⟨lw_p44, List.forall_mem_cons.mpr ⟨lw_p45, List.forall_mem_cons.mpr ⟨lw_p46, List.forall_mem_cons.mpr ⟨lw_p47, fun _ h => absurd h List.not_mem_nil⟩⟩⟩⟩⟩⟩⟩⟩⟩⟩⟩⟩⟩⟩⟩⟩
theorem lw_p48 : lw_okq (⟨"FaceCoinsModel", "readEnd", "()Z"⟩, 47) := ⟨⟨by decide +kernel, by decide +kernel⟩, lw_t6 (List.mem_of_getElem? (i := 11) rfl), lw_t7 (List.mem_of_getElem? (i := 36) rfl), lw_t7 (List.mem_of_getElem? (i := 37) rfl)⟩
theorem lw_p49 : lw_okq (⟨"FaceCoinsModel", "isSign", "(I)Z"⟩, 47) := ⟨⟨by decide +kernel, by decide +kernel⟩, lw_t6 (List.mem_of_getElem? (i := 11) rfl), lw_t7 (List.mem_of_getElem? (i := 40) rfl), lw_t7 (List.mem_of_getElem? (i := 41) rfl)⟩
theorem lw_p50 : lw_okq (⟨"FaceCoinsModel", "isWho", "(I)Z"⟩, 47) := ⟨⟨by decide +kernel, by decide +kernel⟩, lw_t6 (List.mem_of_getElem? (i := 11) rfl), lw_t7 (List.mem_of_getElem? (i := 52) rfl), lw_t7 (List.mem_of_getElem? (i := 53) rfl)⟩
theorem lw_p51 : lw_okq (⟨"FaceCoinsModel", "people", "()I"⟩, 47) := ⟨⟨by decide +kernel, by decide +kernel⟩, lw_t6 (List.mem_of_getElem? (i := 11) rfl), lw_t7 (List.mem_of_getElem? (i := 56) rfl), lw_t7 (List.mem_of_getElem? (i := 57) rfl)⟩
theorem lw_p52 : lw_okq (⟨"FaceCoinsModel", "refuse", "()I"⟩, 47) := ⟨⟨by decide +kernel, by decide +kernel⟩, lw_t6 (List.mem_of_getElem? (i := 11) rfl), lw_t7 (List.mem_of_getElem? (i := 60) rfl), lw_t7 (List.mem_of_getElem? (i := 61) rfl)⟩
theorem lw_p53 : lw_okq (⟨"FaceCoinsModel", "ofWho", "(II)I"⟩, 47) := ⟨⟨by decide +kernel, by decide +kernel⟩, lw_t6 (List.mem_of_getElem? (i := 11) rfl), lw_t7 (List.mem_of_getElem? (i := 64) rfl), lw_t7 (List.mem_of_getElem? (i := 65) rfl)⟩
theorem lw_p54 : lw_okq (⟨"FaceCoinsModel", "coins", "()I"⟩, 47) := ⟨⟨by decide +kernel, by decide +kernel⟩, lw_t6 (List.mem_of_getElem? (i := 11) rfl), lw_t7 (List.mem_of_getElem? (i := 68) rfl), lw_t7 (List.mem_of_getElem? (i := 69) rfl)⟩
theorem lw_p55 : lw_okq (⟨"FaceCoinsModel", "topOf", "(I)I"⟩, 47) := ⟨⟨by decide +kernel, by decide +kernel⟩, lw_t6 (List.mem_of_getElem? (i := 11) rfl), lw_t7 (List.mem_of_getElem? (i := 72) rfl), lw_t7 (List.mem_of_getElem? (i := 73) rfl)⟩
theorem lw_p56 : lw_okq (⟨"FaceCoinsModel", "ofCoin", "(II)I"⟩, 47) := ⟨⟨by decide +kernel, by decide +kernel⟩, lw_t6 (List.mem_of_getElem? (i := 11) rfl), lw_t7 (List.mem_of_getElem? (i := 76) rfl), lw_t7 (List.mem_of_getElem? (i := 77) rfl)⟩
theorem lw_p57 : lw_okq (⟨"FaceCoinsModel", "isMint", "(I)Z"⟩, 47) := ⟨⟨by decide +kernel, by decide +kernel⟩, lw_t6 (List.mem_of_getElem? (i := 11) rfl), lw_t7 (List.mem_of_getElem? (i := 84) rfl), lw_t7 (List.mem_of_getElem? (i := 85) rfl)⟩
theorem lw_p58 : lw_okq (⟨"FaceCoinsModel", "mints", "()I"⟩, 47) := ⟨⟨by decide +kernel, by decide +kernel⟩, lw_t6 (List.mem_of_getElem? (i := 11) rfl), lw_t7 (List.mem_of_getElem? (i := 88) rfl), lw_t7 (List.mem_of_getElem? (i := 89) rfl)⟩
theorem lw_p59 : lw_okq (⟨"FaceCoinsModel", "ofMint", "(II)I"⟩, 47) := ⟨⟨by decide +kernel, by decide +kernel⟩, lw_t6 (List.mem_of_getElem? (i := 11) rfl), lw_t7 (List.mem_of_getElem? (i := 92) rfl), lw_t7 (List.mem_of_getElem? (i := 93) rfl)⟩
theorem lw_p60 : lw_okq (⟨"FaceCoinsModel", "isFull", "(I)Z"⟩, 47) := ⟨⟨by decide +kernel, by decide +kernel⟩, lw_t6 (List.mem_of_getElem? (i := 11) rfl), lw_t7 (List.mem_of_getElem? (i := 100) rfl), lw_t7 (List.mem_of_getElem? (i := 101) rfl)⟩
theorem lw_p61 : lw_okq (⟨"FaceCoinsModel", "wrongStroke", "(III)I"⟩, 47) := ⟨⟨by decide +kernel, by decide +kernel⟩, lw_t6 (List.mem_of_getElem? (i := 11) rfl), lw_t7 (List.mem_of_getElem? (i := 104) rfl), lw_t7 (List.mem_of_getElem? (i := 105) rfl)⟩
theorem lw_p62 : lw_okq (⟨"FaceCoinsModel", "snap", "()V"⟩, 47) := ⟨⟨by decide +kernel, by decide +kernel⟩, lw_t6 (List.mem_of_getElem? (i := 11) rfl), lw_t7 (List.mem_of_getElem? (i := 108) rfl), lw_t7 (List.mem_of_getElem? (i := 109) rfl)⟩
theorem lw_p63 : lw_okq (⟨"FaceCoinsModel", "strike", "(IIIII)V"⟩, 47) := ⟨⟨by decide +kernel, by decide +kernel⟩, lw_t6 (List.mem_of_getElem? (i := 11) rfl), lw_t7 (List.mem_of_getElem? (i := 112) rfl), lw_t7 (List.mem_of_getElem? (i := 113) rfl)⟩
def lw_privs_4 : List (MethodName × Nat) := [(⟨"FaceCoinsModel", "readEnd", "()Z"⟩, 47), (⟨"FaceCoinsModel", "isSign", "(I)Z"⟩, 47), (⟨"FaceCoinsModel", "isWho", "(I)Z"⟩, 47), (⟨"FaceCoinsModel", "people", "()I"⟩, 47), (⟨"FaceCoinsModel", "refuse", "()I"⟩, 47), (⟨"FaceCoinsModel", "ofWho", "(II)I"⟩, 47), (⟨"FaceCoinsModel", "coins", "()I"⟩, 47), (⟨"FaceCoinsModel", "topOf", "(I)I"⟩, 47), (⟨"FaceCoinsModel", "ofCoin", "(II)I"⟩, 47), (⟨"FaceCoinsModel", "isMint", "(I)Z"⟩, 47), (⟨"FaceCoinsModel", "mints", "()I"⟩, 47), (⟨"FaceCoinsModel", "ofMint", "(II)I"⟩, 47), (⟨"FaceCoinsModel", "isFull", "(I)Z"⟩, 47), (⟨"FaceCoinsModel", "wrongStroke", "(III)I"⟩, 47), (⟨"FaceCoinsModel", "snap", "()V"⟩, 47), (⟨"FaceCoinsModel", "strike", "(IIIII)V"⟩, 47)]
theorem lw_r4 : ∀ q ∈ lw_privs_4, lw_okq q := List.forall_mem_cons.mpr ⟨lw_p48, List.forall_mem_cons.mpr ⟨lw_p49, List.forall_mem_cons.mpr ⟨lw_p50, List.forall_mem_cons.mpr ⟨lw_p51, List.forall_mem_cons.mpr ⟨lw_p52, List.forall_mem_cons.mpr ⟨lw_p53, List.forall_mem_cons.mpr ⟨lw_p54, List.forall_mem_cons.mpr ⟨lw_p55, List.forall_mem_cons.mpr ⟨lw_p56, List.forall_mem_cons.mpr ⟨lw_p57, List.forall_mem_cons.mpr ⟨lw_p58, List.forall_mem_cons.mpr ⟨lw_p59, List.forall_mem_cons.mpr ⟨lw_p60, List.forall_mem_cons.mpr ⟨lw_p61, List.forall_mem_cons.mpr ⟨lw_p62, List.forall_mem_cons.mpr ⟨lw_p63, fun _ h => absurd h List.not_mem_nil⟩⟩⟩⟩⟩⟩⟩⟩⟩⟩⟩⟩⟩⟩⟩⟩
theorem lw_p64 : lw_okq (⟨"FaceCoinsModel", "isCoin", "(I)Z"⟩, 47) := ⟨⟨by decide +kernel, by decide +kernel⟩, lw_t6 (List.mem_of_getElem? (i := 11) rfl), lw_t7 (List.mem_of_getElem? (i := 120) rfl), lw_t7 (List.mem_of_getElem? (i := 121) rfl)⟩
theorem lw_p65 : lw_okq (⟨"FaceCoinsModel", "showsFalse", "(I)I"⟩, 47) := ⟨⟨by decide +kernel, by decide +kernel⟩, lw_t6 (List.mem_of_getElem? (i := 11) rfl), lw_t7 (List.mem_of_getElem? (i := 124) rfl), lw_t7 (List.mem_of_getElem? (i := 125) rfl)⟩
theorem lw_p66 : lw_okq (⟨"FaceCoinsModel", "faceFalse", "(II)I"⟩, 47) := ⟨⟨by decide +kernel, by decide +kernel⟩, lw_t6 (List.mem_of_getElem? (i := 11) rfl), lw_t7 (List.mem_of_getElem? (i := 128) rfl), lw_t7 (List.mem_of_getElem? (i := 129) rfl)⟩
theorem lw_p67 : lw_okq (⟨"FaceCoinsModel", "luckOf", "()I"⟩, 47) := ⟨⟨by decide +kernel, by decide +kernel⟩, lw_t6 (List.mem_of_getElem? (i := 11) rfl), lw_t7 (List.mem_of_getElem? (i := 140) rfl), lw_t7 (List.mem_of_getElem? (i := 141) rfl)⟩
theorem lw_p68 : lw_okq (⟨"FaceCoinsModel", "hundredths", "(III)I"⟩, 47) := ⟨⟨by decide +kernel, by decide +kernel⟩, lw_t6 (List.mem_of_getElem? (i := 11) rfl), lw_t7 (List.mem_of_getElem? (i := 148) rfl), lw_t7 (List.mem_of_getElem? (i := 149) rfl)⟩
theorem lw_p69 : lw_okq (⟨"FaceCoinsModel", "valueOf", "(II)I"⟩, 47) := ⟨⟨by decide +kernel, by decide +kernel⟩, lw_t6 (List.mem_of_getElem? (i := 11) rfl), lw_t7 (List.mem_of_getElem? (i := 152) rfl), lw_t7 (List.mem_of_getElem? (i := 153) rfl)⟩
theorem lw_p70 : lw_okq (⟨"FaceCoinsModel", "areUnfit", "(II)Z"⟩, 47) := ⟨⟨by decide +kernel, by decide +kernel⟩, lw_t6 (List.mem_of_getElem? (i := 11) rfl), lw_t7 (List.mem_of_getElem? (i := 164) rfl), lw_t7 (List.mem_of_getElem? (i := 165) rfl)⟩
theorem lw_p71 : lw_okq (⟨"FaceCoinsModel", "wrongAt", "(II)I"⟩, 47) := ⟨⟨by decide +kernel, by decide +kernel⟩, lw_t6 (List.mem_of_getElem? (i := 11) rfl), lw_t7 (List.mem_of_getElem? (i := 168) rfl), lw_t7 (List.mem_of_getElem? (i := 169) rfl)⟩
theorem lw_p72 : lw_okq (⟨"FaceCoinsModel", "keepSale", "(IIIIII)V"⟩, 47) := ⟨⟨by decide +kernel, by decide +kernel⟩, lw_t6 (List.mem_of_getElem? (i := 11) rfl), lw_t7 (List.mem_of_getElem? (i := 172) rfl), lw_t7 (List.mem_of_getElem? (i := 173) rfl)⟩
theorem lw_p73 : lw_okq (⟨"FaceCoinsModel", "layPayment", "(IIII)I"⟩, 47) := ⟨⟨by decide +kernel, by decide +kernel⟩, lw_t6 (List.mem_of_getElem? (i := 11) rfl), lw_t7 (List.mem_of_getElem? (i := 188) rfl), lw_t7 (List.mem_of_getElem? (i := 189) rfl)⟩
theorem lw_p74 : lw_okq (⟨"FaceCoinsModel", "worthOf", "(IIIIII)I"⟩, 47) := ⟨⟨by decide +kernel, by decide +kernel⟩, lw_t6 (List.mem_of_getElem? (i := 11) rfl), lw_t7 (List.mem_of_getElem? (i := 192) rfl), lw_t7 (List.mem_of_getElem? (i := 193) rfl)⟩
theorem lw_p75 : lw_okq (⟨"FaceCoinsModel", "bestOf", "(II)I"⟩, 47) := ⟨⟨by decide +kernel, by decide +kernel⟩, lw_t6 (List.mem_of_getElem? (i := 11) rfl), lw_t7 (List.mem_of_getElem? (i := 197) rfl), lw_t7 (List.mem_of_getElem? (i := 198) rfl)⟩
theorem lw_p76 : lw_okq (⟨"FaceCoinsModel", "costOf", "(III)I"⟩, 47) := ⟨⟨by decide +kernel, by decide +kernel⟩, lw_t6 (List.mem_of_getElem? (i := 11) rfl), lw_t7 (List.mem_of_getElem? (i := 201) rfl), lw_t7 (List.mem_of_getElem? (i := 202) rfl)⟩
theorem lw_p77 : lw_okq (⟨"FaceCoinsModel", "tellPaid", "()V"⟩, 47) := ⟨⟨by decide +kernel, by decide +kernel⟩, lw_t6 (List.mem_of_getElem? (i := 11) rfl), lw_t7 (List.mem_of_getElem? (i := 205) rfl), lw_t7 (List.mem_of_getElem? (i := 206) rfl)⟩
theorem lw_p78 : lw_okq (⟨"FaceCoinsModel", "strokesToPay", "()I"⟩, 47) := ⟨⟨by decide +kernel, by decide +kernel⟩, lw_t6 (List.mem_of_getElem? (i := 11) rfl), lw_t7 (List.mem_of_getElem? (i := 217) rfl), lw_t7 (List.mem_of_getElem? (i := 218) rfl)⟩
theorem lw_p79 : lw_okq (⟨"FaceCoinsModel", "pay", "(IIII)V"⟩, 47) := ⟨⟨by decide +kernel, by decide +kernel⟩, lw_t6 (List.mem_of_getElem? (i := 11) rfl), lw_t7 (List.mem_of_getElem? (i := 221) rfl), lw_t7 (List.mem_of_getElem? (i := 222) rfl)⟩
def lw_privs_5 : List (MethodName × Nat) := [(⟨"FaceCoinsModel", "isCoin", "(I)Z"⟩, 47), (⟨"FaceCoinsModel", "showsFalse", "(I)I"⟩, 47), (⟨"FaceCoinsModel", "faceFalse", "(II)I"⟩, 47), (⟨"FaceCoinsModel", "luckOf", "()I"⟩, 47), (⟨"FaceCoinsModel", "hundredths", "(III)I"⟩, 47), (⟨"FaceCoinsModel", "valueOf", "(II)I"⟩, 47), (⟨"FaceCoinsModel", "areUnfit", "(II)Z"⟩, 47), (⟨"FaceCoinsModel", "wrongAt", "(II)I"⟩, 47), (⟨"FaceCoinsModel", "keepSale", "(IIIIII)V"⟩, 47), (⟨"FaceCoinsModel", "layPayment", "(IIII)I"⟩, 47), (⟨"FaceCoinsModel", "worthOf", "(IIIIII)I"⟩, 47), (⟨"FaceCoinsModel", "bestOf", "(II)I"⟩, 47), (⟨"FaceCoinsModel", "costOf", "(III)I"⟩, 47), (⟨"FaceCoinsModel", "tellPaid", "()V"⟩, 47), (⟨"FaceCoinsModel", "strokesToPay", "()I"⟩, 47), (⟨"FaceCoinsModel", "pay", "(IIII)V"⟩, 47)]
theorem lw_r5 : ∀ q ∈ lw_privs_5, lw_okq q := List.forall_mem_cons.mpr ⟨lw_p64, List.forall_mem_cons.mpr ⟨lw_p65, List.forall_mem_cons.mpr ⟨lw_p66, List.forall_mem_cons.mpr ⟨lw_p67, List.forall_mem_cons.mpr ⟨lw_p68, List.forall_mem_cons.mpr ⟨lw_p69, List.forall_mem_cons.mpr ⟨lw_p70, List.forall_mem_cons.mpr ⟨lw_p71, List.forall_mem_cons.mpr ⟨lw_p72, List.forall_mem_cons.mpr ⟨lw_p73, List.forall_mem_cons.mpr ⟨lw_p74, List.forall_mem_cons.mpr ⟨lw_p75, List.forall_mem_cons.mpr ⟨lw_p76, List.forall_mem_cons.mpr ⟨lw_p77, List.forall_mem_cons.mpr ⟨lw_p78, List.forall_mem_cons.mpr ⟨lw_p79, fun _ h => absurd h List.not_mem_nil⟩⟩⟩⟩⟩⟩⟩⟩⟩⟩⟩⟩⟩⟩⟩⟩
theorem lw_p80 : lw_okq (⟨"FaceCoinsModel", "giveBack", "()V"⟩, 47) := ⟨⟨by decide +kernel, by decide +kernel⟩, lw_t6 (List.mem_of_getElem? (i := 11) rfl), lw_t7 (List.mem_of_getElem? (i := 237) rfl), lw_t7 (List.mem_of_getElem? (i := 238) rfl)⟩
theorem lw_p81 : lw_okq (⟨"FaceCoinsModel", "isShown", "(I)I"⟩, 47) := ⟨⟨by decide +kernel, by decide +kernel⟩, lw_t6 (List.mem_of_getElem? (i := 11) rfl), lw_t8 (List.mem_of_getElem? (i := 21) rfl), lw_t8 (List.mem_of_getElem? (i := 22) rfl)⟩
theorem lw_p82 : lw_okq (⟨"FaceCoinsModel", "tryRows", "(IIII)V"⟩, 47) := ⟨⟨by decide +kernel, by decide +kernel⟩, lw_t6 (List.mem_of_getElem? (i := 11) rfl), lw_t8 (List.mem_of_getElem? (i := 38) rfl), lw_t8 (List.mem_of_getElem? (i := 39) rfl)⟩
theorem lw_p83 : lw_okq (⟨"FaceCoinsModel", "isLike", "(II)Z"⟩, 47) := ⟨⟨by decide +kernel, by decide +kernel⟩, lw_t6 (List.mem_of_getElem? (i := 11) rfl), lw_t8 (List.mem_of_getElem? (i := 42) rfl), lw_t8 (List.mem_of_getElem? (i := 43) rfl)⟩
theorem lw_p84 : lw_okq (⟨"FaceCoinsModel", "draw", "(I)I"⟩, 47) := ⟨⟨by decide +kernel, by decide +kernel⟩, lw_t6 (List.mem_of_getElem? (i := 11) rfl), lw_t8 (List.mem_of_getElem? (i := 54) rfl), lw_t8 (List.mem_of_getElem? (i := 55) rfl)⟩
theorem lw_p85 : lw_okq (⟨"FaceCoinsModel", "readOr", "()Z"⟩, 47) := ⟨⟨by decide +kernel, by decide +kernel⟩, lw_t6 (List.mem_of_getElem? (i := 11) rfl), lw_t8 (List.mem_of_getElem? (i := 67) rfl), lw_t8 (List.mem_of_getElem? (i := 68) rfl)⟩
theorem lw_p86 : lw_okq (⟨"FaceCoinsModel", "readAnd", "()Z"⟩, 47) := ⟨⟨by decide +kernel, by decide +kernel⟩, lw_t6 (List.mem_of_getElem? (i := 11) rfl), lw_t8 (List.mem_of_getElem? (i := 71) rfl), lw_t8 (List.mem_of_getElem? (i := 72) rfl)⟩
theorem lw_p87 : lw_okq (⟨"FaceCoinsModel", "readOne", "()Z"⟩, 47) := ⟨⟨by decide +kernel, by decide +kernel⟩, lw_t6 (List.mem_of_getElem? (i := 11) rfl), lw_t8 (List.mem_of_getElem? (i := 75) rfl), lw_t8 (List.mem_of_getElem? (i := 76) rfl)⟩
theorem lw_p88 : lw_okq (⟨"FaceCoinsModel", "readBracket", "()Z"⟩, 47) := ⟨⟨by decide +kernel, by decide +kernel⟩, lw_t6 (List.mem_of_getElem? (i := 11) rfl), lw_t8 (List.mem_of_getElem? (i := 79) rfl), lw_t8 (List.mem_of_getElem? (i := 80) rfl)⟩
theorem lw_p89 : lw_okq (⟨"FaceCoinsModel", "readNot", "()Z"⟩, 47) := ⟨⟨by decide +kernel, by decide +kernel⟩, lw_t6 (List.mem_of_getElem? (i := 11) rfl), lw_t8 (List.mem_of_getElem? (i := 83) rfl), lw_t8 (List.mem_of_getElem? (i := 84) rfl)⟩
theorem lw_p90 : lw_okq (⟨"FaceCoinsModel", "lays", "(IIII)I"⟩, 47) := ⟨⟨by decide +kernel, by decide +kernel⟩, lw_t6 (List.mem_of_getElem? (i := 11) rfl), lw_t8 (List.mem_of_getElem? (i := 87) rfl), lw_t8 (List.mem_of_getElem? (i := 88) rfl)⟩
theorem lw_p91 : lw_okq (⟨"FaceCoinsModel", "readNamed", "(I)Z"⟩, 47) := ⟨⟨by decide +kernel, by decide +kernel⟩, lw_t6 (List.mem_of_getElem? (i := 11) rfl), lw_t8 (List.mem_of_getElem? (i := 91) rfl), lw_t8 (List.mem_of_getElem? (i := 92) rfl)⟩
theorem lw_p92 : lw_okq (⟨"FaceCoinsModel", "readCompare", "(I)Z"⟩, 47) := ⟨⟨by decide +kernel, by decide +kernel⟩, lw_t6 (List.mem_of_getElem? (i := 11) rfl), lw_t8 (List.mem_of_getElem? (i := 95) rfl), lw_t8 (List.mem_of_getElem? (i := 96) rfl)⟩
theorem lw_p93 : lw_okq (⟨"FaceCoinsModel", "holds", "(II)Z"⟩, 47) := ⟨⟨by decide +kernel, by decide +kernel⟩, lw_t6 (List.mem_of_getElem? (i := 11) rfl), lw_t8 (List.mem_of_getElem? (i := 103) rfl), lw_t8 (List.mem_of_getElem? (i := 104) rfl)⟩
theorem lw_p94 : lw_okq (⟨"FaceCoinsModel", "shows", "(II)Z"⟩, 47) := ⟨⟨by decide +kernel, by decide +kernel⟩, lw_t6 (List.mem_of_getElem? (i := 11) rfl), lw_t8 (List.mem_of_getElem? (i := 107) rfl), lw_t8 (List.mem_of_getElem? (i := 108) rfl)⟩
def lw_privs_6 : List (MethodName × Nat) := [(⟨"FaceCoinsModel", "giveBack", "()V"⟩, 47), (⟨"FaceCoinsModel", "isShown", "(I)I"⟩, 47), (⟨"FaceCoinsModel", "tryRows", "(IIII)V"⟩, 47), (⟨"FaceCoinsModel", "isLike", "(II)Z"⟩, 47), (⟨"FaceCoinsModel", "draw", "(I)I"⟩, 47), (⟨"FaceCoinsModel", "readOr", "()Z"⟩, 47), (⟨"FaceCoinsModel", "readAnd", "()Z"⟩, 47), (⟨"FaceCoinsModel", "readOne", "()Z"⟩, 47), (⟨"FaceCoinsModel", "readBracket", "()Z"⟩, 47), (⟨"FaceCoinsModel", "readNot", "()Z"⟩, 47), (⟨"FaceCoinsModel", "lays", "(IIII)I"⟩, 47), (⟨"FaceCoinsModel", "readNamed", "(I)Z"⟩, 47), (⟨"FaceCoinsModel", "readCompare", "(I)Z"⟩, 47), (⟨"FaceCoinsModel", "holds", "(II)Z"⟩, 47), (⟨"FaceCoinsModel", "shows", "(II)Z"⟩, 47)]
theorem lw_r6 : ∀ q ∈ lw_privs_6, lw_okq q := List.forall_mem_cons.mpr ⟨lw_p80, List.forall_mem_cons.mpr ⟨lw_p81, List.forall_mem_cons.mpr ⟨lw_p82, List.forall_mem_cons.mpr ⟨lw_p83, List.forall_mem_cons.mpr ⟨lw_p84, List.forall_mem_cons.mpr ⟨lw_p85, List.forall_mem_cons.mpr ⟨lw_p86, List.forall_mem_cons.mpr ⟨lw_p87, List.forall_mem_cons.mpr ⟨lw_p88, List.forall_mem_cons.mpr ⟨lw_p89, List.forall_mem_cons.mpr ⟨lw_p90, List.forall_mem_cons.mpr ⟨lw_p91, List.forall_mem_cons.mpr ⟨lw_p92, List.forall_mem_cons.mpr ⟨lw_p93, List.forall_mem_cons.mpr ⟨lw_p94, fun _ h => absurd h List.not_mem_nil⟩⟩⟩⟩⟩⟩⟩⟩⟩⟩⟩⟩⟩⟩⟩
def lw_privs : List (MethodName × Nat) := lw_privs_1 ++ (lw_privs_2 ++ (lw_privs_3 ++ (lw_privs_4 ++ (lw_privs_5 ++ (lw_privs_6)))))
def lw_tbl : List Cond := k2_sels lw_privs ++ tables_1
theorem lw_privs_ok : ∀ q ∈ lw_privs, lw_okq q := by
  show ∀ q ∈ lw_privs_1 ++ (lw_privs_2 ++ (lw_privs_3 ++ (lw_privs_4 ++ (lw_privs_5 ++ (lw_privs_6))))), lw_okq q
  exact List.forall_mem_append.mpr ⟨lw_r1, List.forall_mem_append.mpr ⟨lw_r2, List.forall_mem_append.mpr ⟨lw_r3, List.forall_mem_append.mpr ⟨lw_r4, List.forall_mem_append.mpr ⟨lw_r5, lw_r6⟩⟩⟩⟩⟩
-- ===== ONE list of words for every method: the tables' words that hold all through a run =====
def lw_all : List Cond := lw_tbl.filter goodWord
/-- a word of the tables by its place: claim/WORDS.tsv -/
theorem lw_w {w : Cond} (i : Nat) (h : lw_tbl[i]? = some w) (g : goodWord w = true) : w ∈ lw_all := List.mem_filter.mpr ⟨List.mem_of_getElem? h, g⟩
theorem lw_all_tbl {w : Cond} (h : w ∈ lw_all) : w ∈ lw_tbl := (List.mem_filter.mp h).1
theorem lw_self : GoodIn lw_all lw_all := fun w h => ⟨h, good_of_word (List.mem_filter.mp h).2⟩
/-- a class's field words, by their places -/
theorem lw_in (ws : List Cond) (ps : List Nat) (hp : ws = ps.filterMap (fun i => lw_tbl[i]?)) (hg : ws.all goodWord = true) : ∀ w ∈ ws, w ∈ lw_all := by
  intro w h
  have h1 := List.all_eq_true.mp hg w h
  rw [hp] at h
  obtain ⟨i, -, hi⟩ := List.mem_filterMap.mp h
  exact lw_w i hi h1
/-- the words of a contract for the method y with code b, L locals, answer r -/
abbrev ws_ (y : MethodName) (b : ByteArray) (L : Nat) (r : Option FieldType) : List Cond := Cond.code y b L r :: lw_all
theorem lw_meth {y : MethodName} {b : ByteArray} {L : Nat} {r : Option FieldType} (h : Cond.code y b L r ∈ lw_all) : GoodIn lw_all (ws_ y b L r) := by
  intro w hw
  rcases List.mem_cons.mp hw with e | e
  · rw [e]
    exact lw_self _ h
  · exact lw_self _ e
theorem lw_app {a c : List Cond} (ha : ∀ w ∈ a, w ∈ lw_all) (hc : GoodIn lw_all c) : GoodIn lw_all (a ++ c) := by
  intro w hw
  rcases List.mem_append.mp hw with e | e
  · exact lw_self w (ha w e)
  · exact hc w e
/-- what a call through an object asks: cwV n hts (lw_V ..) -/
theorem lw_V {own : String} {idx : Nat} {C : String} {y : MethodName} {b : ByteArray} {L : Nat} {r : Option FieldType} (h1 : Cond.methodLink own idx y ∈ lw_all) (h2 : Cond.instanceMethod y ∈ lw_all) (h3 : Cond.selects C y y ∈ lw_all) (h4 : Cond.initialized C ∈ lw_all) (h5 : Cond.code y b L r ∈ lw_all) : GoodIn lw_all (wsV own idx C y (ws_ y b L r)) := by
  refine lw_app ?_ (lw_meth h5)
  intro w hw
  simp only [List.mem_cons, List.not_mem_nil, or_false] at hw
  rcases hw with e | e | e | e
  · rw [e]; exact h1
  · rw [e]; exact h2
  · rw [e]; exact h3
  · rw [e]; exact h4
/-- what a static call asks: va_cwS n hts (lw_S ..) -/
theorem lw_S {own : String} {idx : Nat} {y : MethodName} {b : ByteArray} {L : Nat} {r : Option FieldType} (h1 : Cond.methodLink own idx y ∈ lw_all) (h2 : Cond.static y ∈ lw_all) (h3 : Cond.initialized y.cls ∈ lw_all) (h4 : Cond.code y b L r ∈ lw_all) : GoodIn lw_all (va_wsS own idx y (ws_ y b L r)) := by
  refine lw_app ?_ (lw_meth h4)
  intro w hw
  simp only [List.mem_cons, List.not_mem_nil, or_false] at hw
  rcases hw with e | e | e
  · rw [e]; exact h1
  · rw [e]; exact h2
  · rw [e]; exact h3
/-- the words of a contract for a method WITH HANDLERS (hh: its table) -/
abbrev wsW_ (y : MethodName) (b : ByteArray) (L : Nat) (r : Option FieldType) (hh : List (Nat × Nat × Nat × Nat)) : List Cond := Cond.codeWith y b L r hh :: lw_all
theorem lw_methW {y : MethodName} {b : ByteArray} {L : Nat} {r : Option FieldType} {hh : List (Nat × Nat × Nat × Nat)} (h : Cond.codeWith y b L r hh ∈ lw_all) : GoodIn lw_all (wsW_ y b L r hh) := by
  intro w hw
  rcases List.mem_cons.mp hw with e | e
  · rw [e]
    exact lw_self _ h
  · exact lw_self _ e
/-- any list of words by their places (lw_in), good -/
theorem lw_good {ws : List Cond} (h : ∀ w ∈ ws, w ∈ lw_all) : GoodIn lw_all ws := fun w hw => lw_self w (h w hw)
/-- what a call of a method with handlers asks: vx_cwVW n hts (lw_VW ..), vx_cwSW n hts (lw_SW ..) -/
theorem lw_VW {own : String} {idx : Nat} {C : String} {y : MethodName} {b : ByteArray} {L : Nat} {r : Option FieldType} {hh : List (Nat × Nat × Nat × Nat)} (h1 : Cond.methodLink own idx y ∈ lw_all) (h2 : Cond.instanceMethod y ∈ lw_all) (h3 : Cond.selects C y y ∈ lw_all) (h4 : Cond.initialized C ∈ lw_all) (h5 : Cond.codeWith y b L r hh ∈ lw_all) : GoodIn lw_all (wsV own idx C y (wsW_ y b L r hh)) := by
  refine lw_app ?_ (lw_methW h5)
  intro w hw
  simp only [List.mem_cons, List.not_mem_nil, or_false] at hw
  rcases hw with e | e | e | e
  · rw [e]; exact h1
  · rw [e]; exact h2
  · rw [e]; exact h3
  · rw [e]; exact h4
theorem lw_SW {own : String} {idx : Nat} {y : MethodName} {b : ByteArray} {L : Nat} {r : Option FieldType} {hh : List (Nat × Nat × Nat × Nat)} (h1 : Cond.methodLink own idx y ∈ lw_all) (h2 : Cond.static y ∈ lw_all) (h3 : Cond.initialized y.cls ∈ lw_all) (h4 : Cond.codeWith y b L r hh ∈ lw_all) : GoodIn lw_all (va_wsS own idx y (wsW_ y b L r hh)) := by
  refine lw_app ?_ (lw_methW h4)
  intro w hw
  simp only [List.mem_cons, List.not_mem_nil, or_false] at hw
  rcases hw with e | e | e
  · rw [e]; exact h1
  · rw [e]; exact h2
  · rw [e]; exact h3
/-- a word by its place in its run of the tables -/
theorem lw_at {r : List Cond} (hr : ∀ w ∈ r, w ∈ lw_tbl) {w : Cond} (i : Nat) (h : r[i]? = some w) : w ∈ lw_tbl := hr w (List.mem_of_getElem? h)
theorem lw_g {w : Cond} (h : w ∈ lw_tbl) (g : goodWord w = true) : w ∈ lw_all := List.mem_filter.mpr ⟨h, g⟩
theorem lw_ms : ∀ w ∈ k2_sels lw_privs, w ∈ lw_tbl := fun w h => show w ∈ k2_sels lw_privs ++ tables_1 from List.mem_append_left _ h
theorem lw_m1 : ∀ w ∈ tables_1_1, w ∈ lw_tbl := fun w h => show w ∈ k2_sels lw_privs ++ tables_1 from List.mem_append_right (k2_sels lw_privs) (show w ∈ tables_1 from List.mem_append_left _ h)
theorem lw_m2 : ∀ w ∈ tables_1_2, w ∈ lw_tbl := fun w h => show w ∈ k2_sels lw_privs ++ tables_1 from List.mem_append_right (k2_sels lw_privs) (show w ∈ tables_1 from List.mem_append_right _ (List.mem_append_left _ h))
theorem lw_m3 : ∀ w ∈ tables_1_3, w ∈ lw_tbl := fun w h => show w ∈ k2_sels lw_privs ++ tables_1 from List.mem_append_right (k2_sels lw_privs) (show w ∈ tables_1 from List.mem_append_right _ (List.mem_append_right _ (List.mem_append_left _ h)))
theorem lw_m4 : ∀ w ∈ tables_1_4, w ∈ lw_tbl := fun w h => show w ∈ k2_sels lw_privs ++ tables_1 from List.mem_append_right (k2_sels lw_privs) (show w ∈ tables_1 from List.mem_append_right _ (List.mem_append_right _ (List.mem_append_right _ (List.mem_append_left _ h))))
theorem lw_m5 : ∀ w ∈ tables_1_5, w ∈ lw_tbl := fun w h => show w ∈ k2_sels lw_privs ++ tables_1 from List.mem_append_right (k2_sels lw_privs) (show w ∈ tables_1 from List.mem_append_right _ (List.mem_append_right _ (List.mem_append_right _ (List.mem_append_right _ (List.mem_append_left _ h)))))
theorem lw_m6 : ∀ w ∈ tables_1_6, w ∈ lw_tbl := fun w h => show w ∈ k2_sels lw_privs ++ tables_1 from List.mem_append_right (k2_sels lw_privs) (show w ∈ tables_1 from List.mem_append_right _ (List.mem_append_right _ (List.mem_append_right _ (List.mem_append_right _ (List.mem_append_right _ (List.mem_append_left _ h))))))
theorem lw_m7 : ∀ w ∈ tables_1_7, w ∈ lw_tbl := fun w h => show w ∈ k2_sels lw_privs ++ tables_1 from List.mem_append_right (k2_sels lw_privs) (show w ∈ tables_1 from List.mem_append_right _ (List.mem_append_right _ (List.mem_append_right _ (List.mem_append_right _ (List.mem_append_right _ (List.mem_append_right _ (List.mem_append_left _ h)))))))
theorem lw_m8 : ∀ w ∈ tables_1_8, w ∈ lw_tbl := fun w h => show w ∈ k2_sels lw_privs ++ tables_1 from List.mem_append_right (k2_sels lw_privs) (show w ∈ tables_1 from List.mem_append_right _ (List.mem_append_right _ (List.mem_append_right _ (List.mem_append_right _ (List.mem_append_right _ (List.mem_append_right _ (List.mem_append_right _ h)))))))
theorem qs0 : (Cond.selects "java/lang/Throwable" ⟨"java/lang/Throwable", "fillInStackTrace", "(I)Ljava/lang/Throwable;"⟩ ⟨"java/lang/Throwable", "fillInStackTrace", "(I)Ljava/lang/Throwable;"⟩) ∈ lw_all := lw_g (lw_at lw_ms 0 rfl) rfl
theorem qs1 : (Cond.selects "FaceCoins" ⟨"FaceCoins", "four", "(I)V"⟩ ⟨"FaceCoins", "four", "(I)V"⟩) ∈ lw_all := lw_g (lw_at lw_ms 1 rfl) rfl
theorem qs2 : (Cond.selects "FaceCoins" ⟨"FaceCoins", "taken", "()V"⟩ ⟨"FaceCoins", "taken", "()V"⟩) ∈ lw_all := lw_g (lw_at lw_ms 2 rfl) rfl
theorem qs3 : (Cond.selects "FaceCoins$LawReader" ⟨"FaceCoins$LawReader", "line", "(I)V"⟩ ⟨"FaceCoins$LawReader", "line", "(I)V"⟩) ∈ lw_all := lw_g (lw_at lw_ms 3 rfl) rfl
theorem qs4 : (Cond.selects "FaceCoins$LawReader" ⟨"FaceCoins$LawReader", "fresh", "()J"⟩ ⟨"FaceCoins$LawReader", "fresh", "()J"⟩) ∈ lw_all := lw_g (lw_at lw_ms 4 rfl) rfl
theorem qs5 : (Cond.selects "FaceCoins$LawReader" ⟨"FaceCoins$LawReader", "takes", "(Ljava/lang/String;)Z"⟩ ⟨"FaceCoins$LawReader", "takes", "(Ljava/lang/String;)Z"⟩) ∈ lw_all := lw_g (lw_at lw_ms 5 rfl) rfl
theorem qs6 : (Cond.selects "FaceCoins" ⟨"FaceCoins", "isLiving", "(I)Z"⟩ ⟨"FaceCoins", "isLiving", "(I)Z"⟩) ∈ lw_all := lw_g (lw_at lw_ms 6 rfl) rfl
theorem qs7 : (Cond.selects "FaceCoins" ⟨"FaceCoins", "isWho", "(I)Z"⟩ ⟨"FaceCoins", "isWho", "(I)Z"⟩) ∈ lw_all := lw_g (lw_at lw_ms 7 rfl) rfl
theorem qs8 : (Cond.selects "FaceCoins" ⟨"FaceCoins", "isMint", "(I)Z"⟩ ⟨"FaceCoins", "isMint", "(I)Z"⟩) ∈ lw_all := lw_g (lw_at lw_ms 8 rfl) rfl
theorem qs9 : (Cond.selects "FaceCoins" ⟨"FaceCoins", "keep", "()V"⟩ ⟨"FaceCoins", "keep", "()V"⟩) ∈ lw_all := lw_g (lw_at lw_ms 9 rfl) rfl
theorem qs10 : (Cond.selects "FaceCoins" ⟨"FaceCoins", "isCoin", "(I)Z"⟩ ⟨"FaceCoins", "isCoin", "(I)Z"⟩) ∈ lw_all := lw_g (lw_at lw_ms 10 rfl) rfl
theorem qs11 : (Cond.selects "FaceCoins" ⟨"FaceCoins", "areCoins", "()Z"⟩ ⟨"FaceCoins", "areCoins", "()Z"⟩) ∈ lw_all := lw_g (lw_at lw_ms 11 rfl) rfl
theorem qs12 : (Cond.selects "FaceCoins" ⟨"FaceCoins", "one", "(I)I"⟩ ⟨"FaceCoins", "one", "(I)I"⟩) ∈ lw_all := lw_g (lw_at lw_ms 12 rfl) rfl
theorem qs13 : (Cond.selects "FaceCoins" ⟨"FaceCoins", "sell", "(IIIIII)I"⟩ ⟨"FaceCoins", "sell", "(IIIIII)I"⟩) ∈ lw_all := lw_g (lw_at lw_ms 13 rfl) rfl
theorem qs14 : (Cond.selects "FaceCoins" ⟨"FaceCoins", "passes", "(IIII)V"⟩ ⟨"FaceCoins", "passes", "(IIII)V"⟩) ∈ lw_all := lw_g (lw_at lw_ms 14 rfl) rfl
theorem qs15 : (Cond.selects "FaceCoins" ⟨"FaceCoins", "isPayment", "(IIII)Z"⟩ ⟨"FaceCoins", "isPayment", "(IIII)Z"⟩) ∈ lw_all := lw_g (lw_at lw_ms 15 rfl) rfl
theorem qs16 : (Cond.selects "FaceCoins" ⟨"FaceCoins", "finds", "(IIII)Z"⟩ ⟨"FaceCoins", "finds", "(IIII)Z"⟩) ∈ lw_all := lw_g (lw_at lw_ms 16 rfl) rfl
theorem qs17 : (Cond.selects "FaceCoins" ⟨"FaceCoins", "worthOf", "(IIIIII)I"⟩ ⟨"FaceCoins", "worthOf", "(IIIIII)I"⟩) ∈ lw_all := lw_g (lw_at lw_ms 17 rfl) rfl
theorem qs18 : (Cond.selects "FaceCoins" ⟨"FaceCoins", "cost", "(I)I"⟩ ⟨"FaceCoins", "cost", "(I)I"⟩) ∈ lw_all := lw_g (lw_at lw_ms 18 rfl) rfl
theorem qs19 : (Cond.selects "FaceCoins" ⟨"FaceCoins", "optionOf", "(II)I"⟩ ⟨"FaceCoins", "optionOf", "(II)I"⟩) ∈ lw_all := lw_g (lw_at lw_ms 19 rfl) rfl
theorem qs20 : (Cond.selects "FaceCoins" ⟨"FaceCoins", "hasRoom", "()Z"⟩ ⟨"FaceCoins", "hasRoom", "()Z"⟩) ∈ lw_all := lw_g (lw_at lw_ms 20 rfl) rfl
theorem qs21 : (Cond.selects "FaceCoins" ⟨"FaceCoins", "pays", "(IIII)V"⟩ ⟨"FaceCoins", "pays", "(IIII)V"⟩) ∈ lw_all := lw_g (lw_at lw_ms 21 rfl) rfl
theorem qs22 : (Cond.selects "FaceCoins" ⟨"FaceCoins", "rowsFrom", "(IIII)I"⟩ ⟨"FaceCoins", "rowsFrom", "(IIII)I"⟩) ∈ lw_all := lw_g (lw_at lw_ms 22 rfl) rfl
theorem qs23 : (Cond.selects "FaceCoins" ⟨"FaceCoins", "looks", "(III)Z"⟩ ⟨"FaceCoins", "looks", "(III)Z"⟩) ∈ lw_all := lw_g (lw_at lw_ms 23 rfl) rfl
theorem qs24 : (Cond.selects "FaceCoins" ⟨"FaceCoins", "draw", "(I)I"⟩ ⟨"FaceCoins", "draw", "(I)I"⟩) ∈ lw_all := lw_g (lw_at lw_ms 24 rfl) rfl
theorem qs25 : (Cond.selects "FaceCoins$SentenceReader" ⟨"FaceCoins$SentenceReader", "any", "(I)LFaceCoins$Cond;"⟩ ⟨"FaceCoins$SentenceReader", "any", "(I)LFaceCoins$Cond;"⟩) ∈ lw_all := lw_g (lw_at lw_ms 25 rfl) rfl
theorem qs26 : (Cond.selects "FaceCoins$SentenceReader" ⟨"FaceCoins$SentenceReader", "both", "(I)LFaceCoins$Cond;"⟩ ⟨"FaceCoins$SentenceReader", "both", "(I)LFaceCoins$Cond;"⟩) ∈ lw_all := lw_g (lw_at lw_ms 26 rfl) rfl
theorem qs27 : (Cond.selects "FaceCoins$SentenceReader" ⟨"FaceCoins$SentenceReader", "single", "(I)LFaceCoins$Cond;"⟩ ⟨"FaceCoins$SentenceReader", "single", "(I)LFaceCoins$Cond;"⟩) ∈ lw_all := lw_g (lw_at lw_ms 27 rfl) rfl
theorem qs28 : (Cond.selects "FaceCoins" ⟨"FaceCoins", "isShown", "(I)Z"⟩ ⟨"FaceCoins", "isShown", "(I)Z"⟩) ∈ lw_all := lw_g (lw_at lw_ms 28 rfl) rfl
theorem qs29 : (Cond.selects "FaceCoinsModel" ⟨"FaceCoinsModel", "come", "(I)V"⟩ ⟨"FaceCoinsModel", "come", "(I)V"⟩) ∈ lw_all := lw_g (lw_at lw_ms 29 rfl) rfl
theorem qs30 : (Cond.selects "FaceCoinsModel" ⟨"FaceCoinsModel", "begin", "(I)V"⟩ ⟨"FaceCoinsModel", "begin", "(I)V"⟩) ∈ lw_all := lw_g (lw_at lw_ms 30 rfl) rfl
theorem qs31 : (Cond.selects "FaceCoinsModel" ⟨"FaceCoinsModel", "lay", "()V"⟩ ⟨"FaceCoinsModel", "lay", "()V"⟩) ∈ lw_all := lw_g (lw_at lw_ms 31 rfl) rfl
theorem qs32 : (Cond.selects "FaceCoinsModel" ⟨"FaceCoinsModel", "plain", "([I)V"⟩ ⟨"FaceCoinsModel", "plain", "([I)V"⟩) ∈ lw_all := lw_g (lw_at lw_ms 32 rfl) rfl
theorem qs33 : (Cond.selects "FaceCoinsModel" ⟨"FaceCoinsModel", "take", "()I"⟩ ⟨"FaceCoinsModel", "take", "()I"⟩) ∈ lw_all := lw_g (lw_at lw_ms 33 rfl) rfl
theorem qs34 : (Cond.selects "FaceCoinsModel" ⟨"FaceCoinsModel", "go", "()V"⟩ ⟨"FaceCoinsModel", "go", "()V"⟩) ∈ lw_all := lw_g (lw_at lw_ms 34 rfl) rfl
theorem qs35 : (Cond.selects "FaceCoinsModel" ⟨"FaceCoinsModel", "byteAt", "(I)I"⟩ ⟨"FaceCoinsModel", "byteAt", "(I)I"⟩) ∈ lw_all := lw_g (lw_at lw_ms 35 rfl) rfl
theorem qs36 : (Cond.selects "FaceCoinsModel" ⟨"FaceCoinsModel", "readLine", "()Z"⟩ ⟨"FaceCoinsModel", "readLine", "()Z"⟩) ∈ lw_all := lw_g (lw_at lw_ms 36 rfl) rfl
theorem qs37 : (Cond.selects "FaceCoinsModel" ⟨"FaceCoinsModel", "isWord", "(I)Z"⟩ ⟨"FaceCoinsModel", "isWord", "(I)Z"⟩) ∈ lw_all := lw_g (lw_at lw_ms 37 rfl) rfl
theorem qs38 : (Cond.selects "FaceCoinsModel" ⟨"FaceCoinsModel", "readWho", "()Z"⟩ ⟨"FaceCoinsModel", "readWho", "()Z"⟩) ∈ lw_all := lw_g (lw_at lw_ms 38 rfl) rfl
theorem qs39 : (Cond.selects "FaceCoinsModel" ⟨"FaceCoinsModel", "bad", "(I)Z"⟩ ⟨"FaceCoinsModel", "bad", "(I)Z"⟩) ∈ lw_all := lw_g (lw_at lw_ms 39 rfl) rfl
theorem qs40 : (Cond.selects "FaceCoinsModel" ⟨"FaceCoinsModel", "readNew", "(I)Z"⟩ ⟨"FaceCoinsModel", "readNew", "(I)Z"⟩) ∈ lw_all := lw_g (lw_at lw_ms 40 rfl) rfl
theorem qs41 : (Cond.selects "FaceCoinsModel" ⟨"FaceCoinsModel", "isName", "()Z"⟩ ⟨"FaceCoinsModel", "isName", "()Z"⟩) ∈ lw_all := lw_g (lw_at lw_ms 41 rfl) rfl
theorem qs42 : (Cond.selects "FaceCoinsModel" ⟨"FaceCoinsModel", "findIn", "([JII)I"⟩ ⟨"FaceCoinsModel", "findIn", "([JII)I"⟩) ∈ lw_all := lw_g (lw_at lw_ms 42 rfl) rfl
theorem qs43 : (Cond.selects "FaceCoinsModel" ⟨"FaceCoinsModel", "readMint", "()Z"⟩ ⟨"FaceCoinsModel", "readMint", "()Z"⟩) ∈ lw_all := lw_g (lw_at lw_ms 43 rfl) rfl
theorem qs44 : (Cond.selects "FaceCoinsModel" ⟨"FaceCoinsModel", "readNumber", "(II)Z"⟩ ⟨"FaceCoinsModel", "readNumber", "(II)Z"⟩) ∈ lw_all := lw_g (lw_at lw_ms 44 rfl) rfl
theorem qs45 : (Cond.selects "FaceCoinsModel" ⟨"FaceCoinsModel", "readTakes", "()Z"⟩ ⟨"FaceCoinsModel", "readTakes", "()Z"⟩) ∈ lw_all := lw_g (lw_at lw_ms 45 rfl) rfl
theorem qs46 : (Cond.selects "FaceCoinsModel" ⟨"FaceCoinsModel", "readWhoTold", "()Z"⟩ ⟨"FaceCoinsModel", "readWhoTold", "()Z"⟩) ∈ lw_all := lw_g (lw_at lw_ms 46 rfl) rfl
theorem qs47 : (Cond.selects "FaceCoinsModel" ⟨"FaceCoinsModel", "readOnce", "(IIII)Z"⟩ ⟨"FaceCoinsModel", "readOnce", "(IIII)Z"⟩) ∈ lw_all := lw_g (lw_at lw_ms 47 rfl) rfl
theorem qs48 : (Cond.selects "FaceCoinsModel" ⟨"FaceCoinsModel", "readEnd", "()Z"⟩ ⟨"FaceCoinsModel", "readEnd", "()Z"⟩) ∈ lw_all := lw_g (lw_at lw_ms 48 rfl) rfl
theorem qs49 : (Cond.selects "FaceCoinsModel" ⟨"FaceCoinsModel", "isSign", "(I)Z"⟩ ⟨"FaceCoinsModel", "isSign", "(I)Z"⟩) ∈ lw_all := lw_g (lw_at lw_ms 49 rfl) rfl
theorem qs50 : (Cond.selects "FaceCoinsModel" ⟨"FaceCoinsModel", "isWho", "(I)Z"⟩ ⟨"FaceCoinsModel", "isWho", "(I)Z"⟩) ∈ lw_all := lw_g (lw_at lw_ms 50 rfl) rfl
theorem qs51 : (Cond.selects "FaceCoinsModel" ⟨"FaceCoinsModel", "people", "()I"⟩ ⟨"FaceCoinsModel", "people", "()I"⟩) ∈ lw_all := lw_g (lw_at lw_ms 51 rfl) rfl
theorem qs52 : (Cond.selects "FaceCoinsModel" ⟨"FaceCoinsModel", "refuse", "()I"⟩ ⟨"FaceCoinsModel", "refuse", "()I"⟩) ∈ lw_all := lw_g (lw_at lw_ms 52 rfl) rfl
theorem qs53 : (Cond.selects "FaceCoinsModel" ⟨"FaceCoinsModel", "ofWho", "(II)I"⟩ ⟨"FaceCoinsModel", "ofWho", "(II)I"⟩) ∈ lw_all := lw_g (lw_at lw_ms 53 rfl) rfl
theorem qs54 : (Cond.selects "FaceCoinsModel" ⟨"FaceCoinsModel", "coins", "()I"⟩ ⟨"FaceCoinsModel", "coins", "()I"⟩) ∈ lw_all := lw_g (lw_at lw_ms 54 rfl) rfl
theorem qs55 : (Cond.selects "FaceCoinsModel" ⟨"FaceCoinsModel", "topOf", "(I)I"⟩ ⟨"FaceCoinsModel", "topOf", "(I)I"⟩) ∈ lw_all := lw_g (lw_at lw_ms 55 rfl) rfl
theorem qs56 : (Cond.selects "FaceCoinsModel" ⟨"FaceCoinsModel", "ofCoin", "(II)I"⟩ ⟨"FaceCoinsModel", "ofCoin", "(II)I"⟩) ∈ lw_all := lw_g (lw_at lw_ms 56 rfl) rfl
theorem qs57 : (Cond.selects "FaceCoinsModel" ⟨"FaceCoinsModel", "isMint", "(I)Z"⟩ ⟨"FaceCoinsModel", "isMint", "(I)Z"⟩) ∈ lw_all := lw_g (lw_at lw_ms 57 rfl) rfl
theorem qs58 : (Cond.selects "FaceCoinsModel" ⟨"FaceCoinsModel", "mints", "()I"⟩ ⟨"FaceCoinsModel", "mints", "()I"⟩) ∈ lw_all := lw_g (lw_at lw_ms 58 rfl) rfl
theorem qs59 : (Cond.selects "FaceCoinsModel" ⟨"FaceCoinsModel", "ofMint", "(II)I"⟩ ⟨"FaceCoinsModel", "ofMint", "(II)I"⟩) ∈ lw_all := lw_g (lw_at lw_ms 59 rfl) rfl
theorem qs60 : (Cond.selects "FaceCoinsModel" ⟨"FaceCoinsModel", "isFull", "(I)Z"⟩ ⟨"FaceCoinsModel", "isFull", "(I)Z"⟩) ∈ lw_all := lw_g (lw_at lw_ms 60 rfl) rfl
theorem qs61 : (Cond.selects "FaceCoinsModel" ⟨"FaceCoinsModel", "wrongStroke", "(III)I"⟩ ⟨"FaceCoinsModel", "wrongStroke", "(III)I"⟩) ∈ lw_all := lw_g (lw_at lw_ms 61 rfl) rfl
theorem qs62 : (Cond.selects "FaceCoinsModel" ⟨"FaceCoinsModel", "snap", "()V"⟩ ⟨"FaceCoinsModel", "snap", "()V"⟩) ∈ lw_all := lw_g (lw_at lw_ms 62 rfl) rfl
theorem qs63 : (Cond.selects "FaceCoinsModel" ⟨"FaceCoinsModel", "strike", "(IIIII)V"⟩ ⟨"FaceCoinsModel", "strike", "(IIIII)V"⟩) ∈ lw_all := lw_g (lw_at lw_ms 63 rfl) rfl
theorem qs64 : (Cond.selects "FaceCoinsModel" ⟨"FaceCoinsModel", "isCoin", "(I)Z"⟩ ⟨"FaceCoinsModel", "isCoin", "(I)Z"⟩) ∈ lw_all := lw_g (lw_at lw_ms 64 rfl) rfl
theorem qs65 : (Cond.selects "FaceCoinsModel" ⟨"FaceCoinsModel", "showsFalse", "(I)I"⟩ ⟨"FaceCoinsModel", "showsFalse", "(I)I"⟩) ∈ lw_all := lw_g (lw_at lw_ms 65 rfl) rfl
theorem qs66 : (Cond.selects "FaceCoinsModel" ⟨"FaceCoinsModel", "faceFalse", "(II)I"⟩ ⟨"FaceCoinsModel", "faceFalse", "(II)I"⟩) ∈ lw_all := lw_g (lw_at lw_ms 66 rfl) rfl
theorem qs67 : (Cond.selects "FaceCoinsModel" ⟨"FaceCoinsModel", "luckOf", "()I"⟩ ⟨"FaceCoinsModel", "luckOf", "()I"⟩) ∈ lw_all := lw_g (lw_at lw_ms 67 rfl) rfl
theorem qs68 : (Cond.selects "FaceCoinsModel" ⟨"FaceCoinsModel", "hundredths", "(III)I"⟩ ⟨"FaceCoinsModel", "hundredths", "(III)I"⟩) ∈ lw_all := lw_g (lw_at lw_ms 68 rfl) rfl
theorem qs69 : (Cond.selects "FaceCoinsModel" ⟨"FaceCoinsModel", "valueOf", "(II)I"⟩ ⟨"FaceCoinsModel", "valueOf", "(II)I"⟩) ∈ lw_all := lw_g (lw_at lw_ms 69 rfl) rfl
theorem qs70 : (Cond.selects "FaceCoinsModel" ⟨"FaceCoinsModel", "areUnfit", "(II)Z"⟩ ⟨"FaceCoinsModel", "areUnfit", "(II)Z"⟩) ∈ lw_all := lw_g (lw_at lw_ms 70 rfl) rfl
theorem qs71 : (Cond.selects "FaceCoinsModel" ⟨"FaceCoinsModel", "wrongAt", "(II)I"⟩ ⟨"FaceCoinsModel", "wrongAt", "(II)I"⟩) ∈ lw_all := lw_g (lw_at lw_ms 71 rfl) rfl
theorem qs72 : (Cond.selects "FaceCoinsModel" ⟨"FaceCoinsModel", "keepSale", "(IIIIII)V"⟩ ⟨"FaceCoinsModel", "keepSale", "(IIIIII)V"⟩) ∈ lw_all := lw_g (lw_at lw_ms 72 rfl) rfl
theorem qs73 : (Cond.selects "FaceCoinsModel" ⟨"FaceCoinsModel", "layPayment", "(IIII)I"⟩ ⟨"FaceCoinsModel", "layPayment", "(IIII)I"⟩) ∈ lw_all := lw_g (lw_at lw_ms 73 rfl) rfl
theorem qs74 : (Cond.selects "FaceCoinsModel" ⟨"FaceCoinsModel", "worthOf", "(IIIIII)I"⟩ ⟨"FaceCoinsModel", "worthOf", "(IIIIII)I"⟩) ∈ lw_all := lw_g (lw_at lw_ms 74 rfl) rfl
theorem qs75 : (Cond.selects "FaceCoinsModel" ⟨"FaceCoinsModel", "bestOf", "(II)I"⟩ ⟨"FaceCoinsModel", "bestOf", "(II)I"⟩) ∈ lw_all := lw_g (lw_at lw_ms 75 rfl) rfl
theorem qs76 : (Cond.selects "FaceCoinsModel" ⟨"FaceCoinsModel", "costOf", "(III)I"⟩ ⟨"FaceCoinsModel", "costOf", "(III)I"⟩) ∈ lw_all := lw_g (lw_at lw_ms 76 rfl) rfl
theorem qs77 : (Cond.selects "FaceCoinsModel" ⟨"FaceCoinsModel", "tellPaid", "()V"⟩ ⟨"FaceCoinsModel", "tellPaid", "()V"⟩) ∈ lw_all := lw_g (lw_at lw_ms 77 rfl) rfl
theorem qs78 : (Cond.selects "FaceCoinsModel" ⟨"FaceCoinsModel", "strokesToPay", "()I"⟩ ⟨"FaceCoinsModel", "strokesToPay", "()I"⟩) ∈ lw_all := lw_g (lw_at lw_ms 78 rfl) rfl
theorem qs79 : (Cond.selects "FaceCoinsModel" ⟨"FaceCoinsModel", "pay", "(IIII)V"⟩ ⟨"FaceCoinsModel", "pay", "(IIII)V"⟩) ∈ lw_all := lw_g (lw_at lw_ms 79 rfl) rfl
theorem qs80 : (Cond.selects "FaceCoinsModel" ⟨"FaceCoinsModel", "giveBack", "()V"⟩ ⟨"FaceCoinsModel", "giveBack", "()V"⟩) ∈ lw_all := lw_g (lw_at lw_ms 80 rfl) rfl
theorem qs81 : (Cond.selects "FaceCoinsModel" ⟨"FaceCoinsModel", "isShown", "(I)I"⟩ ⟨"FaceCoinsModel", "isShown", "(I)I"⟩) ∈ lw_all := lw_g (lw_at lw_ms 81 rfl) rfl
theorem qs82 : (Cond.selects "FaceCoinsModel" ⟨"FaceCoinsModel", "tryRows", "(IIII)V"⟩ ⟨"FaceCoinsModel", "tryRows", "(IIII)V"⟩) ∈ lw_all := lw_g (lw_at lw_ms 82 rfl) rfl
theorem qs83 : (Cond.selects "FaceCoinsModel" ⟨"FaceCoinsModel", "isLike", "(II)Z"⟩ ⟨"FaceCoinsModel", "isLike", "(II)Z"⟩) ∈ lw_all := lw_g (lw_at lw_ms 83 rfl) rfl
theorem qs84 : (Cond.selects "FaceCoinsModel" ⟨"FaceCoinsModel", "draw", "(I)I"⟩ ⟨"FaceCoinsModel", "draw", "(I)I"⟩) ∈ lw_all := lw_g (lw_at lw_ms 84 rfl) rfl
theorem qs85 : (Cond.selects "FaceCoinsModel" ⟨"FaceCoinsModel", "readOr", "()Z"⟩ ⟨"FaceCoinsModel", "readOr", "()Z"⟩) ∈ lw_all := lw_g (lw_at lw_ms 85 rfl) rfl
theorem qs86 : (Cond.selects "FaceCoinsModel" ⟨"FaceCoinsModel", "readAnd", "()Z"⟩ ⟨"FaceCoinsModel", "readAnd", "()Z"⟩) ∈ lw_all := lw_g (lw_at lw_ms 86 rfl) rfl
theorem qs87 : (Cond.selects "FaceCoinsModel" ⟨"FaceCoinsModel", "readOne", "()Z"⟩ ⟨"FaceCoinsModel", "readOne", "()Z"⟩) ∈ lw_all := lw_g (lw_at lw_ms 87 rfl) rfl
theorem qs88 : (Cond.selects "FaceCoinsModel" ⟨"FaceCoinsModel", "readBracket", "()Z"⟩ ⟨"FaceCoinsModel", "readBracket", "()Z"⟩) ∈ lw_all := lw_g (lw_at lw_ms 88 rfl) rfl
theorem qs89 : (Cond.selects "FaceCoinsModel" ⟨"FaceCoinsModel", "readNot", "()Z"⟩ ⟨"FaceCoinsModel", "readNot", "()Z"⟩) ∈ lw_all := lw_g (lw_at lw_ms 89 rfl) rfl
theorem qs90 : (Cond.selects "FaceCoinsModel" ⟨"FaceCoinsModel", "lays", "(IIII)I"⟩ ⟨"FaceCoinsModel", "lays", "(IIII)I"⟩) ∈ lw_all := lw_g (lw_at lw_ms 90 rfl) rfl
theorem qs91 : (Cond.selects "FaceCoinsModel" ⟨"FaceCoinsModel", "readNamed", "(I)Z"⟩ ⟨"FaceCoinsModel", "readNamed", "(I)Z"⟩) ∈ lw_all := lw_g (lw_at lw_ms 91 rfl) rfl
theorem qs92 : (Cond.selects "FaceCoinsModel" ⟨"FaceCoinsModel", "readCompare", "(I)Z"⟩ ⟨"FaceCoinsModel", "readCompare", "(I)Z"⟩) ∈ lw_all := lw_g (lw_at lw_ms 92 rfl) rfl
theorem qs93 : (Cond.selects "FaceCoinsModel" ⟨"FaceCoinsModel", "holds", "(II)Z"⟩ ⟨"FaceCoinsModel", "holds", "(II)Z"⟩) ∈ lw_all := lw_g (lw_at lw_ms 93 rfl) rfl
theorem qs94 : (Cond.selects "FaceCoinsModel" ⟨"FaceCoinsModel", "shows", "(II)Z"⟩ ⟨"FaceCoinsModel", "shows", "(II)Z"⟩) ∈ lw_all := lw_g (lw_at lw_ms 94 rfl) rfl
-- ===== end of PART A; then your names; then what follows =====
