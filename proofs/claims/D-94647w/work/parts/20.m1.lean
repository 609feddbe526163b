/-! printed by wip/gen/emit.py: functions of the bytecode, and their contracts -/
set_option maxRecDepth 100000
theorem fg_14_0 : ∀ n ∈ [14], (1 ≤ n ∧ n < 17 ∧ 0 < xN n) ∧ xT n 0 = ("FaceCoinsModel", "thrown", "I", false) ∧ xkt (xty n 0) = 0 := List.forall_mem_cons.mpr ⟨⟨by decide, rfl, rfl⟩, fun _ h => absurd h List.not_mem_nil⟩
theorem fp_14_0 : ∀ n ∈ [14], (1 ≤ n ∧ n < 17 ∧ 0 < xN n) ∧ xT n 0 = ("FaceCoinsModel", "thrown", "I", false) ∧ (xty n 0 = .int) := List.forall_mem_cons.mpr ⟨⟨by decide, rfl, rfl⟩, fun _ h => absurd h List.not_mem_nil⟩
theorem fg_14_1 : ∀ n ∈ [14], (1 ≤ n ∧ n < 17 ∧ 1 < xN n) ∧ xT n 1 = ("FaceCoinsModel", "tape", "[I", true) ∧ xkt (xty n 1) = 2 := List.forall_mem_cons.mpr ⟨⟨by decide, rfl, rfl⟩, fun _ h => absurd h List.not_mem_nil⟩
theorem fp_14_1 : ∀ n ∈ [14], (1 ≤ n ∧ n < 17 ∧ 1 < xN n) ∧ xT n 1 = ("FaceCoinsModel", "tape", "[I", true) ∧ ((∃ C9, xty n 1 = .object C9) ∨ ∃ t9, xty n 1 = .array t9) := List.forall_mem_cons.mpr ⟨⟨by decide, rfl, Or.inr ⟨_, rfl⟩⟩, fun _ h => absurd h List.not_mem_nil⟩
theorem fg_14_2 : ∀ n ∈ [14], (1 ≤ n ∧ n < 17 ∧ 2 < xN n) ∧ xT n 2 = ("FaceCoinsModel", "taped", "I", false) ∧ xkt (xty n 2) = 0 := List.forall_mem_cons.mpr ⟨⟨by decide, rfl, rfl⟩, fun _ h => absurd h List.not_mem_nil⟩
theorem fp_14_2 : ∀ n ∈ [14], (1 ≤ n ∧ n < 17 ∧ 2 < xN n) ∧ xT n 2 = ("FaceCoinsModel", "taped", "I", false) ∧ (xty n 2 = .int) := List.forall_mem_cons.mpr ⟨⟨by decide, rfl, rfl⟩, fun _ h => absurd h List.not_mem_nil⟩
theorem fg_14_3 : ∀ n ∈ [14], (1 ≤ n ∧ n < 17 ∧ 3 < xN n) ∧ xT n 3 = ("FaceCoinsModel", "size", "I", false) ∧ xkt (xty n 3) = 0 := List.forall_mem_cons.mpr ⟨⟨by decide, rfl, rfl⟩, fun _ h => absurd h List.not_mem_nil⟩
theorem fp_14_3 : ∀ n ∈ [14], (1 ≤ n ∧ n < 17 ∧ 3 < xN n) ∧ xT n 3 = ("FaceCoinsModel", "size", "I", false) ∧ (xty n 3 = .int) := List.forall_mem_cons.mpr ⟨⟨by decide, rfl, rfl⟩, fun _ h => absurd h List.not_mem_nil⟩
theorem fg_14_4 : ∀ n ∈ [14], (1 ≤ n ∧ n < 17 ∧ 4 < xN n) ∧ xT n 4 = ("FaceCoinsModel", "limit", "I", false) ∧ xkt (xty n 4) = 0 := List.forall_mem_cons.mpr ⟨⟨by decide, rfl, rfl⟩, fun _ h => absurd h List.not_mem_nil⟩
theorem fp_14_4 : ∀ n ∈ [14], (1 ≤ n ∧ n < 17 ∧ 4 < xN n) ∧ xT n 4 = ("FaceCoinsModel", "limit", "I", false) ∧ (xty n 4 = .int) := List.forall_mem_cons.mpr ⟨⟨by decide, rfl, rfl⟩, fun _ h => absurd h List.not_mem_nil⟩
theorem fg_14_5 : ∀ n ∈ [14], (1 ≤ n ∧ n < 17 ∧ 5 < xN n) ∧ xT n 5 = ("FaceCoinsModel", "to", "I", false) ∧ xkt (xty n 5) = 0 := List.forall_mem_cons.mpr ⟨⟨by decide, rfl, rfl⟩, fun _ h => absurd h List.not_mem_nil⟩
theorem fp_14_5 : ∀ n ∈ [14], (1 ≤ n ∧ n < 17 ∧ 5 < xN n) ∧ xT n 5 = ("FaceCoinsModel", "to", "I", false) ∧ (xty n 5 = .int) := List.forall_mem_cons.mpr ⟨⟨by decide, rfl, rfl⟩, fun _ h => absurd h List.not_mem_nil⟩
theorem fg_14_6 : ∀ n ∈ [14], (1 ≤ n ∧ n < 17 ∧ 6 < xN n) ∧ xT n 6 = ("FaceCoinsModel", "from", "I", false) ∧ xkt (xty n 6) = 0 := List.forall_mem_cons.mpr ⟨⟨by decide, rfl, rfl⟩, fun _ h => absurd h List.not_mem_nil⟩
theorem fp_14_6 : ∀ n ∈ [14], (1 ≤ n ∧ n < 17 ∧ 6 < xN n) ∧ xT n 6 = ("FaceCoinsModel", "from", "I", false) ∧ (xty n 6 = .int) := List.forall_mem_cons.mpr ⟨⟨by decide, rfl, rfl⟩, fun _ h => absurd h List.not_mem_nil⟩
theorem fg_14_7 : ∀ n ∈ [14], (1 ≤ n ∧ n < 17 ∧ 7 < xN n) ∧ xT n 7 = ("FaceCoinsModel", "kind", "I", false) ∧ xkt (xty n 7) = 0 := List.forall_mem_cons.mpr ⟨⟨by decide, rfl, rfl⟩, fun _ h => absurd h List.not_mem_nil⟩
theorem fp_14_7 : ∀ n ∈ [14], (1 ≤ n ∧ n < 17 ∧ 7 < xN n) ∧ xT n 7 = ("FaceCoinsModel", "kind", "I", false) ∧ (xty n 7 = .int) := List.forall_mem_cons.mpr ⟨⟨by decide, rfl, rfl⟩, fun _ h => absurd h List.not_mem_nil⟩
theorem fg_14_8 : ∀ n ∈ [14], (1 ≤ n ∧ n < 17 ∧ 8 < xN n) ∧ xT n 8 = ("FaceCoinsModel", "number", "I", false) ∧ xkt (xty n 8) = 0 := List.forall_mem_cons.mpr ⟨⟨by decide, rfl, rfl⟩, fun _ h => absurd h List.not_mem_nil⟩
theorem fp_14_8 : ∀ n ∈ [14], (1 ≤ n ∧ n < 17 ∧ 8 < xN n) ∧ xT n 8 = ("FaceCoinsModel", "number", "I", false) ∧ (xty n 8 = .int) := List.forall_mem_cons.mpr ⟨⟨by decide, rfl, rfl⟩, fun _ h => absurd h List.not_mem_nil⟩
theorem fg_14_9 : ∀ n ∈ [14], (1 ≤ n ∧ n < 17 ∧ 9 < xN n) ∧ xT n 9 = ("FaceCoinsModel", "sign", "I", false) ∧ xkt (xty n 9) = 0 := List.forall_mem_cons.mpr ⟨⟨by decide, rfl, rfl⟩, fun _ h => absurd h List.not_mem_nil⟩
theorem fp_14_9 : ∀ n ∈ [14], (1 ≤ n ∧ n < 17 ∧ 9 < xN n) ∧ xT n 9 = ("FaceCoinsModel", "sign", "I", false) ∧ (xty n 9 = .int) := List.forall_mem_cons.mpr ⟨⟨by decide, rfl, rfl⟩, fun _ h => absurd h List.not_mem_nil⟩
theorem fg_14_10 : ∀ n ∈ [14], (1 ≤ n ∧ n < 17 ∧ 10 < xN n) ∧ xT n 10 = ("FaceCoinsModel", "fault", "I", false) ∧ xkt (xty n 10) = 0 := List.forall_mem_cons.mpr ⟨⟨by decide, rfl, rfl⟩, fun _ h => absurd h List.not_mem_nil⟩
theorem fp_14_10 : ∀ n ∈ [14], (1 ≤ n ∧ n < 17 ∧ 10 < xN n) ∧ xT n 10 = ("FaceCoinsModel", "fault", "I", false) ∧ (xty n 10 = .int) := List.forall_mem_cons.mpr ⟨⟨by decide, rfl, rfl⟩, fun _ h => absurd h List.not_mem_nil⟩
theorem fg_14_11 : ∀ n ∈ [14], (1 ≤ n ∧ n < 17 ∧ 11 < xN n) ∧ xT n 11 = ("FaceCoinsModel", "place", "I", false) ∧ xkt (xty n 11) = 0 := List.forall_mem_cons.mpr ⟨⟨by decide, rfl, rfl⟩, fun _ h => absurd h List.not_mem_nil⟩
theorem fp_14_11 : ∀ n ∈ [14], (1 ≤ n ∧ n < 17 ∧ 11 < xN n) ∧ xT n 11 = ("FaceCoinsModel", "place", "I", false) ∧ (xty n 11 = .int) := List.forall_mem_cons.mpr ⟨⟨by decide, rfl, rfl⟩, fun _ h => absurd h List.not_mem_nil⟩
theorem fg_14_12 : ∀ n ∈ [14], (1 ≤ n ∧ n < 17 ∧ 12 < xN n) ∧ xT n 12 = ("FaceCoinsModel", "word", "J", false) ∧ xkt (xty n 12) = 1 := List.forall_mem_cons.mpr ⟨⟨by decide, rfl, rfl⟩, fun _ h => absurd h List.not_mem_nil⟩
theorem fp_14_12 : ∀ n ∈ [14], (1 ≤ n ∧ n < 17 ∧ 12 < xN n) ∧ xT n 12 = ("FaceCoinsModel", "word", "J", false) ∧ (xty n 12 = .long) := List.forall_mem_cons.mpr ⟨⟨by decide, rfl, rfl⟩, fun _ h => absurd h List.not_mem_nil⟩
theorem fg_14_13 : ∀ n ∈ [14], (1 ≤ n ∧ n < 17 ∧ 13 < xN n) ∧ xT n 13 = ("FaceCoinsModel", "told", "I", false) ∧ xkt (xty n 13) = 0 := List.forall_mem_cons.mpr ⟨⟨by decide, rfl, rfl⟩, fun _ h => absurd h List.not_mem_nil⟩
theorem fp_14_13 : ∀ n ∈ [14], (1 ≤ n ∧ n < 17 ∧ 13 < xN n) ∧ xT n 13 = ("FaceCoinsModel", "told", "I", false) ∧ (xty n 13 = .int) := List.forall_mem_cons.mpr ⟨⟨by decide, rfl, rfl⟩, fun _ h => absurd h List.not_mem_nil⟩
theorem fg_14_14 : ∀ n ∈ [14], (1 ≤ n ∧ n < 17 ∧ 14 < xN n) ∧ xT n 14 = ("FaceCoinsModel", "now", "[I", true) ∧ xkt (xty n 14) = 2 := List.forall_mem_cons.mpr ⟨⟨by decide, rfl, rfl⟩, fun _ h => absurd h List.not_mem_nil⟩
theorem fp_14_14 : ∀ n ∈ [14], (1 ≤ n ∧ n < 17 ∧ 14 < xN n) ∧ xT n 14 = ("FaceCoinsModel", "now", "[I", true) ∧ ((∃ C9, xty n 14 = .object C9) ∨ ∃ t9, xty n 14 = .array t9) := List.forall_mem_cons.mpr ⟨⟨by decide, rfl, Or.inr ⟨_, rfl⟩⟩, fun _ h => absurd h List.not_mem_nil⟩
theorem fg_14_15 : ∀ n ∈ [14], (1 ≤ n ∧ n < 17 ∧ 15 < xN n) ∧ xT n 15 = ("FaceCoinsModel", "read", "[I", true) ∧ xkt (xty n 15) = 2 := List.forall_mem_cons.mpr ⟨⟨by decide, rfl, rfl⟩, fun _ h => absurd h List.not_mem_nil⟩
theorem fp_14_15 : ∀ n ∈ [14], (1 ≤ n ∧ n < 17 ∧ 15 < xN n) ∧ xT n 15 = ("FaceCoinsModel", "read", "[I", true) ∧ ((∃ C9, xty n 15 = .object C9) ∨ ∃ t9, xty n 15 = .array t9) := List.forall_mem_cons.mpr ⟨⟨by decide, rfl, Or.inr ⟨_, rfl⟩⟩, fun _ h => absurd h List.not_mem_nil⟩
theorem fg_14_16 : ∀ n ∈ [14], (1 ≤ n ∧ n < 17 ∧ 16 < xN n) ∧ xT n 16 = ("FaceCoinsModel", "kept", "[I", true) ∧ xkt (xty n 16) = 2 := List.forall_mem_cons.mpr ⟨⟨by decide, rfl, rfl⟩, fun _ h => absurd h List.not_mem_nil⟩
theorem fp_14_16 : ∀ n ∈ [14], (1 ≤ n ∧ n < 17 ∧ 16 < xN n) ∧ xT n 16 = ("FaceCoinsModel", "kept", "[I", true) ∧ ((∃ C9, xty n 16 = .object C9) ∨ ∃ t9, xty n 16 = .array t9) := List.forall_mem_cons.mpr ⟨⟨by decide, rfl, Or.inr ⟨_, rfl⟩⟩, fun _ h => absurd h List.not_mem_nil⟩
theorem fg_14_17 : ∀ n ∈ [14], (1 ≤ n ∧ n < 17 ∧ 17 < xN n) ∧ xT n 17 = ("FaceCoinsModel", "snaps", "[I", true) ∧ xkt (xty n 17) = 2 := List.forall_mem_cons.mpr ⟨⟨by decide, rfl, rfl⟩, fun _ h => absurd h List.not_mem_nil⟩
theorem fp_14_17 : ∀ n ∈ [14], (1 ≤ n ∧ n < 17 ∧ 17 < xN n) ∧ xT n 17 = ("FaceCoinsModel", "snaps", "[I", true) ∧ ((∃ C9, xty n 17 = .object C9) ∨ ∃ t9, xty n 17 = .array t9) := List.forall_mem_cons.mpr ⟨⟨by decide, rfl, Or.inr ⟨_, rfl⟩⟩, fun _ h => absurd h List.not_mem_nil⟩
theorem fg_14_18 : ∀ n ∈ [14], (1 ≤ n ∧ n < 17 ∧ 18 < xN n) ∧ xT n 18 = ("FaceCoinsModel", "name", "[J", true) ∧ xkt (xty n 18) = 2 := List.forall_mem_cons.mpr ⟨⟨by decide, rfl, rfl⟩, fun _ h => absurd h List.not_mem_nil⟩
theorem fp_14_18 : ∀ n ∈ [14], (1 ≤ n ∧ n < 17 ∧ 18 < xN n) ∧ xT n 18 = ("FaceCoinsModel", "name", "[J", true) ∧ ((∃ C9, xty n 18 = .object C9) ∨ ∃ t9, xty n 18 = .array t9) := List.forall_mem_cons.mpr ⟨⟨by decide, rfl, Or.inr ⟨_, rfl⟩⟩, fun _ h => absurd h List.not_mem_nil⟩
theorem fg_14_19 : ∀ n ∈ [14], (1 ≤ n ∧ n < 17 ∧ 19 < xN n) ∧ xT n 19 = ("FaceCoinsModel", "readName", "[J", true) ∧ xkt (xty n 19) = 2 := List.forall_mem_cons.mpr ⟨⟨by decide, rfl, rfl⟩, fun _ h => absurd h List.not_mem_nil⟩
theorem fp_14_19 : ∀ n ∈ [14], (1 ≤ n ∧ n < 17 ∧ 19 < xN n) ∧ xT n 19 = ("FaceCoinsModel", "readName", "[J", true) ∧ ((∃ C9, xty n 19 = .object C9) ∨ ∃ t9, xty n 19 = .array t9) := List.forall_mem_cons.mpr ⟨⟨by decide, rfl, Or.inr ⟨_, rfl⟩⟩, fun _ h => absurd h List.not_mem_nil⟩
theorem fg_14_20 : ∀ n ∈ [14], (1 ≤ n ∧ n < 17 ∧ 20 < xN n) ∧ xT n 20 = ("FaceCoinsModel", "keptName", "[J", true) ∧ xkt (xty n 20) = 2 := List.forall_mem_cons.mpr ⟨⟨by decide, rfl, rfl⟩, fun _ h => absurd h List.not_mem_nil⟩
theorem fp_14_20 : ∀ n ∈ [14], (1 ≤ n ∧ n < 17 ∧ 20 < xN n) ∧ xT n 20 = ("FaceCoinsModel", "keptName", "[J", true) ∧ ((∃ C9, xty n 20 = .object C9) ∨ ∃ t9, xty n 20 = .array t9) := List.forall_mem_cons.mpr ⟨⟨by decide, rfl, Or.inr ⟨_, rfl⟩⟩, fun _ h => absurd h List.not_mem_nil⟩
theorem fg_14_21 : ∀ n ∈ [14], (1 ≤ n ∧ n < 17 ∧ 21 < xN n) ∧ xT n 21 = ("FaceCoinsModel", "isKept", "[Z", true) ∧ xkt (xty n 21) = 2 := List.forall_mem_cons.mpr ⟨⟨by decide, rfl, rfl⟩, fun _ h => absurd h List.not_mem_nil⟩
theorem fp_14_21 : ∀ n ∈ [14], (1 ≤ n ∧ n < 17 ∧ 21 < xN n) ∧ xT n 21 = ("FaceCoinsModel", "isKept", "[Z", true) ∧ ((∃ C9, xty n 21 = .object C9) ∨ ∃ t9, xty n 21 = .array t9) := List.forall_mem_cons.mpr ⟨⟨by decide, rfl, Or.inr ⟨_, rfl⟩⟩, fun _ h => absurd h List.not_mem_nil⟩
theorem fg_14_22 : ∀ n ∈ [14], (1 ≤ n ∧ n < 17 ∧ 22 < xN n) ∧ xT n 22 = ("FaceCoinsModel", "isBegun", "Z", false) ∧ xkt (xty n 22) = 0 := List.forall_mem_cons.mpr ⟨⟨by decide, rfl, rfl⟩, fun _ h => absurd h List.not_mem_nil⟩
theorem fp_14_22 : ∀ n ∈ [14], (1 ≤ n ∧ n < 17 ∧ 22 < xN n) ∧ xT n 22 = ("FaceCoinsModel", "isBegun", "Z", false) ∧ (xty n 22 = .boolean) := List.forall_mem_cons.mpr ⟨⟨by decide, rfl, rfl⟩, fun _ h => absurd h List.not_mem_nil⟩
theorem fg_14_23 : ∀ n ∈ [14], (1 ≤ n ∧ n < 17 ∧ 23 < xN n) ∧ xT n 23 = ("FaceCoinsModel", "snapMany", "I", false) ∧ xkt (xty n 23) = 0 := List.forall_mem_cons.mpr ⟨⟨by decide, rfl, rfl⟩, fun _ h => absurd h List.not_mem_nil⟩
theorem fp_14_23 : ∀ n ∈ [14], (1 ≤ n ∧ n < 17 ∧ 23 < xN n) ∧ xT n 23 = ("FaceCoinsModel", "snapMany", "I", false) ∧ (xty n 23 = .int) := List.forall_mem_cons.mpr ⟨⟨by decide, rfl, rfl⟩, fun _ h => absurd h List.not_mem_nil⟩
theorem fg_14_24 : ∀ n ∈ [14], (1 ≤ n ∧ n < 17 ∧ 24 < xN n) ∧ xT n 24 = ("FaceCoinsModel", "onces", "I", false) ∧ xkt (xty n 24) = 0 := List.forall_mem_cons.mpr ⟨⟨by decide, rfl, rfl⟩, fun _ h => absurd h List.not_mem_nil⟩
theorem fp_14_24 : ∀ n ∈ [14], (1 ≤ n ∧ n < 17 ∧ 24 < xN n) ∧ xT n 24 = ("FaceCoinsModel", "onces", "I", false) ∧ (xty n 24 = .int) := List.forall_mem_cons.mpr ⟨⟨by decide, rfl, rfl⟩, fun _ h => absurd h List.not_mem_nil⟩
theorem fg_14_25 : ∀ n ∈ [14], (1 ≤ n ∧ n < 17 ∧ 25 < xN n) ∧ xT n 25 = ("FaceCoinsModel", "given", "[I", true) ∧ xkt (xty n 25) = 2 := List.forall_mem_cons.mpr ⟨⟨by decide, rfl, rfl⟩, fun _ h => absurd h List.not_mem_nil⟩
theorem fp_14_25 : ∀ n ∈ [14], (1 ≤ n ∧ n < 17 ∧ 25 < xN n) ∧ xT n 25 = ("FaceCoinsModel", "given", "[I", true) ∧ ((∃ C9, xty n 25 = .object C9) ∨ ∃ t9, xty n 25 = .array t9) := List.forall_mem_cons.mpr ⟨⟨by decide, rfl, Or.inr ⟨_, rfl⟩⟩, fun _ h => absurd h List.not_mem_nil⟩
theorem fg_14_26 : ∀ n ∈ [14], (1 ≤ n ∧ n < 17 ∧ 26 < xN n) ∧ xT n 26 = ("FaceCoinsModel", "looked", "[I", true) ∧ xkt (xty n 26) = 2 := List.forall_mem_cons.mpr ⟨⟨by decide, rfl, rfl⟩, fun _ h => absurd h List.not_mem_nil⟩
theorem fp_14_26 : ∀ n ∈ [14], (1 ≤ n ∧ n < 17 ∧ 26 < xN n) ∧ xT n 26 = ("FaceCoinsModel", "looked", "[I", true) ∧ ((∃ C9, xty n 26 = .object C9) ∨ ∃ t9, xty n 26 = .array t9) := List.forall_mem_cons.mpr ⟨⟨by decide, rfl, Or.inr ⟨_, rfl⟩⟩, fun _ h => absurd h List.not_mem_nil⟩
theorem fg_14_27 : ∀ n ∈ [14], (1 ≤ n ∧ n < 17 ∧ 27 < xN n) ∧ xT n 27 = ("FaceCoinsModel", "worth", "[I", true) ∧ xkt (xty n 27) = 2 := List.forall_mem_cons.mpr ⟨⟨by decide, rfl, rfl⟩, fun _ h => absurd h List.not_mem_nil⟩
theorem fp_14_27 : ∀ n ∈ [14], (1 ≤ n ∧ n < 17 ∧ 27 < xN n) ∧ xT n 27 = ("FaceCoinsModel", "worth", "[I", true) ∧ ((∃ C9, xty n 27 = .object C9) ∨ ∃ t9, xty n 27 = .array t9) := List.forall_mem_cons.mpr ⟨⟨by decide, rfl, Or.inr ⟨_, rfl⟩⟩, fun _ h => absurd h List.not_mem_nil⟩
theorem fg_14_28 : ∀ n ∈ [14], (1 ≤ n ∧ n < 17 ∧ 28 < xN n) ∧ xT n 28 = ("FaceCoinsModel", "least", "[I", true) ∧ xkt (xty n 28) = 2 := List.forall_mem_cons.mpr ⟨⟨by decide, rfl, rfl⟩, fun _ h => absurd h List.not_mem_nil⟩
theorem fp_14_28 : ∀ n ∈ [14], (1 ≤ n ∧ n < 17 ∧ 28 < xN n) ∧ xT n 28 = ("FaceCoinsModel", "least", "[I", true) ∧ ((∃ C9, xty n 28 = .object C9) ∨ ∃ t9, xty n 28 = .array t9) := List.forall_mem_cons.mpr ⟨⟨by decide, rfl, Or.inr ⟨_, rfl⟩⟩, fun _ h => absurd h List.not_mem_nil⟩
theorem fg_14_29 : ∀ n ∈ [14], (1 ≤ n ∧ n < 17 ∧ 29 < xN n) ∧ xT n 29 = ("FaceCoinsModel", "paid", "[I", true) ∧ xkt (xty n 29) = 2 := List.forall_mem_cons.mpr ⟨⟨by decide, rfl, rfl⟩, fun _ h => absurd h List.not_mem_nil⟩
theorem fp_14_29 : ∀ n ∈ [14], (1 ≤ n ∧ n < 17 ∧ 29 < xN n) ∧ xT n 29 = ("FaceCoinsModel", "paid", "[I", true) ∧ ((∃ C9, xty n 29 = .object C9) ∨ ∃ t9, xty n 29 = .array t9) := List.forall_mem_cons.mpr ⟨⟨by decide, rfl, Or.inr ⟨_, rfl⟩⟩, fun _ h => absurd h List.not_mem_nil⟩
theorem fg_14_30 : ∀ n ∈ [14], (1 ≤ n ∧ n < 17 ∧ 30 < xN n) ∧ xT n 30 = ("FaceCoinsModel", "chosen", "[I", true) ∧ xkt (xty n 30) = 2 := List.forall_mem_cons.mpr ⟨⟨by decide, rfl, rfl⟩, fun _ h => absurd h List.not_mem_nil⟩
theorem fp_14_30 : ∀ n ∈ [14], (1 ≤ n ∧ n < 17 ∧ 30 < xN n) ∧ xT n 30 = ("FaceCoinsModel", "chosen", "[I", true) ∧ ((∃ C9, xty n 30 = .object C9) ∨ ∃ t9, xty n 30 = .array t9) := List.forall_mem_cons.mpr ⟨⟨by decide, rfl, Or.inr ⟨_, rfl⟩⟩, fun _ h => absurd h List.not_mem_nil⟩
theorem fg_14_31 : ∀ n ∈ [14], (1 ≤ n ∧ n < 17 ∧ 31 < xN n) ∧ xT n 31 = ("FaceCoinsModel", "lookedMany", "I", false) ∧ xkt (xty n 31) = 0 := List.forall_mem_cons.mpr ⟨⟨by decide, rfl, rfl⟩, fun _ h => absurd h List.not_mem_nil⟩
theorem fp_14_31 : ∀ n ∈ [14], (1 ≤ n ∧ n < 17 ∧ 31 < xN n) ∧ xT n 31 = ("FaceCoinsModel", "lookedMany", "I", false) ∧ (xty n 31 = .int) := List.forall_mem_cons.mpr ⟨⟨by decide, rfl, rfl⟩, fun _ h => absurd h List.not_mem_nil⟩
theorem fg_14_32 : ∀ n ∈ [14], (1 ≤ n ∧ n < 17 ∧ 32 < xN n) ∧ xT n 32 = ("FaceCoinsModel", "paidMany", "I", false) ∧ xkt (xty n 32) = 0 := List.forall_mem_cons.mpr ⟨⟨by decide, rfl, rfl⟩, fun _ h => absurd h List.not_mem_nil⟩
theorem fp_14_32 : ∀ n ∈ [14], (1 ≤ n ∧ n < 17 ∧ 32 < xN n) ∧ xT n 32 = ("FaceCoinsModel", "paidMany", "I", false) ∧ (xty n 32 = .int) := List.forall_mem_cons.mpr ⟨⟨by decide, rfl, rfl⟩, fun _ h => absurd h List.not_mem_nil⟩
theorem fg_14_33 : ∀ n ∈ [14], (1 ≤ n ∧ n < 17 ∧ 33 < xN n) ∧ xT n 33 = ("FaceCoinsModel", "wayWho", "[I", true) ∧ xkt (xty n 33) = 2 := List.forall_mem_cons.mpr ⟨⟨by decide, rfl, rfl⟩, fun _ h => absurd h List.not_mem_nil⟩
theorem fp_14_33 : ∀ n ∈ [14], (1 ≤ n ∧ n < 17 ∧ 33 < xN n) ∧ xT n 33 = ("FaceCoinsModel", "wayWho", "[I", true) ∧ ((∃ C9, xty n 33 = .object C9) ∨ ∃ t9, xty n 33 = .array t9) := List.forall_mem_cons.mpr ⟨⟨by decide, rfl, Or.inr ⟨_, rfl⟩⟩, fun _ h => absurd h List.not_mem_nil⟩
theorem fg_14_34 : ∀ n ∈ [14], (1 ≤ n ∧ n < 17 ∧ 34 < xN n) ∧ xT n 34 = ("FaceCoinsModel", "wayMint", "[I", true) ∧ xkt (xty n 34) = 2 := List.forall_mem_cons.mpr ⟨⟨by decide, rfl, rfl⟩, fun _ h => absurd h List.not_mem_nil⟩
theorem fp_14_34 : ∀ n ∈ [14], (1 ≤ n ∧ n < 17 ∧ 34 < xN n) ∧ xT n 34 = ("FaceCoinsModel", "wayMint", "[I", true) ∧ ((∃ C9, xty n 34 = .object C9) ∨ ∃ t9, xty n 34 = .array t9) := List.forall_mem_cons.mpr ⟨⟨by decide, rfl, Or.inr ⟨_, rfl⟩⟩, fun _ h => absurd h List.not_mem_nil⟩
theorem fg_14_35 : ∀ n ∈ [14], (1 ≤ n ∧ n < 17 ∧ 35 < xN n) ∧ xT n 35 = ("FaceCoinsModel", "couldWho", "[I", true) ∧ xkt (xty n 35) = 2 := List.forall_mem_cons.mpr ⟨⟨by decide, rfl, rfl⟩, fun _ h => absurd h List.not_mem_nil⟩
theorem fp_14_35 : ∀ n ∈ [14], (1 ≤ n ∧ n < 17 ∧ 35 < xN n) ∧ xT n 35 = ("FaceCoinsModel", "couldWho", "[I", true) ∧ ((∃ C9, xty n 35 = .object C9) ∨ ∃ t9, xty n 35 = .array t9) := List.forall_mem_cons.mpr ⟨⟨by decide, rfl, Or.inr ⟨_, rfl⟩⟩, fun _ h => absurd h List.not_mem_nil⟩
theorem fg_14_36 : ∀ n ∈ [14], (1 ≤ n ∧ n < 17 ∧ 36 < xN n) ∧ xT n 36 = ("FaceCoinsModel", "couldMint", "[I", true) ∧ xkt (xty n 36) = 2 := List.forall_mem_cons.mpr ⟨⟨by decide, rfl, rfl⟩, fun _ h => absurd h List.not_mem_nil⟩
theorem fp_14_36 : ∀ n ∈ [14], (1 ≤ n ∧ n < 17 ∧ 36 < xN n) ∧ xT n 36 = ("FaceCoinsModel", "couldMint", "[I", true) ∧ ((∃ C9, xty n 36 = .object C9) ∨ ∃ t9, xty n 36 = .array t9) := List.forall_mem_cons.mpr ⟨⟨by decide, rfl, Or.inr ⟨_, rfl⟩⟩, fun _ h => absurd h List.not_mem_nil⟩
theorem fg_14_37 : ∀ n ∈ [14], (1 ≤ n ∧ n < 17 ∧ 37 < xN n) ∧ xT n 37 = ("FaceCoinsModel", "shownWho", "[I", true) ∧ xkt (xty n 37) = 2 := List.forall_mem_cons.mpr ⟨⟨by decide, rfl, rfl⟩, fun _ h => absurd h List.not_mem_nil⟩
theorem fp_14_37 : ∀ n ∈ [14], (1 ≤ n ∧ n < 17 ∧ 37 < xN n) ∧ xT n 37 = ("FaceCoinsModel", "shownWho", "[I", true) ∧ ((∃ C9, xty n 37 = .object C9) ∨ ∃ t9, xty n 37 = .array t9) := List.forall_mem_cons.mpr ⟨⟨by decide, rfl, Or.inr ⟨_, rfl⟩⟩, fun _ h => absurd h List.not_mem_nil⟩
theorem fg_14_38 : ∀ n ∈ [14], (1 ≤ n ∧ n < 17 ∧ 38 < xN n) ∧ xT n 38 = ("FaceCoinsModel", "shownDeep", "[I", true) ∧ xkt (xty n 38) = 2 := List.forall_mem_cons.mpr ⟨⟨by decide, rfl, rfl⟩, fun _ h => absurd h List.not_mem_nil⟩
theorem fp_14_38 : ∀ n ∈ [14], (1 ≤ n ∧ n < 17 ∧ 38 < xN n) ∧ xT n 38 = ("FaceCoinsModel", "shownDeep", "[I", true) ∧ ((∃ C9, xty n 38 = .object C9) ∨ ∃ t9, xty n 38 = .array t9) := List.forall_mem_cons.mpr ⟨⟨by decide, rfl, Or.inr ⟨_, rfl⟩⟩, fun _ h => absurd h List.not_mem_nil⟩
theorem fg_14_39 : ∀ n ∈ [14], (1 ≤ n ∧ n < 17 ∧ 39 < xN n) ∧ xT n 39 = ("FaceCoinsModel", "rowsMade", "I", false) ∧ xkt (xty n 39) = 0 := List.forall_mem_cons.mpr ⟨⟨by decide, rfl, rfl⟩, fun _ h => absurd h List.not_mem_nil⟩
theorem fp_14_39 : ∀ n ∈ [14], (1 ≤ n ∧ n < 17 ∧ 39 < xN n) ∧ xT n 39 = ("FaceCoinsModel", "rowsMade", "I", false) ∧ (xty n 39 = .int) := List.forall_mem_cons.mpr ⟨⟨by decide, rfl, rfl⟩, fun _ h => absurd h List.not_mem_nil⟩
theorem fg_14_40 : ∀ n ∈ [14], (1 ≤ n ∧ n < 17 ∧ 40 < xN n) ∧ xT n 40 = ("FaceCoinsModel", "rowsLong", "I", false) ∧ xkt (xty n 40) = 0 := List.forall_mem_cons.mpr ⟨⟨by decide, rfl, rfl⟩, fun _ h => absurd h List.not_mem_nil⟩
theorem fp_14_40 : ∀ n ∈ [14], (1 ≤ n ∧ n < 17 ∧ 40 < xN n) ∧ xT n 40 = ("FaceCoinsModel", "rowsLong", "I", false) ∧ (xty n 40 = .int) := List.forall_mem_cons.mpr ⟨⟨by decide, rfl, rfl⟩, fun _ h => absurd h List.not_mem_nil⟩
theorem fg_14_41 : ∀ n ∈ [14], (1 ≤ n ∧ n < 17 ∧ 41 < xN n) ∧ xT n 41 = ("FaceCoinsModel", "seed", "I", false) ∧ xkt (xty n 41) = 0 := List.forall_mem_cons.mpr ⟨⟨by decide, rfl, rfl⟩, fun _ h => absurd h List.not_mem_nil⟩
theorem fp_14_41 : ∀ n ∈ [14], (1 ≤ n ∧ n < 17 ∧ 41 < xN n) ∧ xT n 41 = ("FaceCoinsModel", "seed", "I", false) ∧ (xty n 41 = .int) := List.forall_mem_cons.mpr ⟨⟨by decide, rfl, rfl⟩, fun _ h => absurd h List.not_mem_nil⟩
theorem fg_14_42 : ∀ n ∈ [14], (1 ≤ n ∧ n < 17 ∧ 42 < xN n) ∧ xT n 42 = ("FaceCoinsModel", "node", "[I", true) ∧ xkt (xty n 42) = 2 := List.forall_mem_cons.mpr ⟨⟨by decide, rfl, rfl⟩, fun _ h => absurd h List.not_mem_nil⟩
theorem fp_14_42 : ∀ n ∈ [14], (1 ≤ n ∧ n < 17 ∧ 42 < xN n) ∧ xT n 42 = ("FaceCoinsModel", "node", "[I", true) ∧ ((∃ C9, xty n 42 = .object C9) ∨ ∃ t9, xty n 42 = .array t9) := List.forall_mem_cons.mpr ⟨⟨by decide, rfl, Or.inr ⟨_, rfl⟩⟩, fun _ h => absurd h List.not_mem_nil⟩
theorem fg_14_43 : ∀ n ∈ [14], (1 ≤ n ∧ n < 17 ∧ 43 < xN n) ∧ xT n 43 = ("FaceCoinsModel", "nodes", "I", false) ∧ xkt (xty n 43) = 0 := List.forall_mem_cons.mpr ⟨⟨by decide, rfl, rfl⟩, fun _ h => absurd h List.not_mem_nil⟩
theorem fp_14_43 : ∀ n ∈ [14], (1 ≤ n ∧ n < 17 ∧ 43 < xN n) ∧ xT n 43 = ("FaceCoinsModel", "nodes", "I", false) ∧ (xty n 43 = .int) := List.forall_mem_cons.mpr ⟨⟨by decide, rfl, rfl⟩, fun _ h => absurd h List.not_mem_nil⟩
theorem fg_14_44 : ∀ n ∈ [14], (1 ≤ n ∧ n < 17 ∧ 44 < xN n) ∧ xT n 44 = ("FaceCoinsModel", "onesMany", "I", false) ∧ xkt (xty n 44) = 0 := List.forall_mem_cons.mpr ⟨⟨by decide, rfl, rfl⟩, fun _ h => absurd h List.not_mem_nil⟩
theorem fp_14_44 : ∀ n ∈ [14], (1 ≤ n ∧ n < 17 ∧ 44 < xN n) ∧ xT n 44 = ("FaceCoinsModel", "onesMany", "I", false) ∧ (xty n 44 = .int) := List.forall_mem_cons.mpr ⟨⟨by decide, rfl, rfl⟩, fun _ h => absurd h List.not_mem_nil⟩
theorem fg_14_45 : ∀ n ∈ [14], (1 ≤ n ∧ n < 17 ∧ 45 < xN n) ∧ xT n 45 = ("FaceCoinsModel", "within", "I", false) ∧ xkt (xty n 45) = 0 := List.forall_mem_cons.mpr ⟨⟨by decide, rfl, rfl⟩, fun _ h => absurd h List.not_mem_nil⟩
theorem fp_14_45 : ∀ n ∈ [14], (1 ≤ n ∧ n < 17 ∧ 45 < xN n) ∧ xT n 45 = ("FaceCoinsModel", "within", "I", false) ∧ (xty n 45 = .int) := List.forall_mem_cons.mpr ⟨⟨by decide, rfl, rfl⟩, fun _ h => absurd h List.not_mem_nil⟩
theorem fg_14_46 : ∀ n ∈ [14], (1 ≤ n ∧ n < 17 ∧ 46 < xN n) ∧ xT n 46 = ("FaceCoinsModel", "top", "I", false) ∧ xkt (xty n 46) = 0 := List.forall_mem_cons.mpr ⟨⟨by decide, rfl, rfl⟩, fun _ h => absurd h List.not_mem_nil⟩
theorem fp_14_46 : ∀ n ∈ [14], (1 ≤ n ∧ n < 17 ∧ 46 < xN n) ∧ xT n 46 = ("FaceCoinsModel", "top", "I", false) ∧ (xty n 46 = .int) := List.forall_mem_cons.mpr ⟨⟨by decide, rfl, rfl⟩, fun _ h => absurd h List.not_mem_nil⟩
theorem hy_X8_init : (yX8_init.cls ≠ "java/lang/invoke/MethodHandle" ∧ yX8_init.cls ≠ "java/lang/invoke/VarHandle") ∧ (parseMethodDescriptor yX8_init.desc).map (fun d => d.parameters.length) = some 0 := by decide +kernel
theorem hy_X8_thrown : (yX8_thrown.cls ≠ "java/lang/invoke/MethodHandle" ∧ yX8_thrown.cls ≠ "java/lang/invoke/VarHandle") ∧ (parseMethodDescriptor yX8_thrown.desc).map (fun d => d.parameters.length) = some 0 := by decide +kernel
theorem hy_X8_feed : (yX8_feed.cls ≠ "java/lang/invoke/MethodHandle" ∧ yX8_feed.cls ≠ "java/lang/invoke/VarHandle") ∧ (parseMethodDescriptor yX8_feed.desc).map (fun d => d.parameters.length) = some 5 := by decide +kernel
theorem hy_X8_come : (yX8_come.cls ≠ "java/lang/invoke/MethodHandle" ∧ yX8_come.cls ≠ "java/lang/invoke/VarHandle") ∧ (parseMethodDescriptor yX8_come.desc).map (fun d => d.parameters.length) = some 1 := by decide +kernel
theorem hy_X8_end : (yX8_end.cls ≠ "java/lang/invoke/MethodHandle" ∧ yX8_end.cls ≠ "java/lang/invoke/VarHandle") ∧ (parseMethodDescriptor yX8_end.desc).map (fun d => d.parameters.length) = some 1 := by decide +kernel
theorem hy_X8_law : (yX8_law.cls ≠ "java/lang/invoke/MethodHandle" ∧ yX8_law.cls ≠ "java/lang/invoke/VarHandle") ∧ (parseMethodDescriptor yX8_law.desc).map (fun d => d.parameters.length) = some 0 := by decide +kernel
theorem hy_X8_begin : (yX8_begin.cls ≠ "java/lang/invoke/MethodHandle" ∧ yX8_begin.cls ≠ "java/lang/invoke/VarHandle") ∧ (parseMethodDescriptor yX8_begin.desc).map (fun d => d.parameters.length) = some 1 := by decide +kernel
theorem hy_X8_lay : (yX8_lay.cls ≠ "java/lang/invoke/MethodHandle" ∧ yX8_lay.cls ≠ "java/lang/invoke/VarHandle") ∧ (parseMethodDescriptor yX8_lay.desc).map (fun d => d.parameters.length) = some 0 := by decide +kernel
theorem hy_X8_plain : (yX8_plain.cls ≠ "java/lang/invoke/MethodHandle" ∧ yX8_plain.cls ≠ "java/lang/invoke/VarHandle") ∧ (parseMethodDescriptor yX8_plain.desc).map (fun d => d.parameters.length) = some 1 := by decide +kernel
theorem hy_X8_take : (yX8_take.cls ≠ "java/lang/invoke/MethodHandle" ∧ yX8_take.cls ≠ "java/lang/invoke/VarHandle") ∧ (parseMethodDescriptor yX8_take.desc).map (fun d => d.parameters.length) = some 0 := by decide +kernel
theorem hy_X8_go : (yX8_go.cls ≠ "java/lang/invoke/MethodHandle" ∧ yX8_go.cls ≠ "java/lang/invoke/VarHandle") ∧ (parseMethodDescriptor yX8_go.desc).map (fun d => d.parameters.length) = some 0 := by decide +kernel
theorem hy_X8_isLetter : (yX8_isLetter.cls ≠ "java/lang/invoke/MethodHandle" ∧ yX8_isLetter.cls ≠ "java/lang/invoke/VarHandle") ∧ (parseMethodDescriptor yX8_isLetter.desc).map (fun d => d.parameters.length) = some 1 := by decide +kernel
theorem hy_X8_isDigit : (yX8_isDigit.cls ≠ "java/lang/invoke/MethodHandle" ∧ yX8_isDigit.cls ≠ "java/lang/invoke/VarHandle") ∧ (parseMethodDescriptor yX8_isDigit.desc).map (fun d => d.parameters.length) = some 1 := by decide +kernel
theorem hy_X8_byteAt : (yX8_byteAt.cls ≠ "java/lang/invoke/MethodHandle" ∧ yX8_byteAt.cls ≠ "java/lang/invoke/VarHandle") ∧ (parseMethodDescriptor yX8_byteAt.desc).map (fun d => d.parameters.length) = some 1 := by decide +kernel
theorem hy_X8_readLine : (yX8_readLine.cls ≠ "java/lang/invoke/MethodHandle" ∧ yX8_readLine.cls ≠ "java/lang/invoke/VarHandle") ∧ (parseMethodDescriptor yX8_readLine.desc).map (fun d => d.parameters.length) = some 0 := by decide +kernel
theorem hy_X8_isWord : (yX8_isWord.cls ≠ "java/lang/invoke/MethodHandle" ∧ yX8_isWord.cls ≠ "java/lang/invoke/VarHandle") ∧ (parseMethodDescriptor yX8_isWord.desc).map (fun d => d.parameters.length) = some 1 := by decide +kernel
theorem hy_X8_wordOf : (yX8_wordOf.cls ≠ "java/lang/invoke/MethodHandle" ∧ yX8_wordOf.cls ≠ "java/lang/invoke/VarHandle") ∧ (parseMethodDescriptor yX8_wordOf.desc).map (fun d => d.parameters.length) = some 1 := by decide +kernel
theorem hy_X8_spelt : (yX8_spelt.cls ≠ "java/lang/invoke/MethodHandle" ∧ yX8_spelt.cls ≠ "java/lang/invoke/VarHandle") ∧ (parseMethodDescriptor yX8_spelt.desc).map (fun d => d.parameters.length) = some 4 := by decide +kernel
theorem hy_X8_on : (yX8_on.cls ≠ "java/lang/invoke/MethodHandle" ∧ yX8_on.cls ≠ "java/lang/invoke/VarHandle") ∧ (parseMethodDescriptor yX8_on.desc).map (fun d => d.parameters.length) = some 3 := by decide +kernel
theorem hy_X8_readWho : (yX8_readWho.cls ≠ "java/lang/invoke/MethodHandle" ∧ yX8_readWho.cls ≠ "java/lang/invoke/VarHandle") ∧ (parseMethodDescriptor yX8_readWho.desc).map (fun d => d.parameters.length) = some 0 := by decide +kernel
theorem hy_X8_bad : (yX8_bad.cls ≠ "java/lang/invoke/MethodHandle" ∧ yX8_bad.cls ≠ "java/lang/invoke/VarHandle") ∧ (parseMethodDescriptor yX8_bad.desc).map (fun d => d.parameters.length) = some 1 := by decide +kernel
theorem hy_X8_readNew : (yX8_readNew.cls ≠ "java/lang/invoke/MethodHandle" ∧ yX8_readNew.cls ≠ "java/lang/invoke/VarHandle") ∧ (parseMethodDescriptor yX8_readNew.desc).map (fun d => d.parameters.length) = some 1 := by decide +kernel
theorem hy_X8_isName : (yX8_isName.cls ≠ "java/lang/invoke/MethodHandle" ∧ yX8_isName.cls ≠ "java/lang/invoke/VarHandle") ∧ (parseMethodDescriptor yX8_isName.desc).map (fun d => d.parameters.length) = some 0 := by decide +kernel
theorem hy_X8_findIn : (yX8_findIn.cls ≠ "java/lang/invoke/MethodHandle" ∧ yX8_findIn.cls ≠ "java/lang/invoke/VarHandle") ∧ (parseMethodDescriptor yX8_findIn.desc).map (fun d => d.parameters.length) = some 3 := by decide +kernel
theorem hy_X8_readMint : (yX8_readMint.cls ≠ "java/lang/invoke/MethodHandle" ∧ yX8_readMint.cls ≠ "java/lang/invoke/VarHandle") ∧ (parseMethodDescriptor yX8_readMint.desc).map (fun d => d.parameters.length) = some 0 := by decide +kernel
theorem hy_X8_readNumber : (yX8_readNumber.cls ≠ "java/lang/invoke/MethodHandle" ∧ yX8_readNumber.cls ≠ "java/lang/invoke/VarHandle") ∧ (parseMethodDescriptor yX8_readNumber.desc).map (fun d => d.parameters.length) = some 2 := by decide +kernel
theorem hy_X8_isIn : (yX8_isIn.cls ≠ "java/lang/invoke/MethodHandle" ∧ yX8_isIn.cls ≠ "java/lang/invoke/VarHandle") ∧ (parseMethodDescriptor yX8_isIn.desc).map (fun d => d.parameters.length) = some 3 := by decide +kernel
theorem hy_X8_readTakes : (yX8_readTakes.cls ≠ "java/lang/invoke/MethodHandle" ∧ yX8_readTakes.cls ≠ "java/lang/invoke/VarHandle") ∧ (parseMethodDescriptor yX8_readTakes.desc).map (fun d => d.parameters.length) = some 0 := by decide +kernel
theorem hy_X8_readWhoTold : (yX8_readWhoTold.cls ≠ "java/lang/invoke/MethodHandle" ∧ yX8_readWhoTold.cls ≠ "java/lang/invoke/VarHandle") ∧ (parseMethodDescriptor yX8_readWhoTold.desc).map (fun d => d.parameters.length) = some 0 := by decide +kernel
theorem hy_X8_readOnce : (yX8_readOnce.cls ≠ "java/lang/invoke/MethodHandle" ∧ yX8_readOnce.cls ≠ "java/lang/invoke/VarHandle") ∧ (parseMethodDescriptor yX8_readOnce.desc).map (fun d => d.parameters.length) = some 4 := by decide +kernel
theorem hy_X8_has : (yX8_has.cls ≠ "java/lang/invoke/MethodHandle" ∧ yX8_has.cls ≠ "java/lang/invoke/VarHandle") ∧ (parseMethodDescriptor yX8_has.desc).map (fun d => d.parameters.length) = some 2 := by decide +kernel
theorem hy_X8_readEnd : (yX8_readEnd.cls ≠ "java/lang/invoke/MethodHandle" ∧ yX8_readEnd.cls ≠ "java/lang/invoke/VarHandle") ∧ (parseMethodDescriptor yX8_readEnd.desc).map (fun d => d.parameters.length) = some 0 := by decide +kernel
theorem hy_X8_isSign : (yX8_isSign.cls ≠ "java/lang/invoke/MethodHandle" ∧ yX8_isSign.cls ≠ "java/lang/invoke/VarHandle") ∧ (parseMethodDescriptor yX8_isSign.desc).map (fun d => d.parameters.length) = some 1 := by decide +kernel
theorem hy_X8_fault : (yX8_fault.cls ≠ "java/lang/invoke/MethodHandle" ∧ yX8_fault.cls ≠ "java/lang/invoke/VarHandle") ∧ (parseMethodDescriptor yX8_fault.desc).map (fun d => d.parameters.length) = some 0 := by decide +kernel
theorem hy_X8_who : (yX8_who.cls ≠ "java/lang/invoke/MethodHandle" ∧ yX8_who.cls ≠ "java/lang/invoke/VarHandle") ∧ (parseMethodDescriptor yX8_who.desc).map (fun d => d.parameters.length) = some 2 := by decide +kernel
theorem hy_X8_isWho : (yX8_isWho.cls ≠ "java/lang/invoke/MethodHandle" ∧ yX8_isWho.cls ≠ "java/lang/invoke/VarHandle") ∧ (parseMethodDescriptor yX8_isWho.desc).map (fun d => d.parameters.length) = some 1 := by decide +kernel
theorem hy_X8_people : (yX8_people.cls ≠ "java/lang/invoke/MethodHandle" ∧ yX8_people.cls ≠ "java/lang/invoke/VarHandle") ∧ (parseMethodDescriptor yX8_people.desc).map (fun d => d.parameters.length) = some 0 := by decide +kernel
theorem hy_X8_refuse : (yX8_refuse.cls ≠ "java/lang/invoke/MethodHandle" ∧ yX8_refuse.cls ≠ "java/lang/invoke/VarHandle") ∧ (parseMethodDescriptor yX8_refuse.desc).map (fun d => d.parameters.length) = some 0 := by decide +kernel
theorem hy_X8_ofWho : (yX8_ofWho.cls ≠ "java/lang/invoke/MethodHandle" ∧ yX8_ofWho.cls ≠ "java/lang/invoke/VarHandle") ∧ (parseMethodDescriptor yX8_ofWho.desc).map (fun d => d.parameters.length) = some 2 := by decide +kernel
theorem hy_X8_coins : (yX8_coins.cls ≠ "java/lang/invoke/MethodHandle" ∧ yX8_coins.cls ≠ "java/lang/invoke/VarHandle") ∧ (parseMethodDescriptor yX8_coins.desc).map (fun d => d.parameters.length) = some 0 := by decide +kernel
theorem hy_X8_topOf : (yX8_topOf.cls ≠ "java/lang/invoke/MethodHandle" ∧ yX8_topOf.cls ≠ "java/lang/invoke/VarHandle") ∧ (parseMethodDescriptor yX8_topOf.desc).map (fun d => d.parameters.length) = some 1 := by decide +kernel
theorem hy_X8_ofCoin : (yX8_ofCoin.cls ≠ "java/lang/invoke/MethodHandle" ∧ yX8_ofCoin.cls ≠ "java/lang/invoke/VarHandle") ∧ (parseMethodDescriptor yX8_ofCoin.desc).map (fun d => d.parameters.length) = some 2 := by decide +kernel
theorem hy_X8_mint : (yX8_mint.cls ≠ "java/lang/invoke/MethodHandle" ∧ yX8_mint.cls ≠ "java/lang/invoke/VarHandle") ∧ (parseMethodDescriptor yX8_mint.desc).map (fun d => d.parameters.length) = some 2 := by decide +kernel
theorem hy_X8_isMint : (yX8_isMint.cls ≠ "java/lang/invoke/MethodHandle" ∧ yX8_isMint.cls ≠ "java/lang/invoke/VarHandle") ∧ (parseMethodDescriptor yX8_isMint.desc).map (fun d => d.parameters.length) = some 1 := by decide +kernel
theorem hy_X8_mints : (yX8_mints.cls ≠ "java/lang/invoke/MethodHandle" ∧ yX8_mints.cls ≠ "java/lang/invoke/VarHandle") ∧ (parseMethodDescriptor yX8_mints.desc).map (fun d => d.parameters.length) = some 0 := by decide +kernel
theorem hy_X8_ofMint : (yX8_ofMint.cls ≠ "java/lang/invoke/MethodHandle" ∧ yX8_ofMint.cls ≠ "java/lang/invoke/VarHandle") ∧ (parseMethodDescriptor yX8_ofMint.desc).map (fun d => d.parameters.length) = some 2 := by decide +kernel
theorem hy_X8_coin : (yX8_coin.cls ≠ "java/lang/invoke/MethodHandle" ∧ yX8_coin.cls ≠ "java/lang/invoke/VarHandle") ∧ (parseMethodDescriptor yX8_coin.desc).map (fun d => d.parameters.length) = some 3 := by decide +kernel
theorem hy_X8_isFull : (yX8_isFull.cls ≠ "java/lang/invoke/MethodHandle" ∧ yX8_isFull.cls ≠ "java/lang/invoke/VarHandle") ∧ (parseMethodDescriptor yX8_isFull.desc).map (fun d => d.parameters.length) = some 1 := by decide +kernel
theorem hy_X8_wrongStroke : (yX8_wrongStroke.cls ≠ "java/lang/invoke/MethodHandle" ∧ yX8_wrongStroke.cls ≠ "java/lang/invoke/VarHandle") ∧ (parseMethodDescriptor yX8_wrongStroke.desc).map (fun d => d.parameters.length) = some 3 := by decide +kernel
theorem hy_X8_snap : (yX8_snap.cls ≠ "java/lang/invoke/MethodHandle" ∧ yX8_snap.cls ≠ "java/lang/invoke/VarHandle") ∧ (parseMethodDescriptor yX8_snap.desc).map (fun d => d.parameters.length) = some 0 := by decide +kernel
theorem hy_X8_strike : (yX8_strike.cls ≠ "java/lang/invoke/MethodHandle" ∧ yX8_strike.cls ≠ "java/lang/invoke/VarHandle") ∧ (parseMethodDescriptor yX8_strike.desc).map (fun d => d.parameters.length) = some 5 := by decide +kernel
theorem hy_X8_of : (yX8_of.cls ≠ "java/lang/invoke/MethodHandle" ∧ yX8_of.cls ≠ "java/lang/invoke/VarHandle") ∧ (parseMethodDescriptor yX8_of.desc).map (fun d => d.parameters.length) = some 2 := by decide +kernel
theorem hy_X8_isCoin : (yX8_isCoin.cls ≠ "java/lang/invoke/MethodHandle" ∧ yX8_isCoin.cls ≠ "java/lang/invoke/VarHandle") ∧ (parseMethodDescriptor yX8_isCoin.desc).map (fun d => d.parameters.length) = some 1 := by decide +kernel
theorem hy_X8_showsFalse : (yX8_showsFalse.cls ≠ "java/lang/invoke/MethodHandle" ∧ yX8_showsFalse.cls ≠ "java/lang/invoke/VarHandle") ∧ (parseMethodDescriptor yX8_showsFalse.desc).map (fun d => d.parameters.length) = some 1 := by decide +kernel
theorem hy_X8_faceFalse : (yX8_faceFalse.cls ≠ "java/lang/invoke/MethodHandle" ∧ yX8_faceFalse.cls ≠ "java/lang/invoke/VarHandle") ∧ (parseMethodDescriptor yX8_faceFalse.desc).map (fun d => d.parameters.length) = some 2 := by decide +kernel
theorem hy_X8_face : (yX8_face.cls ≠ "java/lang/invoke/MethodHandle" ∧ yX8_face.cls ≠ "java/lang/invoke/VarHandle") ∧ (parseMethodDescriptor yX8_face.desc).map (fun d => d.parameters.length) = some 3 := by decide +kernel
theorem hy_X8_luck : (yX8_luck.cls ≠ "java/lang/invoke/MethodHandle" ∧ yX8_luck.cls ≠ "java/lang/invoke/VarHandle") ∧ (parseMethodDescriptor yX8_luck.desc).map (fun d => d.parameters.length) = some 0 := by decide +kernel
theorem hy_X8_luckOf : (yX8_luckOf.cls ≠ "java/lang/invoke/MethodHandle" ∧ yX8_luckOf.cls ≠ "java/lang/invoke/VarHandle") ∧ (parseMethodDescriptor yX8_luckOf.desc).map (fun d => d.parameters.length) = some 0 := by decide +kernel
theorem hy_X8_value : (yX8_value.cls ≠ "java/lang/invoke/MethodHandle" ∧ yX8_value.cls ≠ "java/lang/invoke/VarHandle") ∧ (parseMethodDescriptor yX8_value.desc).map (fun d => d.parameters.length) = some 3 := by decide +kernel
theorem hy_X8_hundredths : (yX8_hundredths.cls ≠ "java/lang/invoke/MethodHandle" ∧ yX8_hundredths.cls ≠ "java/lang/invoke/VarHandle") ∧ (parseMethodDescriptor yX8_hundredths.desc).map (fun d => d.parameters.length) = some 3 := by decide +kernel
theorem hy_X8_valueOf : (yX8_valueOf.cls ≠ "java/lang/invoke/MethodHandle" ∧ yX8_valueOf.cls ≠ "java/lang/invoke/VarHandle") ∧ (parseMethodDescriptor yX8_valueOf.desc).map (fun d => d.parameters.length) = some 2 := by decide +kernel
theorem hy_X8_bears : (yX8_bears.cls ≠ "java/lang/invoke/MethodHandle" ∧ yX8_bears.cls ≠ "java/lang/invoke/VarHandle") ∧ (parseMethodDescriptor yX8_bears.desc).map (fun d => d.parameters.length) = some 2 := by decide +kernel
theorem hy_X8_sale : (yX8_sale.cls ≠ "java/lang/invoke/MethodHandle" ∧ yX8_sale.cls ≠ "java/lang/invoke/VarHandle") ∧ (parseMethodDescriptor yX8_sale.desc).map (fun d => d.parameters.length) = some 4 := by decide +kernel
theorem hy_X8_areUnfit : (yX8_areUnfit.cls ≠ "java/lang/invoke/MethodHandle" ∧ yX8_areUnfit.cls ≠ "java/lang/invoke/VarHandle") ∧ (parseMethodDescriptor yX8_areUnfit.desc).map (fun d => d.parameters.length) = some 2 := by decide +kernel
theorem hy_X8_wrongAt : (yX8_wrongAt.cls ≠ "java/lang/invoke/MethodHandle" ∧ yX8_wrongAt.cls ≠ "java/lang/invoke/VarHandle") ∧ (parseMethodDescriptor yX8_wrongAt.desc).map (fun d => d.parameters.length) = some 2 := by decide +kernel
theorem hy_X8_keepSale : (yX8_keepSale.cls ≠ "java/lang/invoke/MethodHandle" ∧ yX8_keepSale.cls ≠ "java/lang/invoke/VarHandle") ∧ (parseMethodDescriptor yX8_keepSale.desc).map (fun d => d.parameters.length) = some 6 := by decide +kernel
theorem hy_X8_sales : (yX8_sales.cls ≠ "java/lang/invoke/MethodHandle" ∧ yX8_sales.cls ≠ "java/lang/invoke/VarHandle") ∧ (parseMethodDescriptor yX8_sales.desc).map (fun d => d.parameters.length) = some 0 := by decide +kernel
theorem hy_X8_sold : (yX8_sold.cls ≠ "java/lang/invoke/MethodHandle" ∧ yX8_sold.cls ≠ "java/lang/invoke/VarHandle") ∧ (parseMethodDescriptor yX8_sold.desc).map (fun d => d.parameters.length) = some 2 := by decide +kernel
theorem hy_X8_payment : (yX8_payment.cls ≠ "java/lang/invoke/MethodHandle" ∧ yX8_payment.cls ≠ "java/lang/invoke/VarHandle") ∧ (parseMethodDescriptor yX8_payment.desc).map (fun d => d.parameters.length) = some 4 := by decide +kernel
theorem hy_X8_layPayment : (yX8_layPayment.cls ≠ "java/lang/invoke/MethodHandle" ∧ yX8_layPayment.cls ≠ "java/lang/invoke/VarHandle") ∧ (parseMethodDescriptor yX8_layPayment.desc).map (fun d => d.parameters.length) = some 4 := by decide +kernel
theorem hy_X8_worthOf : (yX8_worthOf.cls ≠ "java/lang/invoke/MethodHandle" ∧ yX8_worthOf.cls ≠ "java/lang/invoke/VarHandle") ∧ (parseMethodDescriptor yX8_worthOf.desc).map (fun d => d.parameters.length) = some 6 := by decide +kernel
theorem hy_X8_bestOf : (yX8_bestOf.cls ≠ "java/lang/invoke/MethodHandle" ∧ yX8_bestOf.cls ≠ "java/lang/invoke/VarHandle") ∧ (parseMethodDescriptor yX8_bestOf.desc).map (fun d => d.parameters.length) = some 2 := by decide +kernel
theorem hy_X8_costOf : (yX8_costOf.cls ≠ "java/lang/invoke/MethodHandle" ∧ yX8_costOf.cls ≠ "java/lang/invoke/VarHandle") ∧ (parseMethodDescriptor yX8_costOf.desc).map (fun d => d.parameters.length) = some 3 := by decide +kernel
theorem hy_X8_tellPaid : (yX8_tellPaid.cls ≠ "java/lang/invoke/MethodHandle" ∧ yX8_tellPaid.cls ≠ "java/lang/invoke/VarHandle") ∧ (parseMethodDescriptor yX8_tellPaid.desc).map (fun d => d.parameters.length) = some 0 := by decide +kernel
theorem hy_X8_paid : (yX8_paid.cls ≠ "java/lang/invoke/MethodHandle" ∧ yX8_paid.cls ≠ "java/lang/invoke/VarHandle") ∧ (parseMethodDescriptor yX8_paid.desc).map (fun d => d.parameters.length) = some 1 := by decide +kernel
theorem hy_X8_buy : (yX8_buy.cls ≠ "java/lang/invoke/MethodHandle" ∧ yX8_buy.cls ≠ "java/lang/invoke/VarHandle") ∧ (parseMethodDescriptor yX8_buy.desc).map (fun d => d.parameters.length) = some 4 := by decide +kernel
theorem hy_X8_strokesToPay : (yX8_strokesToPay.cls ≠ "java/lang/invoke/MethodHandle" ∧ yX8_strokesToPay.cls ≠ "java/lang/invoke/VarHandle") ∧ (parseMethodDescriptor yX8_strokesToPay.desc).map (fun d => d.parameters.length) = some 0 := by decide +kernel
theorem hy_X8_pay : (yX8_pay.cls ≠ "java/lang/invoke/MethodHandle" ∧ yX8_pay.cls ≠ "java/lang/invoke/VarHandle") ∧ (parseMethodDescriptor yX8_pay.desc).map (fun d => d.parameters.length) = some 4 := by decide +kernel
theorem hy_X8_steal : (yX8_steal.cls ≠ "java/lang/invoke/MethodHandle" ∧ yX8_steal.cls ≠ "java/lang/invoke/VarHandle") ∧ (parseMethodDescriptor yX8_steal.desc).map (fun d => d.parameters.length) = some 2 := by decide +kernel
theorem hy_X8_forge : (yX8_forge.cls ≠ "java/lang/invoke/MethodHandle" ∧ yX8_forge.cls ≠ "java/lang/invoke/VarHandle") ∧ (parseMethodDescriptor yX8_forge.desc).map (fun d => d.parameters.length) = some 2 := by decide +kernel
theorem hy_X8_day : (yX8_day.cls ≠ "java/lang/invoke/MethodHandle" ∧ yX8_day.cls ≠ "java/lang/invoke/VarHandle") ∧ (parseMethodDescriptor yX8_day.desc).map (fun d => d.parameters.length) = some 0 := by decide +kernel
theorem hy_X8_giveBack : (yX8_giveBack.cls ≠ "java/lang/invoke/MethodHandle" ∧ yX8_giveBack.cls ≠ "java/lang/invoke/VarHandle") ∧ (parseMethodDescriptor yX8_giveBack.desc).map (fun d => d.parameters.length) = some 0 := by decide +kernel
theorem hy_X8_rob : (yX8_rob.cls ≠ "java/lang/invoke/MethodHandle" ∧ yX8_rob.cls ≠ "java/lang/invoke/VarHandle") ∧ (parseMethodDescriptor yX8_rob.desc).map (fun d => d.parameters.length) = some 2 := by decide +kernel
theorem hy_X8_dies : (yX8_dies.cls ≠ "java/lang/invoke/MethodHandle" ∧ yX8_dies.cls ≠ "java/lang/invoke/VarHandle") ∧ (parseMethodDescriptor yX8_dies.desc).map (fun d => d.parameters.length) = some 2 := by decide +kernel
theorem hy_X8_close : (yX8_close.cls ≠ "java/lang/invoke/MethodHandle" ∧ yX8_close.cls ≠ "java/lang/invoke/VarHandle") ∧ (parseMethodDescriptor yX8_close.desc).map (fun d => d.parameters.length) = some 1 := by decide +kernel
theorem hy_X8_strokes : (yX8_strokes.cls ≠ "java/lang/invoke/MethodHandle" ∧ yX8_strokes.cls ≠ "java/lang/invoke/VarHandle") ∧ (parseMethodDescriptor yX8_strokes.desc).map (fun d => d.parameters.length) = some 0 := by decide +kernel
theorem hy_X8_stroke : (yX8_stroke.cls ≠ "java/lang/invoke/MethodHandle" ∧ yX8_stroke.cls ≠ "java/lang/invoke/VarHandle") ∧ (parseMethodDescriptor yX8_stroke.desc).map (fun d => d.parameters.length) = some 2 := by decide +kernel
theorem hy_X8_isShown : (yX8_isShown.cls ≠ "java/lang/invoke/MethodHandle" ∧ yX8_isShown.cls ≠ "java/lang/invoke/VarHandle") ∧ (parseMethodDescriptor yX8_isShown.desc).map (fun d => d.parameters.length) = some 1 := by decide +kernel
theorem hy_X8_foreign : (yX8_foreign.cls ≠ "java/lang/invoke/MethodHandle" ∧ yX8_foreign.cls ≠ "java/lang/invoke/VarHandle") ∧ (parseMethodDescriptor yX8_foreign.desc).map (fun d => d.parameters.length) = some 1 := by decide +kernel
theorem hy_X8_silver : (yX8_silver.cls ≠ "java/lang/invoke/MethodHandle" ∧ yX8_silver.cls ≠ "java/lang/invoke/VarHandle") ∧ (parseMethodDescriptor yX8_silver.desc).map (fun d => d.parameters.length) = some 1 := by decide +kernel
theorem hy_X8_rows : (yX8_rows.cls ≠ "java/lang/invoke/MethodHandle" ∧ yX8_rows.cls ≠ "java/lang/invoke/VarHandle") ∧ (parseMethodDescriptor yX8_rows.desc).map (fun d => d.parameters.length) = some 3 := by decide +kernel
theorem hy_X8_tryRows : (yX8_tryRows.cls ≠ "java/lang/invoke/MethodHandle" ∧ yX8_tryRows.cls ≠ "java/lang/invoke/VarHandle") ∧ (parseMethodDescriptor yX8_tryRows.desc).map (fun d => d.parameters.length) = some 4 := by decide +kernel
theorem hy_X8_isLike : (yX8_isLike.cls ≠ "java/lang/invoke/MethodHandle" ∧ yX8_isLike.cls ≠ "java/lang/invoke/VarHandle") ∧ (parseMethodDescriptor yX8_isLike.desc).map (fun d => d.parameters.length) = some 2 := by decide +kernel
theorem hy_X8_could : (yX8_could.cls ≠ "java/lang/invoke/MethodHandle" ∧ yX8_could.cls ≠ "java/lang/invoke/VarHandle") ∧ (parseMethodDescriptor yX8_could.desc).map (fun d => d.parameters.length) = some 2 := by decide +kernel
theorem hy_X8_market : (yX8_market.cls ≠ "java/lang/invoke/MethodHandle" ∧ yX8_market.cls ≠ "java/lang/invoke/VarHandle") ∧ (parseMethodDescriptor yX8_market.desc).map (fun d => d.parameters.length) = some 2 := by decide +kernel
theorem hy_X8_draw : (yX8_draw.cls ≠ "java/lang/invoke/MethodHandle" ∧ yX8_draw.cls ≠ "java/lang/invoke/VarHandle") ∧ (parseMethodDescriptor yX8_draw.desc).map (fun d => d.parameters.length) = some 1 := by decide +kernel
theorem hy_X8_undo : (yX8_undo.cls ≠ "java/lang/invoke/MethodHandle" ∧ yX8_undo.cls ≠ "java/lang/invoke/VarHandle") ∧ (parseMethodDescriptor yX8_undo.desc).map (fun d => d.parameters.length) = some 0 := by decide +kernel
theorem hy_X8_sentence : (yX8_sentence.cls ≠ "java/lang/invoke/MethodHandle" ∧ yX8_sentence.cls ≠ "java/lang/invoke/VarHandle") ∧ (parseMethodDescriptor yX8_sentence.desc).map (fun d => d.parameters.length) = some 0 := by decide +kernel
theorem hy_X8_readOr : (yX8_readOr.cls ≠ "java/lang/invoke/MethodHandle" ∧ yX8_readOr.cls ≠ "java/lang/invoke/VarHandle") ∧ (parseMethodDescriptor yX8_readOr.desc).map (fun d => d.parameters.length) = some 0 := by decide +kernel
theorem hy_X8_readAnd : (yX8_readAnd.cls ≠ "java/lang/invoke/MethodHandle" ∧ yX8_readAnd.cls ≠ "java/lang/invoke/VarHandle") ∧ (parseMethodDescriptor yX8_readAnd.desc).map (fun d => d.parameters.length) = some 0 := by decide +kernel
theorem hy_X8_readOne : (yX8_readOne.cls ≠ "java/lang/invoke/MethodHandle" ∧ yX8_readOne.cls ≠ "java/lang/invoke/VarHandle") ∧ (parseMethodDescriptor yX8_readOne.desc).map (fun d => d.parameters.length) = some 0 := by decide +kernel
theorem hy_X8_readBracket : (yX8_readBracket.cls ≠ "java/lang/invoke/MethodHandle" ∧ yX8_readBracket.cls ≠ "java/lang/invoke/VarHandle") ∧ (parseMethodDescriptor yX8_readBracket.desc).map (fun d => d.parameters.length) = some 0 := by decide +kernel
theorem hy_X8_readNot : (yX8_readNot.cls ≠ "java/lang/invoke/MethodHandle" ∧ yX8_readNot.cls ≠ "java/lang/invoke/VarHandle") ∧ (parseMethodDescriptor yX8_readNot.desc).map (fun d => d.parameters.length) = some 0 := by decide +kernel
theorem hy_X8_lays : (yX8_lays.cls ≠ "java/lang/invoke/MethodHandle" ∧ yX8_lays.cls ≠ "java/lang/invoke/VarHandle") ∧ (parseMethodDescriptor yX8_lays.desc).map (fun d => d.parameters.length) = some 4 := by decide +kernel
theorem hy_X8_readNamed : (yX8_readNamed.cls ≠ "java/lang/invoke/MethodHandle" ∧ yX8_readNamed.cls ≠ "java/lang/invoke/VarHandle") ∧ (parseMethodDescriptor yX8_readNamed.desc).map (fun d => d.parameters.length) = some 1 := by decide +kernel
theorem hy_X8_readCompare : (yX8_readCompare.cls ≠ "java/lang/invoke/MethodHandle" ∧ yX8_readCompare.cls ≠ "java/lang/invoke/VarHandle") ∧ (parseMethodDescriptor yX8_readCompare.desc).map (fun d => d.parameters.length) = some 1 := by decide +kernel
theorem hy_X8_said : (yX8_said.cls ≠ "java/lang/invoke/MethodHandle" ∧ yX8_said.cls ≠ "java/lang/invoke/VarHandle") ∧ (parseMethodDescriptor yX8_said.desc).map (fun d => d.parameters.length) = some 1 := by decide +kernel
theorem hy_X8_holds : (yX8_holds.cls ≠ "java/lang/invoke/MethodHandle" ∧ yX8_holds.cls ≠ "java/lang/invoke/VarHandle") ∧ (parseMethodDescriptor yX8_holds.desc).map (fun d => d.parameters.length) = some 2 := by decide +kernel
theorem hy_X8_shows : (yX8_shows.cls ≠ "java/lang/invoke/MethodHandle" ∧ yX8_shows.cls ≠ "java/lang/invoke/VarHandle") ∧ (parseMethodDescriptor yX8_shows.desc).map (fun d => d.parameters.length) = some 2 := by decide +kernel
theorem hy_X8_image : (yX8_image.cls ≠ "java/lang/invoke/MethodHandle" ∧ yX8_image.cls ≠ "java/lang/invoke/VarHandle") ∧ (parseMethodDescriptor yX8_image.desc).map (fun d => d.parameters.length) = some 1 := by decide +kernel
theorem hy_X8_restore : (yX8_restore.cls ≠ "java/lang/invoke/MethodHandle" ∧ yX8_restore.cls ≠ "java/lang/invoke/VarHandle") ∧ (parseMethodDescriptor yX8_restore.desc).map (fun d => d.parameters.length) = some 1 := by decide +kernel
theorem hy_X8_count : (yX8_count.cls ≠ "java/lang/invoke/MethodHandle" ∧ yX8_count.cls ≠ "java/lang/invoke/VarHandle") ∧ (parseMethodDescriptor yX8_count.desc).map (fun d => d.parameters.length) = some 1 := by decide +kernel
/-! FaceCoinsModel.<init>()V -/
noncomputable def fM_init (v0 : Nat) (h0 : AH) : Option (Unit × AH) :=
  if v0 = 0 then none else (
    xb2 (xnewa h0 100 (740 : Int32)) fun x1 g2 =>
    (xpr g2 v0 [14] 1 x1).bind fun g3 =>
    xb2 (xnewa g3 100 (8140 : Int32)) fun x4 g5 =>
    (xpr g5 v0 [14] 14 x4).bind fun g6 =>
    xb2 (xnewa g6 100 (108 : Int32)) fun x7 g8 =>
    (xpr g8 v0 [14] 15 x7).bind fun g9 =>
    xb2 (xnewa g9 100 (16280 : Int32)) fun x10 g11 =>
    (xpr g11 v0 [14] 16 x10).bind fun g12 =>
    xb2 (xnewa g12 100 (47400 : Int32)) fun x13 g14 =>
    (xpr g14 v0 [14] 17 x13).bind fun g15 =>
    xb2 (xnewa g15 103 (12 : Int32)) fun x16 g17 =>
    (xpr g17 v0 [14] 18 x16).bind fun g18 =>
    xb2 (xnewa g18 103 (12 : Int32)) fun x19 g20 =>
    (xpr g20 v0 [14] 19 x19).bind fun g21 =>
    xb2 (xnewa g21 103 (24 : Int32)) fun x22 g23 =>
    (xpr g23 v0 [14] 20 x22).bind fun g24 =>
    xb2 (xnewa g24 101 (2 : Int32)) fun x25 g26 =>
    (xpr g26 v0 [14] 21 x25).bind fun g27 =>
    xb2 (xnewa g27 100 (40 : Int32)) fun x28 g29 =>
    (xpr g29 v0 [14] 25 x28).bind fun g30 =>
    xb2 (xnewa g30 100 (12 : Int32)) fun x31 g32 =>
    (xpr g32 v0 [14] 26 x31).bind fun g33 =>
    xb2 (xnewa g33 100 (72 : Int32)) fun x34 g35 =>
    (xpr g35 v0 [14] 27 x34).bind fun g36 =>
    xb2 (xnewa g36 100 (26013 : Int32)) fun x37 g38 =>
    (xpr g38 v0 [14] 28 x37).bind fun g39 =>
    xb2 (xnewa g39 100 (40 : Int32)) fun x40 g41 =>
    (xpr g41 v0 [14] 29 x40).bind fun g42 =>
    xb2 (xnewa g42 100 (12 : Int32)) fun x43 g44 =>
    (xpr g44 v0 [14] 30 x43).bind fun g45 =>
    (xpi g45 v0 [14] 32 ((-1) : Int32)).bind fun g46 =>
    xb2 (xnewa g46 100 (9 : Int32)) fun x47 g48 =>
    (xpr g48 v0 [14] 33 x47).bind fun g49 =>
    xb2 (xnewa g49 100 (9 : Int32)) fun x50 g51 =>
    (xpr g51 v0 [14] 34 x50).bind fun g52 =>
    xb2 (xnewa g52 100 (9 : Int32)) fun x53 g54 =>
    (xpr g54 v0 [14] 35 x53).bind fun g55 =>
    xb2 (xnewa g55 100 (9 : Int32)) fun x56 g57 =>
    (xpr g57 v0 [14] 36 x56).bind fun g58 =>
    xb2 (xnewa g58 100 (9 : Int32)) fun x59 g60 =>
    (xpr g60 v0 [14] 37 x59).bind fun g61 =>
    xb2 (xnewa g61 100 (9 : Int32)) fun x62 g63 =>
    (xpr g63 v0 [14] 38 x62).bind fun g64 =>
    xb2 (xnewa g64 100 (240 : Int32)) fun x65 g66 =>
    (xpr g66 v0 [14] 42 x65).bind fun g67 =>
    some (((), g67)))
set_option maxHeartbeats 4000000 in
theorem ct_X8_init {l : Launch} {D : XD} {v0 : Nat} {h0 : AH} {a : Unit} {h1 : AH} (hF : fM_init v0 h0 = some (a, h1)) : XCt l D yX8_init (ws_ yX8_init cX8_init 1 none) 1 12 [xR v0] h0 (.inl none) h1 := by
  refine x_method (by decide) (Nat.le_of_ble_eq_true rfl) fun p e R s m args below meth c K hr hnm hex => ?_
  have K : XO p R s m args meth c D 1 h0 cX8_init "FaceCoinsModel" 1 12 := K
  generalize hQ : XMQ below _ _ _ _ _ _ = Q
  refine (?_ : XF p l e R s m args below meth c D 1 h0 Q 0 [(0, xR v0)] [] h0 (fM_init v0 h0) (XEnd below s D h0 (fun _ => .inl none) Q)) (a, h1) hF hQ.symm
  unfold fM_init
  refine x_aload_n (pc' := 1) K 0 dX8_init_0 rfl rfl ?_
  refine x_oinit (pc' := 4) K q1310 q129 q130 dX8_init_1 rfl (by decide) (by decide) ?_
  refine x_aload_n (pc' := 5) K 0 dX8_init_4 rfl rfl ?_
  refine x_sipush (pc' := 8) (v := 740) K dX8_init_5 rfl (by decide) ?_
  refine x_iarr (pc' := 10) K q417 dX8_init_8 rfl (fun x1 g2 => ?_)
  refine x_putr (pc' := 13) K fp_14_1 (Or.inl (K.2.2.2.2.1 _ q1313)) (fun _ h9 => h9) (Or.inr ⟨rfl, hnm, rfl, K.2.2.2.2.1 _ q1313⟩) dX8_init_10 rfl (fun g3 => ?_)
  refine x_aload_n (pc' := 14) K 0 dX8_init_13 rfl rfl ?_
  refine x_sipush (pc' := 17) (v := 8140) K dX8_init_14 rfl (by decide) ?_
  refine x_iarr (pc' := 19) K q417 dX8_init_17 rfl (fun x4 g5 => ?_)
  refine x_putr (pc' := 22) K fp_14_14 (Or.inl (K.2.2.2.2.1 _ q1326)) (fun _ h9 => h9) (Or.inr ⟨rfl, hnm, rfl, K.2.2.2.2.1 _ q1326⟩) dX8_init_19 rfl (fun g6 => ?_)
  refine x_aload_n (pc' := 23) K 0 dX8_init_22 rfl rfl ?_
  refine x_bipush (pc' := 25) (v := 108) K dX8_init_23 rfl (by decide) ?_
  refine x_iarr (pc' := 27) K q417 dX8_init_25 rfl (fun x7 g8 => ?_)
  refine x_putr (pc' := 30) K fp_14_15 (Or.inl (K.2.2.2.2.1 _ q1327)) (fun _ h9 => h9) (Or.inr ⟨rfl, hnm, rfl, K.2.2.2.2.1 _ q1327⟩) dX8_init_27 rfl (fun g9 => ?_)
  refine x_aload_n (pc' := 31) K 0 dX8_init_30 rfl rfl ?_
  refine x_sipush (pc' := 34) (v := 16280) K dX8_init_31 rfl (by decide) ?_
  refine x_iarr (pc' := 36) K q417 dX8_init_34 rfl (fun x10 g11 => ?_)
  refine x_putr (pc' := 39) K fp_14_16 (Or.inl (K.2.2.2.2.1 _ q1328)) (fun _ h9 => h9) (Or.inr ⟨rfl, hnm, rfl, K.2.2.2.2.1 _ q1328⟩) dX8_init_36 rfl (fun g12 => ?_)
  refine x_aload_n (pc' := 40) K 0 dX8_init_39 rfl rfl ?_
  refine x_ldc (pc' := 42) K q1311 dX8_init_40 rfl ?_
  refine x_iarr (pc' := 44) K q417 dX8_init_42 rfl (fun x13 g14 => ?_)
  refine x_putr (pc' := 47) K fp_14_17 (Or.inl (K.2.2.2.2.1 _ q1329)) (fun _ h9 => h9) (Or.inr ⟨rfl, hnm, rfl, K.2.2.2.2.1 _ q1329⟩) dX8_init_44 rfl (fun g15 => ?_)
  refine x_aload_n (pc' := 48) K 0 dX8_init_47 rfl rfl ?_
  refine x_bipush (pc' := 50) (v := 12) K dX8_init_48 rfl (by decide) ?_
  refine x_jarr (pc' := 52) K q1454 dX8_init_50 rfl (fun x16 g17 => ?_)
  refine x_putr (pc' := 55) K fp_14_18 (Or.inl (K.2.2.2.2.1 _ q1330)) (fun _ h9 => h9) (Or.inr ⟨rfl, hnm, rfl, K.2.2.2.2.1 _ q1330⟩) dX8_init_52 rfl (fun g18 => ?_)
  refine x_aload_n (pc' := 56) K 0 dX8_init_55 rfl rfl ?_
  refine x_bipush (pc' := 58) (v := 12) K dX8_init_56 rfl (by decide) ?_
  refine x_jarr (pc' := 60) K q1454 dX8_init_58 rfl (fun x19 g20 => ?_)
  refine x_putr (pc' := 63) K fp_14_19 (Or.inl (K.2.2.2.2.1 _ q1331)) (fun _ h9 => h9) (Or.inr ⟨rfl, hnm, rfl, K.2.2.2.2.1 _ q1331⟩) dX8_init_60 rfl (fun g21 => ?_)
  refine x_aload_n (pc' := 64) K 0 dX8_init_63 rfl rfl ?_
  refine x_bipush (pc' := 66) (v := 24) K dX8_init_64 rfl (by decide) ?_
  refine x_jarr (pc' := 68) K q1454 dX8_init_66 rfl (fun x22 g23 => ?_)
  refine x_putr (pc' := 71) K fp_14_20 (Or.inl (K.2.2.2.2.1 _ q1332)) (fun _ h9 => h9) (Or.inr ⟨rfl, hnm, rfl, K.2.2.2.2.1 _ q1332⟩) dX8_init_68 rfl (fun g24 => ?_)
  refine x_aload_n (pc' := 72) K 0 dX8_init_71 rfl rfl ?_
  refine x_iconst (pc' := 73) (v := 2) K dX8_init_72 rfl rfl ?_
  refine x_zarr (pc' := 75) K q418 dX8_init_73 rfl (fun x25 g26 => ?_)
  refine x_putr (pc' := 78) K fp_14_21 (Or.inl (K.2.2.2.2.1 _ q1333)) (fun _ h9 => h9) (Or.inr ⟨rfl, hnm, rfl, K.2.2.2.2.1 _ q1333⟩) dX8_init_75 rfl (fun g27 => ?_)
  refine x_aload_n (pc' := 79) K 0 dX8_init_78 rfl rfl ?_
  refine x_bipush (pc' := 81) (v := 40) K dX8_init_79 rfl (by decide) ?_
  refine x_iarr (pc' := 83) K q417 dX8_init_81 rfl (fun x28 g29 => ?_)
  refine x_putr (pc' := 86) K fp_14_25 (Or.inl (K.2.2.2.2.1 _ q1337)) (fun _ h9 => h9) (Or.inr ⟨rfl, hnm, rfl, K.2.2.2.2.1 _ q1337⟩) dX8_init_83 rfl (fun g30 => ?_)
  refine x_aload_n (pc' := 87) K 0 dX8_init_86 rfl rfl ?_
  refine x_bipush (pc' := 89) (v := 12) K dX8_init_87 rfl (by decide) ?_
  refine x_iarr (pc' := 91) K q417 dX8_init_89 rfl (fun x31 g32 => ?_)
  refine x_putr (pc' := 94) K fp_14_26 (Or.inl (K.2.2.2.2.1 _ q1338)) (fun _ h9 => h9) (Or.inr ⟨rfl, hnm, rfl, K.2.2.2.2.1 _ q1338⟩) dX8_init_91 rfl (fun g33 => ?_)
  refine x_aload_n (pc' := 95) K 0 dX8_init_94 rfl rfl ?_
  refine x_bipush (pc' := 97) (v := 72) K dX8_init_95 rfl (by decide) ?_
  refine x_iarr (pc' := 99) K q417 dX8_init_97 rfl (fun x34 g35 => ?_)
  refine x_putr (pc' := 102) K fp_14_27 (Or.inl (K.2.2.2.2.1 _ q1339)) (fun _ h9 => h9) (Or.inr ⟨rfl, hnm, rfl, K.2.2.2.2.1 _ q1339⟩) dX8_init_99 rfl (fun g36 => ?_)
  refine x_aload_n (pc' := 103) K 0 dX8_init_102 rfl rfl ?_
  refine x_sipush (pc' := 106) (v := 26013) K dX8_init_103 rfl (by decide) ?_
  refine x_iarr (pc' := 108) K q417 dX8_init_106 rfl (fun x37 g38 => ?_)
  refine x_putr (pc' := 111) K fp_14_28 (Or.inl (K.2.2.2.2.1 _ q1340)) (fun _ h9 => h9) (Or.inr ⟨rfl, hnm, rfl, K.2.2.2.2.1 _ q1340⟩) dX8_init_108 rfl (fun g39 => ?_)
  refine x_aload_n (pc' := 112) K 0 dX8_init_111 rfl rfl ?_
  refine x_bipush (pc' := 114) (v := 40) K dX8_init_112 rfl (by decide) ?_
  refine x_iarr (pc' := 116) K q417 dX8_init_114 rfl (fun x40 g41 => ?_)
  refine x_putr (pc' := 119) K fp_14_29 (Or.inl (K.2.2.2.2.1 _ q1341)) (fun _ h9 => h9) (Or.inr ⟨rfl, hnm, rfl, K.2.2.2.2.1 _ q1341⟩) dX8_init_116 rfl (fun g42 => ?_)
  refine x_aload_n (pc' := 120) K 0 dX8_init_119 rfl rfl ?_
  refine x_bipush (pc' := 122) (v := 12) K dX8_init_120 rfl (by decide) ?_
  refine x_iarr (pc' := 124) K q417 dX8_init_122 rfl (fun x43 g44 => ?_)
  refine x_putr (pc' := 127) K fp_14_30 (Or.inl (K.2.2.2.2.1 _ q1342)) (fun _ h9 => h9) (Or.inr ⟨rfl, hnm, rfl, K.2.2.2.2.1 _ q1342⟩) dX8_init_124 rfl (fun g45 => ?_)
  refine x_aload_n (pc' := 128) K 0 dX8_init_127 rfl rfl ?_
  refine x_iconst (pc' := 129) (v := (-1)) K dX8_init_128 rfl rfl ?_
  refine x_puti (pc' := 132) K fp_14_32 (Or.inl (K.2.2.2.2.1 _ q1344)) (fun _ h9 => h9) (Or.inl rfl) dX8_init_129 rfl (fun g46 => ?_)
  refine x_aload_n (pc' := 133) K 0 dX8_init_132 rfl rfl ?_
  refine x_bipush (pc' := 135) (v := 9) K dX8_init_133 rfl (by decide) ?_
  refine x_iarr (pc' := 137) K q417 dX8_init_135 rfl (fun x47 g48 => ?_)
  refine x_putr (pc' := 140) K fp_14_33 (Or.inl (K.2.2.2.2.1 _ q1345)) (fun _ h9 => h9) (Or.inr ⟨rfl, hnm, rfl, K.2.2.2.2.1 _ q1345⟩) dX8_init_137 rfl (fun g49 => ?_)
  refine x_aload_n (pc' := 141) K 0 dX8_init_140 rfl rfl ?_
  refine x_bipush (pc' := 143) (v := 9) K dX8_init_141 rfl (by decide) ?_
  refine x_iarr (pc' := 145) K q417 dX8_init_143 rfl (fun x50 g51 => ?_)
  refine x_putr (pc' := 148) K fp_14_34 (Or.inl (K.2.2.2.2.1 _ q1346)) (fun _ h9 => h9) (Or.inr ⟨rfl, hnm, rfl, K.2.2.2.2.1 _ q1346⟩) dX8_init_145 rfl (fun g52 => ?_)
  refine x_aload_n (pc' := 149) K 0 dX8_init_148 rfl rfl ?_
  refine x_bipush (pc' := 151) (v := 9) K dX8_init_149 rfl (by decide) ?_
  refine x_iarr (pc' := 153) K q417 dX8_init_151 rfl (fun x53 g54 => ?_)
  refine x_putr (pc' := 156) K fp_14_35 (Or.inl (K.2.2.2.2.1 _ q1347)) (fun _ h9 => h9) (Or.inr ⟨rfl, hnm, rfl, K.2.2.2.2.1 _ q1347⟩) dX8_init_153 rfl (fun g55 => ?_)
  refine x_aload_n (pc' := 157) K 0 dX8_init_156 rfl rfl ?_
  refine x_bipush (pc' := 159) (v := 9) K dX8_init_157 rfl (by decide) ?_
  refine x_iarr (pc' := 161) K q417 dX8_init_159 rfl (fun x56 g57 => ?_)
  refine x_putr (pc' := 164) K fp_14_36 (Or.inl (K.2.2.2.2.1 _ q1348)) (fun _ h9 => h9) (Or.inr ⟨rfl, hnm, rfl, K.2.2.2.2.1 _ q1348⟩) dX8_init_161 rfl (fun g58 => ?_)
  refine x_aload_n (pc' := 165) K 0 dX8_init_164 rfl rfl ?_
  refine x_bipush (pc' := 167) (v := 9) K dX8_init_165 rfl (by decide) ?_
  refine x_iarr (pc' := 169) K q417 dX8_init_167 rfl (fun x59 g60 => ?_)
  refine x_putr (pc' := 172) K fp_14_37 (Or.inl (K.2.2.2.2.1 _ q1349)) (fun _ h9 => h9) (Or.inr ⟨rfl, hnm, rfl, K.2.2.2.2.1 _ q1349⟩) dX8_init_169 rfl (fun g61 => ?_)
  refine x_aload_n (pc' := 173) K 0 dX8_init_172 rfl rfl ?_
  refine x_bipush (pc' := 175) (v := 9) K dX8_init_173 rfl (by decide) ?_
  refine x_iarr (pc' := 177) K q417 dX8_init_175 rfl (fun x62 g63 => ?_)
  refine x_putr (pc' := 180) K fp_14_38 (Or.inl (K.2.2.2.2.1 _ q1350)) (fun _ h9 => h9) (Or.inr ⟨rfl, hnm, rfl, K.2.2.2.2.1 _ q1350⟩) dX8_init_177 rfl (fun g64 => ?_)
  refine x_aload_n (pc' := 181) K 0 dX8_init_180 rfl rfl ?_
  refine x_sipush (pc' := 184) (v := 240) K dX8_init_181 rfl (by decide) ?_
  refine x_iarr (pc' := 186) K q417 dX8_init_184 rfl (fun x65 g66 => ?_)
  refine x_putr (pc' := 189) K fp_14_42 (Or.inl (K.2.2.2.2.1 _ q1354)) (fun _ h9 => h9) (Or.inr ⟨rfl, hnm, rfl, K.2.2.2.2.1 _ q1354⟩) dX8_init_186 rfl (fun g67 => ?_)
  exact x_vret K rfl hr dX8_init_189
/-! FaceCoinsModel.thrown()I -/
noncomputable def fM_thrown (v0 : Nat) (h0 : AH) : Option Int32 :=
  (xgi h0 v0 [14] 0).bind fun x1 =>
  some (x1)
set_option maxHeartbeats 4000000 in
theorem ct_X8_thrown {l : Launch} {D : XD} {v0 : Nat} {h0 : AH} {a : Int32} (hF : fM_thrown v0 h0 = some a) : XCt l D yX8_thrown (ws_ yX8_thrown cX8_thrown 1 (some .int)) 0 0 [xR v0] h0 (.inl (some (xI a))) h0 := by
  refine x_method (by decide) (Nat.le_of_ble_eq_true rfl) fun p e R s m args below meth c K hr hnm hex => ?_
  have K : XO p R s m args meth c D 1 h0 cX8_thrown "FaceCoinsModel" 0 0 := K
  generalize hQ : XMQ below _ _ _ _ _ _ = Q
  refine (?_ : XF p l e R s m args below meth c D 1 h0 Q 0 [(0, xR v0)] [] h0 (fM_thrown v0 h0) (fun z => XEnd below s D h0 (fun v => .inl (some (xI v))) Q (z, h0))) a hF hQ.symm
  unfold fM_thrown
  refine x_aload_n (pc' := 1) K 0 dX8_thrown_0 rfl rfl ?_
  refine x_geti (pc' := 4) K fg_14_0 (Or.inl (K.2.2.2.2.1 _ q1312)) (fun _ h9 => h9) dX8_thrown_1 rfl (fun x1 => ?_)
  exact x_ro (C9 := XEnd below s D h0 (fun v => .inl (some (xI v))) Q) (x_iret K rfl hr dX8_thrown_4)
/-! FaceCoinsModel.come(I)V -/
noncomputable def fM_come_l3 (v0 : Nat) (v1 : Int32) (v2 : Int32) (g : AH) : Option ((Nat × Int32 × Int32 × AH) ⊕ AH) :=
  if v2 < 0 then (
    some (Sum.inr g))
  else (
    (xgr g v0 [14] 1).bind fun x1 =>
    (xgi g v0 [14] 2).bind fun x2 =>
    (xsi g x1 x2 (((Int32.toUInt32 v1 >>> (Int32.toUInt32 v2 &&& Int32.toUInt32 31)).toInt32) &&& (255 : Int32))).bind fun g3 =>
    (xgi g3 v0 [14] 2).bind fun x4 =>
    (xpi g3 v0 [14] 2 (x4 + (1 : Int32))).bind fun g5 =>
    some (Sum.inl (v0, v1, (v2 + (-8)), g5)))
noncomputable def fM_come_a39  (g : AH) : Option (Unit × AH) :=
  some (((), g))
noncomputable def fM_come (v0 : Nat) (v1 : Int32) (h0 : AH) : Option (Unit × AH) :=
  (xloop (fun s9 : (Nat × Int32 × Int32 × AH) => fM_come_l3 s9.1 s9.2.1 s9.2.2.1 s9.2.2.2) (v0, v1, (24 : Int32), h0)).bind (fun r9 : AH => fM_come_a39 r9)
set_option maxHeartbeats 4000000 in
theorem ct_X8_come {l : Launch} {D : XD} {v0 : Nat} {v1 : Int32} {h0 : AH} {a : Unit} {h1 : AH} (hF : fM_come v0 v1 h0 = some (a, h1)) : XCt l D yX8_come (ws_ yX8_come cX8_come 3 none) 0 0 [xR v0, xI v1] h0 (.inl none) h1 := by
  refine x_method (by decide) (Nat.le_of_ble_eq_true rfl) fun p e R s m args below meth c K hr hnm hex => ?_
  have K : XO p R s m args meth c D 3 h0 cX8_come "FaceCoinsModel" 0 0 := K
  generalize hQ : XMQ below _ _ _ _ _ _ = Q
  have hL3 : ∀ (C1 : ((Nat × Int32 × Int32 × AH) ⊕ AH) → Prop) (hj1 : ∀ s9 : (Nat × Int32 × Int32 × AH), C1 (Sum.inl s9) → XG p l e R s m args below meth c D 3 h0 Q 3 [(0, xR s9.1), (1, xI s9.2.1), (2, xI s9.2.2.1)] [] s9.2.2.2) (he1 : ∀ r9 : AH, C1 (Sum.inr r9) → XG p l e R s m args below meth c D 3 h0 Q 39 [] [] r9) (v0 : Nat) (v1 : Int32) (v2 : Int32) (g : AH), XF p l e R s m args below meth c D 3 h0 Q 3 [(0, xR v0), (1, xI v1), (2, xI v2)] [] g (fM_come_l3 v0 v1 v2 g) C1 := by
    intro C1 hj1 he1
    intro v0 v1 v2 g
    unfold fM_come_l3
    refine x_iload_n (pc' := 4) K 2 dX8_come_3 rfl rfl ?_
    refine x_if_lt (tgt := 39) (pc' := 7) K dX8_come_4 rfl (by decide) ?_ ?_
    · refine x_sub (lv' := []) [] rfl ?_
      exact x_jump (fun hz => he1 g hz)
    · refine x_aload_n (pc' := 8) K 0 dX8_come_7 rfl rfl ?_
      refine x_getr (pc' := 11) K fg_14_1 (Or.inl (K.2.2.2.2.1 _ q1313)) (fun _ h9 => h9) dX8_come_8 rfl (fun x1 => ?_)
      refine x_aload_n (pc' := 12) K 0 dX8_come_11 rfl rfl ?_
      refine x_geti (pc' := 15) K fg_14_2 (Or.inl (K.2.2.2.2.1 _ q1314)) (fun _ h9 => h9) dX8_come_12 rfl (fun x2 => ?_)
      refine x_iload_n (pc' := 16) K 1 dX8_come_15 rfl rfl ?_
      refine x_iload_n (pc' := 17) K 2 dX8_come_16 rfl rfl ?_
      refine x_iushr (pc' := 18) K dX8_come_17 rfl ?_
      refine x_sipush (pc' := 21) (v := 255) K dX8_come_18 rfl (by decide) ?_
      refine x_iand (pc' := 22) K dX8_come_21 rfl ?_
      refine x_iast (pc' := 23) K dX8_come_22 rfl (fun g3 => ?_)
      refine x_aload_n (pc' := 24) K 0 dX8_come_23 rfl rfl ?_
      refine x_dup (pc' := 25) K dX8_come_24 rfl rfl ?_
      refine x_geti (pc' := 28) K fg_14_2 (Or.inl (K.2.2.2.2.1 _ q1314)) (fun _ h9 => h9) dX8_come_25 rfl (fun x4 => ?_)
      refine x_iconst (pc' := 29) (v := 1) K dX8_come_28 rfl rfl ?_
      refine x_iadd (pc' := 30) K dX8_come_29 rfl ?_
      refine x_puti (pc' := 33) K fp_14_2 (Or.inl (K.2.2.2.2.1 _ q1314)) (fun _ h9 => h9) (Or.inl rfl) dX8_come_30 rfl (fun g5 => ?_)
      refine x_iinc (pc' := 36) (y := (-8)) (lv' := [(2, xI (v2 + (-8))), (0, xR v0), (1, xI v1)]) K 2 dX8_come_33 rfl rfl (by decide) (by decide) rfl ?_
      refine x_goto (tgt := 3) K dX8_come_36 (by decide) ?_
      refine x_sub (lv' := [(0, xR v0), (1, xI v1), (2, xI (v2 + (-8)))]) [1, 2, 0] rfl ?_
      exact x_jump (fun hz => hj1 (v0, v1, (v2 + (-8)), g5) hz)
  have hA39_0 : ∀  (g : AH), XF p l e R s m args below meth c D 3 h0 Q 39 [] [] g (fM_come_a39 g) (XEnd below s D h0 (fun _ => .inl none) Q) := by
    intro  g
    unfold fM_come_a39
    exact x_vret K rfl hr dX8_come_39
  refine (?_ : XF p l e R s m args below meth c D 3 h0 Q 0 [(0, xR v0), (1, xI v1)] [] h0 (fM_come v0 v1 h0) (XEnd below s D h0 (fun _ => .inl none) Q)) (a, h1) hF hQ.symm
  unfold fM_come
  refine x_bipush (pc' := 2) (v := 24) K dX8_come_0 rfl (by decide) ?_
  refine x_istore_n (pc' := 3) (lv' := [(2, xI (24 : Int32)), (0, xR v0), (1, xI v1)]) K dX8_come_2 rfl (by decide) rfl ?_
  refine x_sub (lv' := [(0, xR v0), (1, xI v1), (2, xI (24 : Int32))]) [1, 2, 0] rfl ?_
  exact x_loop (pl := (fun s9 : (Nat × Int32 × Int32 × AH) => [(0, xR s9.1), (1, xI s9.2.1), (2, xI s9.2.2.1)])) (ph := (fun s9 : (Nat × Int32 × Int32 × AH) => s9.2.2.2)) (fun r9 : AH => XG p l e R s m args below meth c D 3 h0 Q 39 [] [] r9) (fun s9 => hL3 _ (fun _ hz => hz) (fun _ hz => hz) s9.1 s9.2.1 s9.2.2.1 s9.2.2.2) (fun r9 x hx hc => hA39_0 r9 x hx hc) (v0, v1, (24 : Int32), h0)
/-! FaceCoinsModel.feed(IIIII)I -/
noncomputable def fM_feed (v0 : Nat) (v1 : Int32) (v2 : Int32) (v3 : Int32) (v4 : Int32) (v5 : Int32) (h0 : AH) : Option (Int32 × AH) :=
  (xpi h0 v0 [14] 0 (0 : Int32)).bind fun g1 =>
  (xgi g1 v0 [14] 2).bind fun x2 =>
  if (x2 + (20 : Int32)) ≤ (740 : Int32) then (
    xb2 (xck g1 v0 14 (fM_come v0 v1 g1)) fun x_ g3 =>
    xb2 (xck g3 v0 14 (fM_come v0 v2 g3)) fun x_ g4 =>
    xb2 (xck g4 v0 14 (fM_come v0 v3 g4)) fun x_ g5 =>
    xb2 (xck g5 v0 14 (fM_come v0 v4 g5)) fun x_ g6 =>
    xb2 (xck g6 v0 14 (fM_come v0 v5 g6)) fun x_ g7 =>
    (xgi g7 v0 [14] 2).bind fun x8 =>
    some ((x8, g7)))
  else (
    some ((((-1) : Int32), g1)))
set_option maxHeartbeats 4000000 in
theorem ct_X8_feed {l : Launch} {D : XD} {v0 : Nat} {v1 : Int32} {v2 : Int32} {v3 : Int32} {v4 : Int32} {v5 : Int32} {h0 : AH} {a : Int32} {h1 : AH} (hF : fM_feed v0 v1 v2 v3 v4 v5 h0 = some (a, h1)) : XCt l D yX8_feed (ws_ yX8_feed cX8_feed 6 (some .int)) 1 22 [xR v0, xI v1, xI v2, xI v3, xI v4, xI v5] h0 (.inl (some (xI a))) h1 := by
  refine x_method (by decide) (Nat.le_of_ble_eq_true rfl) fun p e R s m args below meth c K hr hnm hex => ?_
  have K : XO p R s m args meth c D 6 h0 cX8_feed "FaceCoinsModel" 1 22 := K
  generalize hQ : XMQ below _ _ _ _ _ _ = Q
  refine (?_ : XF p l e R s m args below meth c D 6 h0 Q 0 [(0, xR v0), (1, xI v1), (2, xI v2), (3, xI v3), (4, xI v4), (5, xI v5)] [] h0 (fM_feed v0 v1 v2 v3 v4 v5 h0) (XEnd below s D h0 (fun v => .inl (some (xI v))) Q)) (a, h1) hF hQ.symm
  unfold fM_feed
  refine x_aload_n (pc' := 1) K 0 dX8_feed_0 rfl rfl ?_
  refine x_iconst (pc' := 2) (v := 0) K dX8_feed_1 rfl rfl ?_
  refine x_puti (pc' := 5) K fp_14_0 (Or.inl (K.2.2.2.2.1 _ q1312)) (fun _ h9 => h9) (Or.inl rfl) dX8_feed_2 rfl (fun g1 => ?_)
  refine x_aload_n (pc' := 6) K 0 dX8_feed_5 rfl rfl ?_
  refine x_geti (pc' := 9) K fg_14_2 (Or.inl (K.2.2.2.2.1 _ q1314)) (fun _ h9 => h9) dX8_feed_6 rfl (fun x2 => ?_)
  refine x_bipush (pc' := 11) (v := 20) K dX8_feed_9 rfl (by decide) ?_
  refine x_iadd (pc' := 12) K dX8_feed_11 rfl ?_
  refine x_sipush (pc' := 15) (v := 740) K dX8_feed_12 rfl (by decide) ?_
  refine x_icmp_le (tgt := 20) (pc' := 18) K dX8_feed_15 rfl (by decide) ?_ ?_
  · refine x_aload_n (pc' := 21) K 0 dX8_feed_20 rfl rfl ?_
    refine x_iload_n (pc' := 22) K 1 dX8_feed_21 rfl rfl ?_
    refine x_cV (pc' := 25) (As := [xI v1]) (en := (fun _ => none)) (rest := []) K (fun a h1 hF => ct_X8_come hF) rfl (by decide) q1463 q1465 qs29 q1466 q105 hy_X8_come (Nat.le_of_ble_eq_true rfl) (Nat.le_of_ble_eq_true rfl) (Nat.le_of_ble_eq_true rfl) dX8_feed_22 rfl (fun x_ g3 => ?_)
    refine x_aload_n (pc' := 26) K 0 dX8_feed_25 rfl rfl ?_
    refine x_iload_n (pc' := 27) K 2 dX8_feed_26 rfl rfl ?_
    refine x_cV (pc' := 30) (As := [xI v2]) (en := (fun _ => none)) (rest := []) K (fun a h1 hF => ct_X8_come hF) rfl (by decide) q1463 q1465 qs29 q1466 q105 hy_X8_come (Nat.le_of_ble_eq_true rfl) (Nat.le_of_ble_eq_true rfl) (Nat.le_of_ble_eq_true rfl) dX8_feed_27 rfl (fun x_ g4 => ?_)
    refine x_aload_n (pc' := 31) K 0 dX8_feed_30 rfl rfl ?_
    refine x_iload_n (pc' := 32) K 3 dX8_feed_31 rfl rfl ?_
    refine x_cV (pc' := 35) (As := [xI v3]) (en := (fun _ => none)) (rest := []) K (fun a h1 hF => ct_X8_come hF) rfl (by decide) q1463 q1465 qs29 q1466 q105 hy_X8_come (Nat.le_of_ble_eq_true rfl) (Nat.le_of_ble_eq_true rfl) (Nat.le_of_ble_eq_true rfl) dX8_feed_32 rfl (fun x_ g5 => ?_)
    refine x_aload_n (pc' := 36) K 0 dX8_feed_35 rfl rfl ?_
    refine x_iload (pc' := 38) K 4 dX8_feed_36 rfl rfl ?_
    refine x_cV (pc' := 41) (As := [xI v4]) (en := (fun _ => none)) (rest := []) K (fun a h1 hF => ct_X8_come hF) rfl (by decide) q1463 q1465 qs29 q1466 q105 hy_X8_come (Nat.le_of_ble_eq_true rfl) (Nat.le_of_ble_eq_true rfl) (Nat.le_of_ble_eq_true rfl) dX8_feed_38 rfl (fun x_ g6 => ?_)
    refine x_aload_n (pc' := 42) K 0 dX8_feed_41 rfl rfl ?_
    refine x_iload (pc' := 44) K 5 dX8_feed_42 rfl rfl ?_
    refine x_cV (pc' := 47) (As := [xI v5]) (en := (fun _ => none)) (rest := []) K (fun a h1 hF => ct_X8_come hF) rfl (by decide) q1463 q1465 qs29 q1466 q105 hy_X8_come (Nat.le_of_ble_eq_true rfl) (Nat.le_of_ble_eq_true rfl) (Nat.le_of_ble_eq_true rfl) dX8_feed_44 rfl (fun x_ g7 => ?_)
    refine x_aload_n (pc' := 48) K 0 dX8_feed_47 rfl rfl ?_
    refine x_geti (pc' := 51) K fg_14_2 (Or.inl (K.2.2.2.2.1 _ q1314)) (fun _ h9 => h9) dX8_feed_48 rfl (fun x8 => ?_)
    exact x_iret K rfl hr dX8_feed_51
  · refine x_iconst (pc' := 19) (v := (-1)) K dX8_feed_18 rfl rfl ?_
    exact x_iret K rfl hr dX8_feed_19
/-! FaceCoinsModel.end(I)Z -/
noncomputable def fM_end (v0 : Nat) (v1 : Int32) (h0 : AH) : Option (Int32 × AH) :=
  (xpi h0 v0 [14] 0 (0 : Int32)).bind fun g1 =>
  if v1 < 0 then (
    some (((0 : Int32), g1)))
  else (
    (xgi g1 v0 [14] 2).bind fun x2 =>
    if v1 ≤ x2 then (
      (xpi g1 v0 [14] 2 v1).bind fun g3 =>
      some (((1 : Int32), g3)))
    else (
      some (((0 : Int32), g1))))
set_option maxHeartbeats 4000000 in
theorem ct_X8_end {l : Launch} {D : XD} {v0 : Nat} {v1 : Int32} {h0 : AH} {a : Int32} {h1 : AH} (hF : fM_end v0 v1 h0 = some (a, h1)) : XCt l D yX8_end (ws_ yX8_end cX8_end 2 (some .boolean)) 0 0 [xR v0, xI v1] h0 (.inl (some (xI a))) h1 := by
  refine x_method (by decide) (Nat.le_of_ble_eq_true rfl) fun p e R s m args below meth c K hr hnm hex => ?_
  have K : XO p R s m args meth c D 2 h0 cX8_end "FaceCoinsModel" 0 0 := K
  generalize hQ : XMQ below _ _ _ _ _ _ = Q
  refine (?_ : XF p l e R s m args below meth c D 2 h0 Q 0 [(0, xR v0), (1, xI v1)] [] h0 (fM_end v0 v1 h0) (XEnd below s D h0 (fun v => .inl (some (xI v))) Q)) (a, h1) hF hQ.symm
  unfold fM_end
  refine x_aload_n (pc' := 1) K 0 dX8_end_0 rfl rfl ?_
  refine x_iconst (pc' := 2) (v := 0) K dX8_end_1 rfl rfl ?_
  refine x_puti (pc' := 5) K fp_14_0 (Or.inl (K.2.2.2.2.1 _ q1312)) (fun _ h9 => h9) (Or.inl rfl) dX8_end_2 rfl (fun g1 => ?_)
  refine x_iload_n (pc' := 6) K 1 dX8_end_5 rfl rfl ?_
  refine x_if_lt (tgt := 17) (pc' := 9) K dX8_end_6 rfl (by decide) ?_ ?_
  · refine x_iconst (pc' := 18) (v := 0) K dX8_end_17 rfl rfl ?_
    exact x_zret K (Or.inl rfl) rfl hr dX8_end_18
  · refine x_iload_n (pc' := 10) K 1 dX8_end_9 rfl rfl ?_
    refine x_aload_n (pc' := 11) K 0 dX8_end_10 rfl rfl ?_
    refine x_geti (pc' := 14) K fg_14_2 (Or.inl (K.2.2.2.2.1 _ q1314)) (fun _ h9 => h9) dX8_end_11 rfl (fun x2 => ?_)
    refine x_icmp_le (tgt := 19) (pc' := 17) K dX8_end_14 rfl (by decide) ?_ ?_
    · refine x_aload_n (pc' := 20) K 0 dX8_end_19 rfl rfl ?_
      refine x_iload_n (pc' := 21) K 1 dX8_end_20 rfl rfl ?_
      refine x_puti (pc' := 24) K fp_14_2 (Or.inl (K.2.2.2.2.1 _ q1314)) (fun _ h9 => h9) (Or.inl rfl) dX8_end_21 rfl (fun g3 => ?_)
      refine x_iconst (pc' := 25) (v := 1) K dX8_end_24 rfl rfl ?_
      exact x_zret K (Or.inr rfl) rfl hr dX8_end_25
    · refine x_iconst (pc' := 18) (v := 0) K dX8_end_17 rfl rfl ?_
      exact x_zret K (Or.inl rfl) rfl hr dX8_end_18
/-! FaceCoinsModel.byteAt(I)I -/
noncomputable def fM_byteAt (v0 : Nat) (v1 : Int32) (h0 : AH) : Option Int32 :=
  (xgi h0 v0 [14] 3).bind fun x1 =>
  if x1 ≤ v1 then (
    some ((0 : Int32)))
  else (
    (xgr h0 v0 [14] 1).bind fun x2 =>
    (xai h0 x2 100 v1).bind fun x3 =>
    some (x3))
set_option maxHeartbeats 4000000 in
theorem ct_X8_byteAt {l : Launch} {D : XD} {v0 : Nat} {v1 : Int32} {h0 : AH} {a : Int32} (hF : fM_byteAt v0 v1 h0 = some a) : XCt l D yX8_byteAt (ws_ yX8_byteAt cX8_byteAt 2 (some .int)) 0 0 [xR v0, xI v1] h0 (.inl (some (xI a))) h0 := by
  refine x_method (by decide) (Nat.le_of_ble_eq_true rfl) fun p e R s m args below meth c K hr hnm hex => ?_
  have K : XO p R s m args meth c D 2 h0 cX8_byteAt "FaceCoinsModel" 0 0 := K
  generalize hQ : XMQ below _ _ _ _ _ _ = Q
  refine (?_ : XF p l e R s m args below meth c D 2 h0 Q 0 [(0, xR v0), (1, xI v1)] [] h0 (fM_byteAt v0 v1 h0) (fun z => XEnd below s D h0 (fun v => .inl (some (xI v))) Q (z, h0))) a hF hQ.symm
  unfold fM_byteAt
  refine x_iload_n (pc' := 1) K 1 dX8_byteAt_0 rfl rfl ?_
  refine x_aload_n (pc' := 2) K 0 dX8_byteAt_1 rfl rfl ?_
  refine x_geti (pc' := 5) K fg_14_3 (Or.inl (K.2.2.2.2.1 _ q1315)) (fun _ h9 => h9) dX8_byteAt_2 rfl (fun x1 => ?_)
  refine x_icmp_ge (tgt := 17) (pc' := 8) K dX8_byteAt_5 rfl (by decide) ?_ ?_
  · refine x_iconst (pc' := 18) (v := 0) K dX8_byteAt_17 rfl rfl ?_
    exact x_ro (C9 := XEnd below s D h0 (fun v => .inl (some (xI v))) Q) (x_iret K rfl hr dX8_byteAt_18)
  · refine x_aload_n (pc' := 9) K 0 dX8_byteAt_8 rfl rfl ?_
    refine x_getr (pc' := 12) K fg_14_1 (Or.inl (K.2.2.2.2.1 _ q1313)) (fun _ h9 => h9) dX8_byteAt_9 rfl (fun x2 => ?_)
    refine x_iload_n (pc' := 13) K 1 dX8_byteAt_12 rfl rfl ?_
    refine x_iald (pc' := 14) K dX8_byteAt_13 rfl (fun x3 => ?_)
    refine x_goto (tgt := 18) K dX8_byteAt_14 (by decide) ?_
    exact x_ro (C9 := XEnd below s D h0 (fun v => .inl (some (xI v))) Q) (x_iret K rfl hr dX8_byteAt_18)
/-! FaceCoinsModel.isDigit(I)Z -/
noncomputable def fM_isDigit (v0 : Int32) (h0 : AH) : Option Int32 :=
  if v0 < (48 : Int32) then (
    some ((0 : Int32)))
  else (
    if (57 : Int32) < v0 then (
      some ((0 : Int32)))
    else (
      some ((1 : Int32))))
set_option maxHeartbeats 4000000 in
theorem ct_X8_isDigit {l : Launch} {D : XD} {v0 : Int32} {h0 : AH} {a : Int32} (hF : fM_isDigit v0 h0 = some a) : XCt l D yX8_isDigit (ws_ yX8_isDigit cX8_isDigit 1 (some .boolean)) 0 0 [xI v0] h0 (.inl (some (xI a))) h0 := by
  refine x_method (by decide) (Nat.le_of_ble_eq_true rfl) fun p e R s m args below meth c K hr hnm hex => ?_
  have K : XO p R s m args meth c D 1 h0 cX8_isDigit "FaceCoinsModel" 0 0 := K
  generalize hQ : XMQ below _ _ _ _ _ _ = Q
  refine (?_ : XF p l e R s m args below meth c D 1 h0 Q 0 [(0, xI v0)] [] h0 (fM_isDigit v0 h0) (fun z => XEnd below s D h0 (fun v => .inl (some (xI v))) Q (z, h0))) a hF hQ.symm
  unfold fM_isDigit
  refine x_iload_n (pc' := 1) K 0 dX8_isDigit_0 rfl rfl ?_
  refine x_bipush (pc' := 3) (v := 48) K dX8_isDigit_1 rfl (by decide) ?_
  refine x_icmp_lt (tgt := 16) (pc' := 6) K dX8_isDigit_3 rfl (by decide) ?_ ?_
  · refine x_iconst (pc' := 17) (v := 0) K dX8_isDigit_16 rfl rfl ?_
    exact x_ro (C9 := XEnd below s D h0 (fun v => .inl (some (xI v))) Q) (x_zret K (Or.inl rfl) rfl hr dX8_isDigit_17)
  · refine x_iload_n (pc' := 7) K 0 dX8_isDigit_6 rfl rfl ?_
    refine x_bipush (pc' := 9) (v := 57) K dX8_isDigit_7 rfl (by decide) ?_
    refine x_icmp_gt (tgt := 16) (pc' := 12) K dX8_isDigit_9 rfl (by decide) ?_ ?_
    · refine x_iconst (pc' := 17) (v := 0) K dX8_isDigit_16 rfl rfl ?_
      exact x_ro (C9 := XEnd below s D h0 (fun v => .inl (some (xI v))) Q) (x_zret K (Or.inl rfl) rfl hr dX8_isDigit_17)
    · refine x_iconst (pc' := 13) (v := 1) K dX8_isDigit_12 rfl rfl ?_
      refine x_goto (tgt := 17) K dX8_isDigit_13 (by decide) ?_
      exact x_ro (C9 := XEnd below s D h0 (fun v => .inl (some (xI v))) Q) (x_zret K (Or.inr rfl) rfl hr dX8_isDigit_17)
/-! FaceCoinsModel.isLetter(I)Z -/
noncomputable def fM_isLetter (v0 : Int32) (h0 : AH) : Option Int32 :=
  if v0 < (97 : Int32) then (
    some ((0 : Int32)))
  else (
    if (122 : Int32) < v0 then (
      some ((0 : Int32)))
    else (
      some ((1 : Int32))))
set_option maxHeartbeats 4000000 in
theorem ct_X8_isLetter {l : Launch} {D : XD} {v0 : Int32} {h0 : AH} {a : Int32} (hF : fM_isLetter v0 h0 = some a) : XCt l D yX8_isLetter (ws_ yX8_isLetter cX8_isLetter 1 (some .boolean)) 0 0 [xI v0] h0 (.inl (some (xI a))) h0 := by
  refine x_method (by decide) (Nat.le_of_ble_eq_true rfl) fun p e R s m args below meth c K hr hnm hex => ?_
  have K : XO p R s m args meth c D 1 h0 cX8_isLetter "FaceCoinsModel" 0 0 := K
  generalize hQ : XMQ below _ _ _ _ _ _ = Q
  refine (?_ : XF p l e R s m args below meth c D 1 h0 Q 0 [(0, xI v0)] [] h0 (fM_isLetter v0 h0) (fun z => XEnd below s D h0 (fun v => .inl (some (xI v))) Q (z, h0))) a hF hQ.symm
  unfold fM_isLetter
  refine x_iload_n (pc' := 1) K 0 dX8_isLetter_0 rfl rfl ?_
  refine x_bipush (pc' := 3) (v := 97) K dX8_isLetter_1 rfl (by decide) ?_
  refine x_icmp_lt (tgt := 16) (pc' := 6) K dX8_isLetter_3 rfl (by decide) ?_ ?_
  · refine x_iconst (pc' := 17) (v := 0) K dX8_isLetter_16 rfl rfl ?_
    exact x_ro (C9 := XEnd below s D h0 (fun v => .inl (some (xI v))) Q) (x_zret K (Or.inl rfl) rfl hr dX8_isLetter_17)
  · refine x_iload_n (pc' := 7) K 0 dX8_isLetter_6 rfl rfl ?_
    refine x_bipush (pc' := 9) (v := 122) K dX8_isLetter_7 rfl (by decide) ?_
    refine x_icmp_gt (tgt := 16) (pc' := 12) K dX8_isLetter_9 rfl (by decide) ?_ ?_
    · refine x_iconst (pc' := 17) (v := 0) K dX8_isLetter_16 rfl rfl ?_
      exact x_ro (C9 := XEnd below s D h0 (fun v => .inl (some (xI v))) Q) (x_zret K (Or.inl rfl) rfl hr dX8_isLetter_17)
    · refine x_iconst (pc' := 13) (v := 1) K dX8_isLetter_12 rfl rfl ?_
      refine x_goto (tgt := 17) K dX8_isLetter_13 (by decide) ?_
      exact x_ro (C9 := XEnd below s D h0 (fun v => .inl (some (xI v))) Q) (x_zret K (Or.inr rfl) rfl hr dX8_isLetter_17)
/-! FaceCoinsModel.go()V -/
noncomputable def fM_go_l0 (v0 : Nat) (g : AH) : Option ((Nat × AH) ⊕ (Nat × AH)) :=
  (xgi g v0 [14] 5).bind fun x1 =>
  (xgi g v0 [14] 3).bind fun x2 =>
  if x2 ≤ x1 then (
    some (Sum.inr (v0, g)))
  else (
    (xgr g v0 [14] 1).bind fun x3 =>
    (xgi g v0 [14] 5).bind fun x4 =>
    (xai g x3 100 x4).bind fun x5 =>
    if x5 = (32 : Int32) then (
      (xgi g v0 [14] 5).bind fun x6 =>
      (xpi g v0 [14] 5 (x6 + (1 : Int32))).bind fun g7 =>
      some (Sum.inl (v0, g7)))
    else (
      (xgr g v0 [14] 1).bind fun x8 =>
      (xgi g v0 [14] 5).bind fun x9 =>
      (xai g x8 100 x9).bind fun x10 =>
      if x10 = (10 : Int32) then (
        (xgi g v0 [14] 5).bind fun x11 =>
        (xpi g v0 [14] 5 (x11 + (1 : Int32))).bind fun g12 =>
        some (Sum.inl (v0, g12)))
      else (
        some (Sum.inr (v0, g)))))
noncomputable def fM_go_b307_215 (v0 : Nat) (v2 : Int32) (v3 : Int32) (v4 : Int32)  (g : AH) : Option ((Nat × Int32 × Int32 × AH) ⊕ (Nat × Int32 × Int32 × AH)) :=
  (xgi g v0 [14] 5).bind fun x34 =>
  (xgi g v0 [14] 6).bind fun x35 =>
  if (4 : Int32) ≤ (x34 - x35) then (
    (xgi g v0 [14] 5).bind fun x36 =>
    (xpi g v0 [14] 5 (x36 + (1 : Int32))).bind fun g37 =>
    some (Sum.inl (v0, v2, v3, g37)))
  else (
    (xgi g v0 [14] 8).bind fun x38 =>
    (xpi g v0 [14] 8 ((((10 : Int32) * x38) + v4) - (48 : Int32))).bind fun g39 =>
    (xgi g39 v0 [14] 5).bind fun x40 =>
    (xpi g39 v0 [14] 5 (x40 + (1 : Int32))).bind fun g41 =>
    some (Sum.inl (v0, v2, v3, g41)))
noncomputable def fM_go_b272_215 (v0 : Nat) (v2 : Int32) (v4 : Int32) (t0 : Int32) (g : AH) : Option ((Nat × Int32 × Int32 × AH) ⊕ (Nat × Int32 × Int32 × AH)) :=
  (xgi g v0 [14] 5).bind fun x32 =>
  (xgi g v0 [14] 6).bind fun x33 =>
  if (6 : Int32) ≤ (x32 - x33) then (
    fM_go_b307_215 v0 v2 t0 v4 g)
  else (
    (xgj g v0 [14] 12).bind fun x42 =>
    (xpj g v0 [14] 12 ((((27 : Int64) * x42) + (Int32.toInt64 v4)) - (96 : Int64))).bind fun g43 =>
    fM_go_b307_215 v0 v2 t0 v4 g43)
noncomputable def fM_go_b243_215 (v0 : Nat) (v2 : Int32) (v3 : Int32)  (g : AH) : Option ((Nat × Int32 × Int32 × AH) ⊕ (Nat × Int32 × Int32 × AH)) :=
  (xgr g v0 [14] 1).bind fun x29 =>
  (xgi g v0 [14] 5).bind fun x30 =>
  (xai g x29 100 x30).bind fun x31 =>
  if v3 = 0 then (
    fM_go_b272_215 v0 v2 x31 (0 : Int32) g)
  else (
    (fM_isLetter x31 g).bind fun x44 =>
    if x44 = v2 then (
      fM_go_b272_215 v0 v2 x31 (1 : Int32) g)
    else (
      fM_go_b272_215 v0 v2 x31 (0 : Int32) g))
noncomputable def fM_go_l215 (v0 : Nat) (v2 : Int32) (v3 : Int32) (g : AH) : Option ((Nat × Int32 × Int32 × AH) ⊕ (Nat × Int32 × Int32 × AH)) :=
  (xgi g v0 [14] 5).bind fun x26 =>
  (xck g v0 14 (fM_byteAt v0 x26 g)).bind fun x27 =>
  (fM_isLetter x27 g).bind fun x28 =>
  if x28 = 0 then (
    (xgi g v0 [14] 5).bind fun x45 =>
    (xck g v0 14 (fM_byteAt v0 x45 g)).bind fun x46 =>
    (fM_isDigit x46 g).bind fun x47 =>
    if x47 = 0 then (
      some (Sum.inr (v0, v2, v3, g)))
    else (
      fM_go_b243_215 v0 v2 v3 g))
  else (
    fM_go_b243_215 v0 v2 v3 g)
noncomputable def fM_go_b374 (v2 : Int32) (t0 : Nat) (t1 : Int32) (t2 : Int32) (g : AH) : Option (Unit × AH) :=
  if t1 ≤ t2 then (
    if v2 = 0 then (
      (xpi g t0 [14] 7 (3 : Int32)).bind fun g51 =>
      some (((), g51)))
    else (
      (xpi g t0 [14] 7 (2 : Int32)).bind fun g52 =>
      some (((), g52))))
  else (
    (xpi g t0 [14] 7 (1 : Int32)).bind fun g53 =>
    some (((), g53)))
noncomputable def fM_go_a350 (v0 : Nat) (v2 : Int32) (v3 : Int32) (g : AH) : Option (Unit × AH) :=
  if v3 = 0 then (
    (xpi g v0 [14] 7 (1 : Int32)).bind fun g48 =>
    some (((), g48)))
  else (
    (xgi g v0 [14] 5).bind fun x49 =>
    (xgi g v0 [14] 6).bind fun x50 =>
    if v2 = 0 then (
      fM_go_b374 v2 v0 (x49 - x50) (4 : Int32) g)
    else (
      fM_go_b374 v2 v0 (x49 - x50) (6 : Int32) g))
noncomputable def fM_go_b198 (v0 : Nat) (v1 : Int32)  (g : AH) : Option (Unit × AH) :=
  (fM_isLetter v1 g).bind fun x23 =>
  (xpj g v0 [14] 12 (0 : Int64)).bind fun g24 =>
  (xpi g24 v0 [14] 8 (0 : Int32)).bind fun g25 =>
  (xloop (fun s9 : (Nat × Int32 × Int32 × AH) => fM_go_l215 s9.1 s9.2.1 s9.2.2.1 s9.2.2.2) (v0, x23, (1 : Int32), g25)).bind (fun r9 : (Nat × Int32 × Int32 × AH) => fM_go_a350 r9.1 r9.2.1 r9.2.2.1 r9.2.2.2)
noncomputable def fM_go_b179 (v0 : Nat) (v1 : Int32) (t0 : Nat) (t1 : Int32) (g : AH) : Option (Unit × AH) :=
  (xpi g t0 [14] 7 t1).bind fun g55 =>
  (xpi g55 v0 [14] 9 v1).bind fun g56 =>
  (xgi g56 v0 [14] 5).bind fun x57 =>
  (xpi g56 v0 [14] 5 (x57 + (1 : Int32))).bind fun g58 =>
  some (((), g58))
noncomputable def fM_go_b96 (v0 : Nat)  (g : AH) : Option (Unit × AH) :=
  (xgi g v0 [14] 5).bind fun x17 =>
  (xgi g v0 [14] 3).bind fun x18 =>
  if x17 < x18 then (
    (xgr g v0 [14] 1).bind fun x19 =>
    (xgi g v0 [14] 5).bind fun x20 =>
    (xai g x19 100 x20).bind fun x21 =>
    (fM_isLetter x21 g).bind fun x22 =>
    if x22 = 0 then (
      (fM_isDigit x21 g).bind fun x54 =>
      if x54 = 0 then (
        if x21 = (59 : Int32) then (
          fM_go_b179 v0 x21 v0 (4 : Int32) g)
        else (
          if x21 = (60 : Int32) then (
            fM_go_b179 v0 x21 v0 (4 : Int32) g)
          else (
            if x21 = (61 : Int32) then (
              fM_go_b179 v0 x21 v0 (4 : Int32) g)
            else (
              if x21 = (62 : Int32) then (
                fM_go_b179 v0 x21 v0 (4 : Int32) g)
              else (
                if x21 = (40 : Int32) then (
                  fM_go_b179 v0 x21 v0 (4 : Int32) g)
                else (
                  if x21 = (41 : Int32) then (
                    fM_go_b179 v0 x21 v0 (4 : Int32) g)
                  else (
                    fM_go_b179 v0 x21 v0 (1 : Int32) g)))))))
      else (
        fM_go_b198 v0 x21 g))
    else (
      fM_go_b198 v0 x21 g))
  else (
    (xpi g v0 [14] 7 (0 : Int32)).bind fun g59 =>
    some (((), g59)))
noncomputable def fM_go_b52 (v0 : Nat)  (g : AH) : Option (Unit × AH) :=
  (xgi g v0 [14] 5).bind fun x13 =>
  (xpi g v0 [14] 6 x13).bind fun g14 =>
  (xgi g14 v0 [14] 3).bind fun x15 =>
  (xgi g14 v0 [14] 4).bind fun x16 =>
  if x15 ≤ x16 then (
    fM_go_b96 v0 g14)
  else (
    (xgi g14 v0 [14] 6).bind fun x60 =>
    (xgi g14 v0 [14] 4).bind fun x61 =>
    if x60 < x61 then (
      fM_go_b96 v0 g14)
    else (
      (xgi g14 v0 [14] 4).bind fun x62 =>
      (xpi g14 v0 [14] 6 x62).bind fun g63 =>
      (xpi g63 v0 [14] 7 (1 : Int32)).bind fun g64 =>
      some (((), g64))))
noncomputable def fM_go_a52 (v0 : Nat) (g : AH) : Option (Unit × AH) :=
  fM_go_b52 v0 g
noncomputable def fM_go (v0 : Nat) (h0 : AH) : Option (Unit × AH) :=
  (xloop (fun s9 : (Nat × AH) => fM_go_l0 s9.1 s9.2) (v0, h0)).bind (fun r9 : (Nat × AH) => fM_go_a52 r9.1 r9.2)
set_option maxHeartbeats 4000000 in
theorem ct_X8_go {l : Launch} {D : XD} {v0 : Nat} {h0 : AH} {a : Unit} {h1 : AH} (hF : fM_go v0 h0 = some (a, h1)) : XCt l D yX8_go (ws_ yX8_go cX8_go 5 none) 1 21 [xR v0] h0 (.inl none) h1 := by
  refine x_method (by decide) (Nat.le_of_ble_eq_true rfl) fun p e R s m args below meth c K hr hnm hex => ?_
  have K : XO p R s m args meth c D 5 h0 cX8_go "FaceCoinsModel" 1 21 := K
  generalize hQ : XMQ below _ _ _ _ _ _ = Q
  have hL0 : ∀ (C1 : ((Nat × AH) ⊕ (Nat × AH)) → Prop) (hj1 : ∀ s9 : (Nat × AH), C1 (Sum.inl s9) → XG p l e R s m args below meth c D 5 h0 Q 0 [(0, xR s9.1)] [] s9.2) (he1 : ∀ r9 : (Nat × AH), C1 (Sum.inr r9) → XG p l e R s m args below meth c D 5 h0 Q 52 [(0, xR r9.1)] [] r9.2) (v0 : Nat) (g : AH), XF p l e R s m args below meth c D 5 h0 Q 0 [(0, xR v0)] [] g (fM_go_l0 v0 g) C1 := by
    intro C1 hj1 he1
    intro v0 g
    unfold fM_go_l0
    refine x_aload_n (pc' := 1) K 0 dX8_go_0 rfl rfl ?_
    refine x_geti (pc' := 4) K fg_14_5 (Or.inl (K.2.2.2.2.1 _ q1317)) (fun _ h9 => h9) dX8_go_1 rfl (fun x1 => ?_)
    refine x_aload_n (pc' := 5) K 0 dX8_go_4 rfl rfl ?_
    refine x_geti (pc' := 8) K fg_14_3 (Or.inl (K.2.2.2.2.1 _ q1315)) (fun _ h9 => h9) dX8_go_5 rfl (fun x2 => ?_)
    refine x_icmp_ge (tgt := 52) (pc' := 11) K dX8_go_8 rfl (by decide) ?_ ?_
    · exact x_jump (fun hz => he1 (v0, g) hz)
    · refine x_aload_n (pc' := 12) K 0 dX8_go_11 rfl rfl ?_
      refine x_getr (pc' := 15) K fg_14_1 (Or.inl (K.2.2.2.2.1 _ q1313)) (fun _ h9 => h9) dX8_go_12 rfl (fun x3 => ?_)
      refine x_aload_n (pc' := 16) K 0 dX8_go_15 rfl rfl ?_
      refine x_geti (pc' := 19) K fg_14_5 (Or.inl (K.2.2.2.2.1 _ q1317)) (fun _ h9 => h9) dX8_go_16 rfl (fun x4 => ?_)
      refine x_iald (pc' := 20) K dX8_go_19 rfl (fun x5 => ?_)
      refine x_bipush (pc' := 22) (v := 32) K dX8_go_20 rfl (by decide) ?_
      refine x_icmp_eq (tgt := 39) (pc' := 25) K dX8_go_22 rfl (by decide) ?_ ?_
      · refine x_aload_n (pc' := 40) K 0 dX8_go_39 rfl rfl ?_
        refine x_dup (pc' := 41) K dX8_go_40 rfl rfl ?_
        refine x_geti (pc' := 44) K fg_14_5 (Or.inl (K.2.2.2.2.1 _ q1317)) (fun _ h9 => h9) dX8_go_41 rfl (fun x6 => ?_)
        refine x_iconst (pc' := 45) (v := 1) K dX8_go_44 rfl rfl ?_
        refine x_iadd (pc' := 46) K dX8_go_45 rfl ?_
        refine x_puti (pc' := 49) K fp_14_5 (Or.inl (K.2.2.2.2.1 _ q1317)) (fun _ h9 => h9) (Or.inl rfl) dX8_go_46 rfl (fun g7 => ?_)
        refine x_goto (tgt := 0) K dX8_go_49 (by decide) ?_
        exact x_jump (fun hz => hj1 (v0, g7) hz)
      · refine x_aload_n (pc' := 26) K 0 dX8_go_25 rfl rfl ?_
        refine x_getr (pc' := 29) K fg_14_1 (Or.inl (K.2.2.2.2.1 _ q1313)) (fun _ h9 => h9) dX8_go_26 rfl (fun x8 => ?_)
        refine x_aload_n (pc' := 30) K 0 dX8_go_29 rfl rfl ?_
        refine x_geti (pc' := 33) K fg_14_5 (Or.inl (K.2.2.2.2.1 _ q1317)) (fun _ h9 => h9) dX8_go_30 rfl (fun x9 => ?_)
        refine x_iald (pc' := 34) K dX8_go_33 rfl (fun x10 => ?_)
        refine x_bipush (pc' := 36) (v := 10) K dX8_go_34 rfl (by decide) ?_
        refine x_icmp_ne (tgt := 52) (pc' := 39) K dX8_go_36 rfl (by decide) ?_ ?_
        · exact x_jump (fun hz => he1 (v0, g) hz)
        · refine x_aload_n (pc' := 40) K 0 dX8_go_39 rfl rfl ?_
          refine x_dup (pc' := 41) K dX8_go_40 rfl rfl ?_
          refine x_geti (pc' := 44) K fg_14_5 (Or.inl (K.2.2.2.2.1 _ q1317)) (fun _ h9 => h9) dX8_go_41 rfl (fun x11 => ?_)
          refine x_iconst (pc' := 45) (v := 1) K dX8_go_44 rfl rfl ?_
          refine x_iadd (pc' := 46) K dX8_go_45 rfl ?_
          refine x_puti (pc' := 49) K fp_14_5 (Or.inl (K.2.2.2.2.1 _ q1317)) (fun _ h9 => h9) (Or.inl rfl) dX8_go_46 rfl (fun g12 => ?_)
          refine x_goto (tgt := 0) K dX8_go_49 (by decide) ?_
          exact x_jump (fun hz => hj1 (v0, g12) hz)
  have hL215 : ∀ (C1 : ((Nat × Int32 × Int32 × AH) ⊕ (Nat × Int32 × Int32 × AH)) → Prop) (hj1 : ∀ s9 : (Nat × Int32 × Int32 × AH), C1 (Sum.inl s9) → XG p l e R s m args below meth c D 5 h0 Q 215 [(0, xR s9.1), (2, xI s9.2.1), (3, xI s9.2.2.1)] [] s9.2.2.2) (he1 : ∀ r9 : (Nat × Int32 × Int32 × AH), C1 (Sum.inr r9) → XG p l e R s m args below meth c D 5 h0 Q 350 [(0, xR r9.1), (2, xI r9.2.1), (3, xI r9.2.2.1)] [] r9.2.2.2) (v0 : Nat) (v2 : Int32) (v3 : Int32) (g : AH), XF p l e R s m args below meth c D 5 h0 Q 215 [(0, xR v0), (2, xI v2), (3, xI v3)] [] g (fM_go_l215 v0 v2 v3 g) C1 := by
    intro C1 hj1 he1
    have hB307 : ∀ (v0 : Nat) (v2 : Int32) (v3 : Int32) (v4 : Int32)  (g : AH), XF p l e R s m args below meth c D 5 h0 Q 307 [(0, xR v0), (2, xI v2), (3, xI v3), (4, xI v4)] [] g (fM_go_b307_215 v0 v2 v3 v4 g) C1 := by
      intro v0 v2 v3 v4 g
      unfold fM_go_b307_215
      refine x_aload_n (pc' := 308) K 0 dX8_go_307 rfl rfl ?_
      refine x_geti (pc' := 311) K fg_14_5 (Or.inl (K.2.2.2.2.1 _ q1317)) (fun _ h9 => h9) dX8_go_308 rfl (fun x34 => ?_)
      refine x_aload_n (pc' := 312) K 0 dX8_go_311 rfl rfl ?_
      refine x_geti (pc' := 315) K fg_14_6 (Or.inl (K.2.2.2.2.1 _ q1318)) (fun _ h9 => h9) dX8_go_312 rfl (fun x35 => ?_)
      refine x_isub (pc' := 316) K dX8_go_315 rfl ?_
      refine x_iconst (pc' := 317) (v := 4) K dX8_go_316 rfl rfl ?_
      refine x_icmp_ge (tgt := 337) (pc' := 320) K dX8_go_317 rfl (by decide) ?_ ?_
      · refine x_aload_n (pc' := 338) K 0 dX8_go_337 rfl rfl ?_
        refine x_dup (pc' := 339) K dX8_go_338 rfl rfl ?_
        refine x_geti (pc' := 342) K fg_14_5 (Or.inl (K.2.2.2.2.1 _ q1317)) (fun _ h9 => h9) dX8_go_339 rfl (fun x36 => ?_)
        refine x_iconst (pc' := 343) (v := 1) K dX8_go_342 rfl rfl ?_
        refine x_iadd (pc' := 344) K dX8_go_343 rfl ?_
        refine x_puti (pc' := 347) K fp_14_5 (Or.inl (K.2.2.2.2.1 _ q1317)) (fun _ h9 => h9) (Or.inl rfl) dX8_go_344 rfl (fun g37 => ?_)
        refine x_goto (tgt := 215) K dX8_go_347 (by decide) ?_
        refine x_sub (lv' := [(0, xR v0), (2, xI v2), (3, xI v3)]) [0, 1, 2] rfl ?_
        exact x_jump (fun hz => hj1 (v0, v2, v3, g37) hz)
      · refine x_aload_n (pc' := 321) K 0 dX8_go_320 rfl rfl ?_
        refine x_bipush (pc' := 323) (v := 10) K dX8_go_321 rfl (by decide) ?_
        refine x_aload_n (pc' := 324) K 0 dX8_go_323 rfl rfl ?_
        refine x_geti (pc' := 327) K fg_14_8 (Or.inl (K.2.2.2.2.1 _ q1320)) (fun _ h9 => h9) dX8_go_324 rfl (fun x38 => ?_)
        refine x_imul (pc' := 328) K dX8_go_327 rfl ?_
        refine x_iload (pc' := 330) K 3 dX8_go_328 rfl rfl ?_
        refine x_iadd (pc' := 331) K dX8_go_330 rfl ?_
        refine x_bipush (pc' := 333) (v := 48) K dX8_go_331 rfl (by decide) ?_
        refine x_isub (pc' := 334) K dX8_go_333 rfl ?_
        refine x_puti (pc' := 337) K fp_14_8 (Or.inl (K.2.2.2.2.1 _ q1320)) (fun _ h9 => h9) (Or.inl rfl) dX8_go_334 rfl (fun g39 => ?_)
        refine x_aload_n (pc' := 338) K 0 dX8_go_337 rfl rfl ?_
        refine x_dup (pc' := 339) K dX8_go_338 rfl rfl ?_
        refine x_geti (pc' := 342) K fg_14_5 (Or.inl (K.2.2.2.2.1 _ q1317)) (fun _ h9 => h9) dX8_go_339 rfl (fun x40 => ?_)
        refine x_iconst (pc' := 343) (v := 1) K dX8_go_342 rfl rfl ?_
        refine x_iadd (pc' := 344) K dX8_go_343 rfl ?_
        refine x_puti (pc' := 347) K fp_14_5 (Or.inl (K.2.2.2.2.1 _ q1317)) (fun _ h9 => h9) (Or.inl rfl) dX8_go_344 rfl (fun g41 => ?_)
        refine x_goto (tgt := 215) K dX8_go_347 (by decide) ?_
        refine x_sub (lv' := [(0, xR v0), (2, xI v2), (3, xI v3)]) [0, 1, 2] rfl ?_
        exact x_jump (fun hz => hj1 (v0, v2, v3, g41) hz)
    have hB272 : ∀ (v0 : Nat) (v2 : Int32) (v4 : Int32) (t0 : Int32) (g : AH), XF p l e R s m args below meth c D 5 h0 Q 272 [(0, xR v0), (2, xI v2), (4, xI v4)] [xI t0] g (fM_go_b272_215 v0 v2 v4 t0 g) C1 := by
      intro v0 v2 v4 t0 g
      unfold fM_go_b272_215
      refine x_istore_n (pc' := 273) (lv' := [(3, xI t0), (0, xR v0), (2, xI v2), (4, xI v4)]) K dX8_go_272 rfl (by decide) rfl ?_
      refine x_aload_n (pc' := 274) K 1 dX8_go_273 rfl rfl ?_
      refine x_geti (pc' := 277) K fg_14_5 (Or.inl (K.2.2.2.2.1 _ q1317)) (fun _ h9 => h9) dX8_go_274 rfl (fun x32 => ?_)
      refine x_aload_n (pc' := 278) K 1 dX8_go_277 rfl rfl ?_
      refine x_geti (pc' := 281) K fg_14_6 (Or.inl (K.2.2.2.2.1 _ q1318)) (fun _ h9 => h9) dX8_go_278 rfl (fun x33 => ?_)
      refine x_isub (pc' := 282) K dX8_go_281 rfl ?_
      refine x_bipush (pc' := 284) (v := 6) K dX8_go_282 rfl (by decide) ?_
      refine x_icmp_ge (tgt := 307) (pc' := 287) K dX8_go_284 rfl (by decide) ?_ ?_
      · refine x_sub (lv' := [(0, xR v0), (2, xI v2), (3, xI t0), (4, xI v4)]) [1, 2, 0, 3] rfl ?_
        exact hB307 _ _ _ _ g
      · refine x_aload_n (pc' := 288) K 1 dX8_go_287 rfl rfl ?_
        refine x_ldc2 (pc' := 291) K q1505 dX8_go_288 rfl ?_
        refine x_aload_n (pc' := 292) K 1 dX8_go_291 rfl rfl ?_
        refine x_getj (pc' := 295) K fg_14_12 (Or.inl (K.2.2.2.2.1 _ q1324)) (fun _ h9 => h9) dX8_go_292 rfl (fun x42 => ?_)
        refine x_lmul (pc' := 296) K dX8_go_295 rfl ?_
        refine x_iload (pc' := 298) K 3 dX8_go_296 rfl rfl ?_
        refine x_i2l (pc' := 299) K dX8_go_298 rfl ?_
        refine x_ladd (pc' := 300) K dX8_go_299 rfl ?_
        refine x_ldc2 (pc' := 303) K q1506 dX8_go_300 rfl ?_
        refine x_lsub (pc' := 304) K dX8_go_303 rfl ?_
        refine x_putj (pc' := 307) K fp_14_12 (Or.inl (K.2.2.2.2.1 _ q1324)) (fun _ h9 => h9) (Or.inl rfl) dX8_go_304 rfl (fun g43 => ?_)
        refine x_sub (lv' := [(0, xR v0), (2, xI v2), (3, xI t0), (4, xI v4)]) [1, 2, 0, 3] rfl ?_
        exact hB307 _ _ _ _ g43
    have hB243 : ∀ (v0 : Nat) (v2 : Int32) (v3 : Int32)  (g : AH), XF p l e R s m args below meth c D 5 h0 Q 243 [(0, xR v0), (2, xI v2), (3, xI v3)] [] g (fM_go_b243_215 v0 v2 v3 g) C1 := by
      intro v0 v2 v3 g
      unfold fM_go_b243_215
      refine x_aload_n (pc' := 244) K 0 dX8_go_243 rfl rfl ?_
      refine x_getr (pc' := 247) K fg_14_1 (Or.inl (K.2.2.2.2.1 _ q1313)) (fun _ h9 => h9) dX8_go_244 rfl (fun x29 => ?_)
      refine x_aload_n (pc' := 248) K 0 dX8_go_247 rfl rfl ?_
      refine x_geti (pc' := 251) K fg_14_5 (Or.inl (K.2.2.2.2.1 _ q1317)) (fun _ h9 => h9) dX8_go_248 rfl (fun x30 => ?_)
      refine x_iald (pc' := 252) K dX8_go_251 rfl (fun x31 => ?_)
      refine x_istore (pc' := 254) (lv' := [(4, xI x31), (0, xR v0), (2, xI v2), (3, xI v3)]) K dX8_go_252 rfl (by decide) rfl ?_
      refine x_iload_n (pc' := 255) K 3 dX8_go_254 rfl rfl ?_
      refine x_if_eq (tgt := 271) (pc' := 258) K dX8_go_255 rfl (by decide) ?_ ?_
      · refine x_iconst (pc' := 272) (v := 0) K dX8_go_271 rfl rfl ?_
        refine x_sub (lv' := [(0, xR v0), (2, xI v2), (4, xI x31)]) [1, 2, 0] rfl ?_
        exact hB272 _ _ _ _ g
      · refine x_iload (pc' := 260) K 0 dX8_go_258 rfl rfl ?_
        refine x_cSO (pc' := 263) (As := [xI x31]) (en := (fun v => some (xI v))) (rest := []) K (fun a hF => ct_X8_isLetter hF) rfl q1495 q1496 q1497 q105 hy_X8_isLetter (Nat.le_of_ble_eq_true rfl) (Nat.le_of_ble_eq_true rfl) (Nat.le_of_ble_eq_true rfl) dX8_go_260 rfl (fun x44 => ?_)
        refine x_iload_n (pc' := 264) K 2 dX8_go_263 rfl rfl ?_
        refine x_icmp_ne (tgt := 271) (pc' := 267) K dX8_go_264 rfl (by decide) ?_ ?_
        · refine x_iconst (pc' := 272) (v := 0) K dX8_go_271 rfl rfl ?_
          refine x_sub (lv' := [(0, xR v0), (2, xI v2), (4, xI x31)]) [1, 2, 0] rfl ?_
          exact hB272 _ _ _ _ g
        · refine x_iconst (pc' := 268) (v := 1) K dX8_go_267 rfl rfl ?_
          refine x_goto (tgt := 272) K dX8_go_268 (by decide) ?_
          refine x_sub (lv' := [(0, xR v0), (2, xI v2), (4, xI x31)]) [1, 2, 0] rfl ?_
          exact hB272 _ _ _ _ g
    intro v0 v2 v3 g
    unfold fM_go_l215
    refine x_aload_n (pc' := 216) K 0 dX8_go_215 rfl rfl ?_
    refine x_aload_n (pc' := 217) K 0 dX8_go_216 rfl rfl ?_
    refine x_geti (pc' := 220) K fg_14_5 (Or.inl (K.2.2.2.2.1 _ q1317)) (fun _ h9 => h9) dX8_go_217 rfl (fun x26 => ?_)
    refine x_cVO (pc' := 223) (As := [xI x26]) (en := (fun v => some (xI v))) (rest := []) K (fun a hF => ct_X8_byteAt hF) rfl (by decide) q1501 q1503 qs35 q1504 q105 hy_X8_byteAt (Nat.le_of_ble_eq_true rfl) (Nat.le_of_ble_eq_true rfl) (Nat.le_of_ble_eq_true rfl) dX8_go_220 rfl (fun x27 => ?_)
    refine x_cSO (pc' := 226) (As := [xI x27]) (en := (fun v => some (xI v))) (rest := []) K (fun a hF => ct_X8_isLetter hF) rfl q1495 q1496 q1497 q105 hy_X8_isLetter (Nat.le_of_ble_eq_true rfl) (Nat.le_of_ble_eq_true rfl) (Nat.le_of_ble_eq_true rfl) dX8_go_223 rfl (fun x28 => ?_)
    refine x_if_ne (tgt := 243) (pc' := 229) K dX8_go_226 rfl (by decide) ?_ ?_
    · exact hB243 _ _ _ g
    · refine x_aload_n (pc' := 230) K 0 dX8_go_229 rfl rfl ?_
      refine x_aload_n (pc' := 231) K 0 dX8_go_230 rfl rfl ?_
      refine x_geti (pc' := 234) K fg_14_5 (Or.inl (K.2.2.2.2.1 _ q1317)) (fun _ h9 => h9) dX8_go_231 rfl (fun x45 => ?_)
      refine x_cVO (pc' := 237) (As := [xI x45]) (en := (fun v => some (xI v))) (rest := []) K (fun a hF => ct_X8_byteAt hF) rfl (by decide) q1501 q1503 qs35 q1504 q105 hy_X8_byteAt (Nat.le_of_ble_eq_true rfl) (Nat.le_of_ble_eq_true rfl) (Nat.le_of_ble_eq_true rfl) dX8_go_234 rfl (fun x46 => ?_)
      refine x_cSO (pc' := 240) (As := [xI x46]) (en := (fun v => some (xI v))) (rest := []) K (fun a hF => ct_X8_isDigit hF) rfl q1498 q1499 q1500 q105 hy_X8_isDigit (Nat.le_of_ble_eq_true rfl) (Nat.le_of_ble_eq_true rfl) (Nat.le_of_ble_eq_true rfl) dX8_go_237 rfl (fun x47 => ?_)
      refine x_if_eq (tgt := 350) (pc' := 243) K dX8_go_240 rfl (by decide) ?_ ?_
      · exact x_jump (fun hz => he1 (v0, v2, v3, g) hz)
      · exact hB243 _ _ _ g
  have hB374 : ∀ (v2 : Int32) (t0 : Nat) (t1 : Int32) (t2 : Int32) (g : AH), XF p l e R s m args below meth c D 5 h0 Q 374 [(2, xI v2)] [xI t2, xI t1, xR t0] g (fM_go_b374 v2 t0 t1 t2 g) (XEnd below s D h0 (fun _ => .inl none) Q) := by
    intro v2 t0 t1 t2 g
    unfold fM_go_b374
    refine x_icmp_le (tgt := 381) (pc' := 377) K dX8_go_374 rfl (by decide) ?_ ?_
    · refine x_iload_n (pc' := 382) K 0 dX8_go_381 rfl rfl ?_
      refine x_if_eq (tgt := 389) (pc' := 385) K dX8_go_382 rfl (by decide) ?_ ?_
      · refine x_iconst (pc' := 390) (v := 3) K dX8_go_389 rfl rfl ?_
        refine x_puti (pc' := 393) K fp_14_7 (Or.inl (K.2.2.2.2.1 _ q1319)) (fun _ h9 => h9) (Or.inl rfl) dX8_go_390 rfl (fun g51 => ?_)
        exact x_vret K rfl hr dX8_go_393
      · refine x_iconst (pc' := 386) (v := 2) K dX8_go_385 rfl rfl ?_
        refine x_goto (tgt := 390) K dX8_go_386 (by decide) ?_
        refine x_puti (pc' := 393) K fp_14_7 (Or.inl (K.2.2.2.2.1 _ q1319)) (fun _ h9 => h9) (Or.inl rfl) dX8_go_390 rfl (fun g52 => ?_)
        exact x_vret K rfl hr dX8_go_393
    · refine x_iconst (pc' := 378) (v := 1) K dX8_go_377 rfl rfl ?_
      refine x_goto (tgt := 390) K dX8_go_378 (by decide) ?_
      refine x_puti (pc' := 393) K fp_14_7 (Or.inl (K.2.2.2.2.1 _ q1319)) (fun _ h9 => h9) (Or.inl rfl) dX8_go_390 rfl (fun g53 => ?_)
      exact x_vret K rfl hr dX8_go_393
  have hA350_0 : ∀ (v0 : Nat) (v2 : Int32) (v3 : Int32) (g : AH), XF p l e R s m args below meth c D 5 h0 Q 350 [(0, xR v0), (2, xI v2), (3, xI v3)] [] g (fM_go_a350 v0 v2 v3 g) (XEnd below s D h0 (fun _ => .inl none) Q) := by
    intro v0 v2 v3 g
    unfold fM_go_a350
    refine x_aload_n (pc' := 351) K 0 dX8_go_350 rfl rfl ?_
    refine x_iload_n (pc' := 352) K 2 dX8_go_351 rfl rfl ?_
    refine x_if_eq (tgt := 377) (pc' := 355) K dX8_go_352 rfl (by decide) ?_ ?_
    · refine x_iconst (pc' := 378) (v := 1) K dX8_go_377 rfl rfl ?_
      refine x_goto (tgt := 390) K dX8_go_378 (by decide) ?_
      refine x_puti (pc' := 393) K fp_14_7 (Or.inl (K.2.2.2.2.1 _ q1319)) (fun _ h9 => h9) (Or.inl rfl) dX8_go_390 rfl (fun g48 => ?_)
      exact x_vret K rfl hr dX8_go_393
    · refine x_aload_n (pc' := 356) K 0 dX8_go_355 rfl rfl ?_
      refine x_geti (pc' := 359) K fg_14_5 (Or.inl (K.2.2.2.2.1 _ q1317)) (fun _ h9 => h9) dX8_go_356 rfl (fun x49 => ?_)
      refine x_aload_n (pc' := 360) K 0 dX8_go_359 rfl rfl ?_
      refine x_geti (pc' := 363) K fg_14_6 (Or.inl (K.2.2.2.2.1 _ q1318)) (fun _ h9 => h9) dX8_go_360 rfl (fun x50 => ?_)
      refine x_isub (pc' := 364) K dX8_go_363 rfl ?_
      refine x_iload_n (pc' := 365) K 1 dX8_go_364 rfl rfl ?_
      refine x_if_eq (tgt := 373) (pc' := 368) K dX8_go_365 rfl (by decide) ?_ ?_
      · refine x_iconst (pc' := 374) (v := 4) K dX8_go_373 rfl rfl ?_
        refine x_sub (lv' := [(2, xI v2)]) [1] rfl ?_
        exact hB374 _ _ _ _ g
      · refine x_bipush (pc' := 370) (v := 6) K dX8_go_368 rfl (by decide) ?_
        refine x_goto (tgt := 374) K dX8_go_370 (by decide) ?_
        refine x_sub (lv' := [(2, xI v2)]) [1] rfl ?_
        exact hB374 _ _ _ _ g
  have hB198 : ∀ (v0 : Nat) (v1 : Int32)  (g : AH), XF p l e R s m args below meth c D 5 h0 Q 198 [(0, xR v0), (1, xI v1)] [] g (fM_go_b198 v0 v1 g) (XEnd below s D h0 (fun _ => .inl none) Q) := by
    intro v0 v1 g
    unfold fM_go_b198
    refine x_iload_n (pc' := 199) K 1 dX8_go_198 rfl rfl ?_
    refine x_cSO (pc' := 202) (As := [xI v1]) (en := (fun v => some (xI v))) (rest := []) K (fun a hF => ct_X8_isLetter hF) rfl q1495 q1496 q1497 q105 hy_X8_isLetter (Nat.le_of_ble_eq_true rfl) (Nat.le_of_ble_eq_true rfl) (Nat.le_of_ble_eq_true rfl) dX8_go_199 rfl (fun x23 => ?_)
    refine x_istore_n (pc' := 203) (lv' := [(2, xI x23), (0, xR v0), (1, xI v1)]) K dX8_go_202 rfl (by decide) rfl ?_
    refine x_iconst (pc' := 204) (v := 1) K dX8_go_203 rfl rfl ?_
    refine x_istore_n (pc' := 205) (lv' := [(3, xI (1 : Int32)), (2, xI x23), (0, xR v0), (1, xI v1)]) K dX8_go_204 rfl (by decide) rfl ?_
    refine x_aload_n (pc' := 206) K 2 dX8_go_205 rfl rfl ?_
    refine x_lconst (pc' := 207) (v := 0) K dX8_go_206 rfl rfl ?_
    refine x_putj (pc' := 210) K fp_14_12 (Or.inl (K.2.2.2.2.1 _ q1324)) (fun _ h9 => h9) (Or.inl rfl) dX8_go_207 rfl (fun g24 => ?_)
    refine x_aload_n (pc' := 211) K 2 dX8_go_210 rfl rfl ?_
    refine x_iconst (pc' := 212) (v := 0) K dX8_go_211 rfl rfl ?_
    refine x_puti (pc' := 215) K fp_14_8 (Or.inl (K.2.2.2.2.1 _ q1320)) (fun _ h9 => h9) (Or.inl rfl) dX8_go_212 rfl (fun g25 => ?_)
    refine x_sub (lv' := [(0, xR v0), (2, xI x23), (3, xI (1 : Int32))]) [2, 1, 0] rfl ?_
    exact x_loop (pl := (fun s9 : (Nat × Int32 × Int32 × AH) => [(0, xR s9.1), (2, xI s9.2.1), (3, xI s9.2.2.1)])) (ph := (fun s9 : (Nat × Int32 × Int32 × AH) => s9.2.2.2)) (fun r9 : (Nat × Int32 × Int32 × AH) => XG p l e R s m args below meth c D 5 h0 Q 350 [(0, xR r9.1), (2, xI r9.2.1), (3, xI r9.2.2.1)] [] r9.2.2.2) (fun s9 => hL215 _ (fun _ hz => hz) (fun _ hz => hz) s9.1 s9.2.1 s9.2.2.1 s9.2.2.2) (fun r9 x hx hc => hA350_0 r9.1 r9.2.1 r9.2.2.1 r9.2.2.2 x hx hc) (v0, x23, (1 : Int32), g25)
  have hB179 : ∀ (v0 : Nat) (v1 : Int32) (t0 : Nat) (t1 : Int32) (g : AH), XF p l e R s m args below meth c D 5 h0 Q 179 [(0, xR v0), (1, xI v1)] [xI t1, xR t0] g (fM_go_b179 v0 v1 t0 t1 g) (XEnd below s D h0 (fun _ => .inl none) Q) := by
    intro v0 v1 t0 t1 g
    unfold fM_go_b179
    refine x_puti (pc' := 182) K fp_14_7 (Or.inl (K.2.2.2.2.1 _ q1319)) (fun _ h9 => h9) (Or.inl rfl) dX8_go_179 rfl (fun g55 => ?_)
    refine x_aload_n (pc' := 183) K 0 dX8_go_182 rfl rfl ?_
    refine x_iload_n (pc' := 184) K 1 dX8_go_183 rfl rfl ?_
    refine x_puti (pc' := 187) K fp_14_9 (Or.inl (K.2.2.2.2.1 _ q1321)) (fun _ h9 => h9) (Or.inl rfl) dX8_go_184 rfl (fun g56 => ?_)
    refine x_aload_n (pc' := 188) K 0 dX8_go_187 rfl rfl ?_
    refine x_dup (pc' := 189) K dX8_go_188 rfl rfl ?_
    refine x_geti (pc' := 192) K fg_14_5 (Or.inl (K.2.2.2.2.1 _ q1317)) (fun _ h9 => h9) dX8_go_189 rfl (fun x57 => ?_)
    refine x_iconst (pc' := 193) (v := 1) K dX8_go_192 rfl rfl ?_
    refine x_iadd (pc' := 194) K dX8_go_193 rfl ?_
    refine x_puti (pc' := 197) K fp_14_5 (Or.inl (K.2.2.2.2.1 _ q1317)) (fun _ h9 => h9) (Or.inl rfl) dX8_go_194 rfl (fun g58 => ?_)
    exact x_vret K rfl hr dX8_go_197
  have hB96 : ∀ (v0 : Nat)  (g : AH), XF p l e R s m args below meth c D 5 h0 Q 96 [(0, xR v0)] [] g (fM_go_b96 v0 g) (XEnd below s D h0 (fun _ => .inl none) Q) := by
    intro v0 g
    unfold fM_go_b96
    refine x_aload_n (pc' := 97) K 0 dX8_go_96 rfl rfl ?_
    refine x_geti (pc' := 100) K fg_14_5 (Or.inl (K.2.2.2.2.1 _ q1317)) (fun _ h9 => h9) dX8_go_97 rfl (fun x17 => ?_)
    refine x_aload_n (pc' := 101) K 0 dX8_go_100 rfl rfl ?_
    refine x_geti (pc' := 104) K fg_14_3 (Or.inl (K.2.2.2.2.1 _ q1315)) (fun _ h9 => h9) dX8_go_101 rfl (fun x18 => ?_)
    refine x_icmp_lt (tgt := 113) (pc' := 107) K dX8_go_104 rfl (by decide) ?_ ?_
    · refine x_aload_n (pc' := 114) K 0 dX8_go_113 rfl rfl ?_
      refine x_getr (pc' := 117) K fg_14_1 (Or.inl (K.2.2.2.2.1 _ q1313)) (fun _ h9 => h9) dX8_go_114 rfl (fun x19 => ?_)
      refine x_aload_n (pc' := 118) K 0 dX8_go_117 rfl rfl ?_
      refine x_geti (pc' := 121) K fg_14_5 (Or.inl (K.2.2.2.2.1 _ q1317)) (fun _ h9 => h9) dX8_go_118 rfl (fun x20 => ?_)
      refine x_iald (pc' := 122) K dX8_go_121 rfl (fun x21 => ?_)
      refine x_istore_n (pc' := 123) (lv' := [(1, xI x21), (0, xR v0)]) K dX8_go_122 rfl (by decide) rfl ?_
      refine x_iload_n (pc' := 124) K 0 dX8_go_123 rfl rfl ?_
      refine x_cSO (pc' := 127) (As := [xI x21]) (en := (fun v => some (xI v))) (rest := []) K (fun a hF => ct_X8_isLetter hF) rfl q1495 q1496 q1497 q105 hy_X8_isLetter (Nat.le_of_ble_eq_true rfl) (Nat.le_of_ble_eq_true rfl) (Nat.le_of_ble_eq_true rfl) dX8_go_124 rfl (fun x22 => ?_)
      refine x_if_ne (tgt := 198) (pc' := 130) K dX8_go_127 rfl (by decide) ?_ ?_
      · refine x_sub (lv' := [(0, xR v0), (1, xI x21)]) [1, 0] rfl ?_
        exact hB198 _ _ g
      · refine x_iload_n (pc' := 131) K 0 dX8_go_130 rfl rfl ?_
        refine x_cSO (pc' := 134) (As := [xI x21]) (en := (fun v => some (xI v))) (rest := []) K (fun a hF => ct_X8_isDigit hF) rfl q1498 q1499 q1500 q105 hy_X8_isDigit (Nat.le_of_ble_eq_true rfl) (Nat.le_of_ble_eq_true rfl) (Nat.le_of_ble_eq_true rfl) dX8_go_131 rfl (fun x54 => ?_)
        refine x_if_ne (tgt := 198) (pc' := 137) K dX8_go_134 rfl (by decide) ?_ ?_
        · refine x_sub (lv' := [(0, xR v0), (1, xI x21)]) [1, 0] rfl ?_
          exact hB198 _ _ g
        · refine x_aload_n (pc' := 138) K 1 dX8_go_137 rfl rfl ?_
          refine x_iload_n (pc' := 139) K 0 dX8_go_138 rfl rfl ?_
          refine x_bipush (pc' := 141) (v := 59) K dX8_go_139 rfl (by decide) ?_
          refine x_icmp_eq (tgt := 174) (pc' := 144) K dX8_go_141 rfl (by decide) ?_ ?_
          · refine x_iconst (pc' := 175) (v := 4) K dX8_go_174 rfl rfl ?_
            refine x_goto (tgt := 179) K dX8_go_175 (by decide) ?_
            refine x_sub (lv' := [(0, xR v0), (1, xI x21)]) [1, 0] rfl ?_
            exact hB179 _ _ _ _ g
          · refine x_iload_n (pc' := 145) K 0 dX8_go_144 rfl rfl ?_
            refine x_bipush (pc' := 147) (v := 60) K dX8_go_145 rfl (by decide) ?_
            refine x_icmp_eq (tgt := 174) (pc' := 150) K dX8_go_147 rfl (by decide) ?_ ?_
            · refine x_iconst (pc' := 175) (v := 4) K dX8_go_174 rfl rfl ?_
              refine x_goto (tgt := 179) K dX8_go_175 (by decide) ?_
              refine x_sub (lv' := [(0, xR v0), (1, xI x21)]) [1, 0] rfl ?_
              exact hB179 _ _ _ _ g
            · refine x_iload_n (pc' := 151) K 0 dX8_go_150 rfl rfl ?_
              refine x_bipush (pc' := 153) (v := 61) K dX8_go_151 rfl (by decide) ?_
              refine x_icmp_eq (tgt := 174) (pc' := 156) K dX8_go_153 rfl (by decide) ?_ ?_
              · refine x_iconst (pc' := 175) (v := 4) K dX8_go_174 rfl rfl ?_
                refine x_goto (tgt := 179) K dX8_go_175 (by decide) ?_
                refine x_sub (lv' := [(0, xR v0), (1, xI x21)]) [1, 0] rfl ?_
                exact hB179 _ _ _ _ g
              · refine x_iload_n (pc' := 157) K 0 dX8_go_156 rfl rfl ?_
                refine x_bipush (pc' := 159) (v := 62) K dX8_go_157 rfl (by decide) ?_
                refine x_icmp_eq (tgt := 174) (pc' := 162) K dX8_go_159 rfl (by decide) ?_ ?_
                · refine x_iconst (pc' := 175) (v := 4) K dX8_go_174 rfl rfl ?_
                  refine x_goto (tgt := 179) K dX8_go_175 (by decide) ?_
                  refine x_sub (lv' := [(0, xR v0), (1, xI x21)]) [1, 0] rfl ?_
                  exact hB179 _ _ _ _ g
                · refine x_iload_n (pc' := 163) K 0 dX8_go_162 rfl rfl ?_
                  refine x_bipush (pc' := 165) (v := 40) K dX8_go_163 rfl (by decide) ?_
                  refine x_icmp_eq (tgt := 174) (pc' := 168) K dX8_go_165 rfl (by decide) ?_ ?_
                  · refine x_iconst (pc' := 175) (v := 4) K dX8_go_174 rfl rfl ?_
                    refine x_goto (tgt := 179) K dX8_go_175 (by decide) ?_
                    refine x_sub (lv' := [(0, xR v0), (1, xI x21)]) [1, 0] rfl ?_
                    exact hB179 _ _ _ _ g
                  · refine x_iload_n (pc' := 169) K 0 dX8_go_168 rfl rfl ?_
                    refine x_bipush (pc' := 171) (v := 41) K dX8_go_169 rfl (by decide) ?_
                    refine x_icmp_ne (tgt := 178) (pc' := 174) K dX8_go_171 rfl (by decide) ?_ ?_
                    · refine x_iconst (pc' := 179) (v := 1) K dX8_go_178 rfl rfl ?_
                      refine x_sub (lv' := [(0, xR v0), (1, xI x21)]) [1, 0] rfl ?_
                      exact hB179 _ _ _ _ g
                    · refine x_iconst (pc' := 175) (v := 4) K dX8_go_174 rfl rfl ?_
                      refine x_goto (tgt := 179) K dX8_go_175 (by decide) ?_
                      refine x_sub (lv' := [(0, xR v0), (1, xI x21)]) [1, 0] rfl ?_
                      exact hB179 _ _ _ _ g
    · refine x_aload_n (pc' := 108) K 0 dX8_go_107 rfl rfl ?_
      refine x_iconst (pc' := 109) (v := 0) K dX8_go_108 rfl rfl ?_
      refine x_puti (pc' := 112) K fp_14_7 (Or.inl (K.2.2.2.2.1 _ q1319)) (fun _ h9 => h9) (Or.inl rfl) dX8_go_109 rfl (fun g59 => ?_)
      exact x_vret K rfl hr dX8_go_112
  have hB52 : ∀ (v0 : Nat)  (g : AH), XF p l e R s m args below meth c D 5 h0 Q 52 [(0, xR v0)] [] g (fM_go_b52 v0 g) (XEnd below s D h0 (fun _ => .inl none) Q) := by
    intro v0 g
    unfold fM_go_b52
    refine x_aload_n (pc' := 53) K 0 dX8_go_52 rfl rfl ?_
    refine x_aload_n (pc' := 54) K 0 dX8_go_53 rfl rfl ?_
    refine x_geti (pc' := 57) K fg_14_5 (Or.inl (K.2.2.2.2.1 _ q1317)) (fun _ h9 => h9) dX8_go_54 rfl (fun x13 => ?_)
    refine x_puti (pc' := 60) K fp_14_6 (Or.inl (K.2.2.2.2.1 _ q1318)) (fun _ h9 => h9) (Or.inl rfl) dX8_go_57 rfl (fun g14 => ?_)
    refine x_aload_n (pc' := 61) K 0 dX8_go_60 rfl rfl ?_
    refine x_geti (pc' := 64) K fg_14_3 (Or.inl (K.2.2.2.2.1 _ q1315)) (fun _ h9 => h9) dX8_go_61 rfl (fun x15 => ?_)
    refine x_aload_n (pc' := 65) K 0 dX8_go_64 rfl rfl ?_
    refine x_geti (pc' := 68) K fg_14_4 (Or.inl (K.2.2.2.2.1 _ q1316)) (fun _ h9 => h9) dX8_go_65 rfl (fun x16 => ?_)
    refine x_icmp_le (tgt := 96) (pc' := 71) K dX8_go_68 rfl (by decide) ?_ ?_
    · exact hB96 _ g14
    · refine x_aload_n (pc' := 72) K 0 dX8_go_71 rfl rfl ?_
      refine x_geti (pc' := 75) K fg_14_6 (Or.inl (K.2.2.2.2.1 _ q1318)) (fun _ h9 => h9) dX8_go_72 rfl (fun x60 => ?_)
      refine x_aload_n (pc' := 76) K 0 dX8_go_75 rfl rfl ?_
      refine x_geti (pc' := 79) K fg_14_4 (Or.inl (K.2.2.2.2.1 _ q1316)) (fun _ h9 => h9) dX8_go_76 rfl (fun x61 => ?_)
      refine x_icmp_lt (tgt := 96) (pc' := 82) K dX8_go_79 rfl (by decide) ?_ ?_
      · exact hB96 _ g14
      · refine x_aload_n (pc' := 83) K 0 dX8_go_82 rfl rfl ?_
        refine x_aload_n (pc' := 84) K 0 dX8_go_83 rfl rfl ?_
        refine x_geti (pc' := 87) K fg_14_4 (Or.inl (K.2.2.2.2.1 _ q1316)) (fun _ h9 => h9) dX8_go_84 rfl (fun x62 => ?_)
        refine x_puti (pc' := 90) K fp_14_6 (Or.inl (K.2.2.2.2.1 _ q1318)) (fun _ h9 => h9) (Or.inl rfl) dX8_go_87 rfl (fun g63 => ?_)
        refine x_aload_n (pc' := 91) K 0 dX8_go_90 rfl rfl ?_
        refine x_iconst (pc' := 92) (v := 1) K dX8_go_91 rfl rfl ?_
        refine x_puti (pc' := 95) K fp_14_7 (Or.inl (K.2.2.2.2.1 _ q1319)) (fun _ h9 => h9) (Or.inl rfl) dX8_go_92 rfl (fun g64 => ?_)
        exact x_vret K rfl hr dX8_go_95
  have hA52_0 : ∀ (v0 : Nat) (g : AH), XF p l e R s m args below meth c D 5 h0 Q 52 [(0, xR v0)] [] g (fM_go_a52 v0 g) (XEnd below s D h0 (fun _ => .inl none) Q) := by
    intro v0 g
    unfold fM_go_a52
    exact hB52 _ g
  refine (?_ : XF p l e R s m args below meth c D 5 h0 Q 0 [(0, xR v0)] [] h0 (fM_go v0 h0) (XEnd below s D h0 (fun _ => .inl none) Q)) (a, h1) hF hQ.symm
  unfold fM_go
  exact x_loop (pl := (fun s9 : (Nat × AH) => [(0, xR s9.1)])) (ph := (fun s9 : (Nat × AH) => s9.2)) (fun r9 : (Nat × AH) => XG p l e R s m args below meth c D 5 h0 Q 52 [(0, xR r9.1)] [] r9.2) (fun s9 => hL0 _ (fun _ hz => hz) (fun _ hz => hz) s9.1 s9.2) (fun r9 x hx hc => hA52_0 r9.1 r9.2 x hx hc) (v0, h0)
/-! FaceCoinsModel.plain([I)V -/
noncomputable def fM_plain (v0 : Nat) (v1 : Nat) (h0 : AH) : Option (Unit × AH) :=
  (xsi h0 v1 (4 : Int32) (50 : Int32)).bind fun g1 =>
  (xsi g1 v1 (5 : Int32) (50 : Int32)).bind fun g2 =>
  (xsi g2 v1 (6 : Int32) (5 : Int32)).bind fun g3 =>
  some (((), g3))
set_option maxHeartbeats 4000000 in
theorem ct_X8_plain {l : Launch} {D : XD} {v0 : Nat} {v1 : Nat} {h0 : AH} {a : Unit} {h1 : AH} (hF : fM_plain v0 v1 h0 = some (a, h1)) : XCt l D yX8_plain (ws_ yX8_plain cX8_plain 2 none) 0 0 [xR v0, xR v1] h0 (.inl none) h1 := by
  refine x_method (by decide) (Nat.le_of_ble_eq_true rfl) fun p e R s m args below meth c K hr hnm hex => ?_
  have K : XO p R s m args meth c D 2 h0 cX8_plain "FaceCoinsModel" 0 0 := K
  generalize hQ : XMQ below _ _ _ _ _ _ = Q
  refine (?_ : XF p l e R s m args below meth c D 2 h0 Q 0 [(0, xR v0), (1, xR v1)] [] h0 (fM_plain v0 v1 h0) (XEnd below s D h0 (fun _ => .inl none) Q)) (a, h1) hF hQ.symm
  unfold fM_plain
  refine x_aload_n (pc' := 1) K 1 dX8_plain_0 rfl rfl ?_
  refine x_iconst (pc' := 2) (v := 4) K dX8_plain_1 rfl rfl ?_
  refine x_bipush (pc' := 4) (v := 50) K dX8_plain_2 rfl (by decide) ?_
  refine x_iast (pc' := 5) K dX8_plain_4 rfl (fun g1 => ?_)
  refine x_aload_n (pc' := 6) K 1 dX8_plain_5 rfl rfl ?_
  refine x_iconst (pc' := 7) (v := 5) K dX8_plain_6 rfl rfl ?_
  refine x_bipush (pc' := 9) (v := 50) K dX8_plain_7 rfl (by decide) ?_
  refine x_iast (pc' := 10) K dX8_plain_9 rfl (fun g2 => ?_)
  refine x_aload_n (pc' := 11) K 1 dX8_plain_10 rfl rfl ?_
  refine x_bipush (pc' := 13) (v := 6) K dX8_plain_11 rfl (by decide) ?_
  refine x_iconst (pc' := 14) (v := 5) K dX8_plain_13 rfl rfl ?_
  refine x_iast (pc' := 15) K dX8_plain_14 rfl (fun g3 => ?_)
  exact x_vret K rfl hr dX8_plain_15
/-! FaceCoinsModel.lay()V -/
noncomputable def fM_lay (v0 : Nat) (h0 : AH) : Option (Unit × AH) :=
  (xgi h0 v0 [14] 22).bind fun x1 =>
  if x1 = 0 then (
    (xpz h0 v0 [14] 22 (1 : Int32)).bind fun g2 =>
    (xgr g2 v0 [14] 14).bind fun x3 =>
    xb2 (xck g2 v0 14 (fM_plain v0 x3 g2)) fun x_ g4 =>
    (xgr g4 v0 [14] 14).bind fun x5 =>
    (xsi g4 x5 (110 : Int32) ((-1) : Int32)).bind fun g6 =>
    (xgr g6 v0 [14] 14).bind fun x7 =>
    (xsi g6 x7 (111 : Int32) ((-1) : Int32)).bind fun g8 =>
    some (((), g8)))
  else (
    some (((), h0)))
set_option maxHeartbeats 4000000 in
theorem ct_X8_lay {l : Launch} {D : XD} {v0 : Nat} {h0 : AH} {a : Unit} {h1 : AH} (hF : fM_lay v0 h0 = some (a, h1)) : XCt l D yX8_lay (ws_ yX8_lay cX8_lay 1 none) 1 21 [xR v0] h0 (.inl none) h1 := by
  refine x_method (by decide) (Nat.le_of_ble_eq_true rfl) fun p e R s m args below meth c K hr hnm hex => ?_
  have K : XO p R s m args meth c D 1 h0 cX8_lay "FaceCoinsModel" 1 21 := K
  generalize hQ : XMQ below _ _ _ _ _ _ = Q
  refine (?_ : XF p l e R s m args below meth c D 1 h0 Q 0 [(0, xR v0)] [] h0 (fM_lay v0 h0) (XEnd below s D h0 (fun _ => .inl none) Q)) (a, h1) hF hQ.symm
  unfold fM_lay
  refine x_aload_n (pc' := 1) K 0 dX8_lay_0 rfl rfl ?_
  refine x_geti (pc' := 4) K fg_14_22 (Or.inl (K.2.2.2.2.1 _ q1334)) (fun _ h9 => h9) dX8_lay_1 rfl (fun x1 => ?_)
  refine x_if_eq (tgt := 8) (pc' := 7) K dX8_lay_4 rfl (by decide) ?_ ?_
  · refine x_aload_n (pc' := 9) K 0 dX8_lay_8 rfl rfl ?_
    refine x_iconst (pc' := 10) (v := 1) K dX8_lay_9 rfl rfl ?_
    refine x_putz (pc' := 13) K fp_14_22 (Or.inl (K.2.2.2.2.1 _ q1334)) (fun _ h9 => h9) (Or.inl rfl) dX8_lay_10 rfl (fun g2 => ?_)
    refine x_aload_n (pc' := 14) K 0 dX8_lay_13 rfl rfl ?_
    refine x_aload_n (pc' := 15) K 0 dX8_lay_14 rfl rfl ?_
    refine x_getr (pc' := 18) K fg_14_14 (Or.inl (K.2.2.2.2.1 _ q1326)) (fun _ h9 => h9) dX8_lay_15 rfl (fun x3 => ?_)
    refine x_cV (pc' := 21) (As := [xR x3]) (en := (fun _ => none)) (rest := []) K (fun a h1 hF => ct_X8_plain hF) rfl (by decide) q1483 q1485 qs32 q1486 q105 hy_X8_plain (Nat.le_of_ble_eq_true rfl) (Nat.le_of_ble_eq_true rfl) (Nat.le_of_ble_eq_true rfl) dX8_lay_18 rfl (fun x_ g4 => ?_)
    refine x_aload_n (pc' := 22) K 0 dX8_lay_21 rfl rfl ?_
    refine x_getr (pc' := 25) K fg_14_14 (Or.inl (K.2.2.2.2.1 _ q1326)) (fun _ h9 => h9) dX8_lay_22 rfl (fun x5 => ?_)
    refine x_bipush (pc' := 27) (v := 110) K dX8_lay_25 rfl (by decide) ?_
    refine x_iconst (pc' := 28) (v := (-1)) K dX8_lay_27 rfl rfl ?_
    refine x_iast (pc' := 29) K dX8_lay_28 rfl (fun g6 => ?_)
    refine x_aload_n (pc' := 30) K 0 dX8_lay_29 rfl rfl ?_
    refine x_getr (pc' := 33) K fg_14_14 (Or.inl (K.2.2.2.2.1 _ q1326)) (fun _ h9 => h9) dX8_lay_30 rfl (fun x7 => ?_)
    refine x_bipush (pc' := 35) (v := 111) K dX8_lay_33 rfl (by decide) ?_
    refine x_iconst (pc' := 36) (v := (-1)) K dX8_lay_35 rfl rfl ?_
    refine x_iast (pc' := 37) K dX8_lay_36 rfl (fun g8 => ?_)
    exact x_vret K rfl hr dX8_lay_37
  · exact x_vret K rfl hr dX8_lay_7
/-! FaceCoinsModel.take()I -/
noncomputable def fM_take (v0 : Nat) (h0 : AH) : Option (Int32 × AH) :=
  (xgi h0 v0 [14] 2).bind fun x1 =>
  (xpi h0 v0 [14] 2 (0 : Int32)).bind fun g2 =>
  some ((x1, g2))
set_option maxHeartbeats 4000000 in
theorem ct_X8_take {l : Launch} {D : XD} {v0 : Nat} {h0 : AH} {a : Int32} {h1 : AH} (hF : fM_take v0 h0 = some (a, h1)) : XCt l D yX8_take (ws_ yX8_take cX8_take 2 (some .int)) 0 0 [xR v0] h0 (.inl (some (xI a))) h1 := by
  refine x_method (by decide) (Nat.le_of_ble_eq_true rfl) fun p e R s m args below meth c K hr hnm hex => ?_
  have K : XO p R s m args meth c D 2 h0 cX8_take "FaceCoinsModel" 0 0 := K
  generalize hQ : XMQ below _ _ _ _ _ _ = Q
  refine (?_ : XF p l e R s m args below meth c D 2 h0 Q 0 [(0, xR v0)] [] h0 (fM_take v0 h0) (XEnd below s D h0 (fun v => .inl (some (xI v))) Q)) (a, h1) hF hQ.symm
  unfold fM_take
  refine x_aload_n (pc' := 1) K 0 dX8_take_0 rfl rfl ?_
  refine x_geti (pc' := 4) K fg_14_2 (Or.inl (K.2.2.2.2.1 _ q1314)) (fun _ h9 => h9) dX8_take_1 rfl (fun x1 => ?_)
  refine x_istore_n (pc' := 5) (lv' := [(1, xI x1), (0, xR v0)]) K dX8_take_4 rfl (by decide) rfl ?_
  refine x_aload_n (pc' := 6) K 1 dX8_take_5 rfl rfl ?_
  refine x_iconst (pc' := 7) (v := 0) K dX8_take_6 rfl rfl ?_
  refine x_puti (pc' := 10) K fp_14_2 (Or.inl (K.2.2.2.2.1 _ q1314)) (fun _ h9 => h9) (Or.inl rfl) dX8_take_7 rfl (fun g2 => ?_)
  refine x_iload_n (pc' := 11) K 0 dX8_take_10 rfl rfl ?_
  exact x_iret K rfl hr dX8_take_11
/-! FaceCoinsModel.begin(I)V -/
noncomputable def fM_begin (v0 : Nat) (v1 : Int32) (h0 : AH) : Option (Unit × AH) :=
  (xpi h0 v0 [14] 0 (0 : Int32)).bind fun g1 =>
  xb2 (xck g1 v0 14 (fM_lay v0 g1)) fun x_ g2 =>
  xb2 (xck g2 v0 14 (fM_take v0 g2)) fun x3 g4 =>
  (xpi g4 v0 [14] 3 x3).bind fun g5 =>
  (xpi g5 v0 [14] 4 v1).bind fun g6 =>
  (xpi g6 v0 [14] 10 (0 : Int32)).bind fun g7 =>
  (xpi g7 v0 [14] 5 (0 : Int32)).bind fun g8 =>
  xb2 (xck g8 v0 14 (fM_go v0 g8)) fun x_ g9 =>
  some (((), g9))
set_option maxHeartbeats 4000000 in
theorem ct_X8_begin {l : Launch} {D : XD} {v0 : Nat} {v1 : Int32} {h0 : AH} {a : Unit} {h1 : AH} (hF : fM_begin v0 v1 h0 = some (a, h1)) : XCt l D yX8_begin (ws_ yX8_begin cX8_begin 2 none) 2 45 [xR v0, xI v1] h0 (.inl none) h1 := by
  refine x_method (by decide) (Nat.le_of_ble_eq_true rfl) fun p e R s m args below meth c K hr hnm hex => ?_
  have K : XO p R s m args meth c D 2 h0 cX8_begin "FaceCoinsModel" 2 45 := K
  generalize hQ : XMQ below _ _ _ _ _ _ = Q
  refine (?_ : XF p l e R s m args below meth c D 2 h0 Q 0 [(0, xR v0), (1, xI v1)] [] h0 (fM_begin v0 v1 h0) (XEnd below s D h0 (fun _ => .inl none) Q)) (a, h1) hF hQ.symm
  unfold fM_begin
  refine x_aload_n (pc' := 1) K 0 dX8_begin_0 rfl rfl ?_
  refine x_iconst (pc' := 2) (v := 0) K dX8_begin_1 rfl rfl ?_
  refine x_puti (pc' := 5) K fp_14_0 (Or.inl (K.2.2.2.2.1 _ q1312)) (fun _ h9 => h9) (Or.inl rfl) dX8_begin_2 rfl (fun g1 => ?_)
  refine x_aload_n (pc' := 6) K 0 dX8_begin_5 rfl rfl ?_
  refine x_cV (pc' := 9) (As := []) (en := (fun _ => none)) (rest := []) K (fun a h1 hF => ct_X8_lay hF) rfl (by decide) q1479 q1481 qs31 q1482 q105 hy_X8_lay (Nat.le_of_ble_eq_true rfl) (Nat.le_of_ble_eq_true rfl) (Nat.le_of_ble_eq_true rfl) dX8_begin_6 rfl (fun x_ g2 => ?_)
  refine x_aload_n (pc' := 10) K 0 dX8_begin_9 rfl rfl ?_
  refine x_aload_n (pc' := 11) K 0 dX8_begin_10 rfl rfl ?_
  refine x_cV (pc' := 14) (As := []) (en := (fun v => some (xI v))) (rest := [xR v0]) K (fun a h1 hF => ct_X8_take hF) rfl (by decide) q1487 q1489 qs33 q1490 q105 hy_X8_take (Nat.le_of_ble_eq_true rfl) (Nat.le_of_ble_eq_true rfl) (Nat.le_of_ble_eq_true rfl) dX8_begin_11 rfl (fun x3 g4 => ?_)
  refine x_puti (pc' := 17) K fp_14_3 (Or.inl (K.2.2.2.2.1 _ q1315)) (fun _ h9 => h9) (Or.inl rfl) dX8_begin_14 rfl (fun g5 => ?_)
  refine x_aload_n (pc' := 18) K 0 dX8_begin_17 rfl rfl ?_
  refine x_iload_n (pc' := 19) K 1 dX8_begin_18 rfl rfl ?_
  refine x_puti (pc' := 22) K fp_14_4 (Or.inl (K.2.2.2.2.1 _ q1316)) (fun _ h9 => h9) (Or.inl rfl) dX8_begin_19 rfl (fun g6 => ?_)
  refine x_aload_n (pc' := 23) K 0 dX8_begin_22 rfl rfl ?_
  refine x_iconst (pc' := 24) (v := 0) K dX8_begin_23 rfl rfl ?_
  refine x_puti (pc' := 27) K fp_14_10 (Or.inl (K.2.2.2.2.1 _ q1322)) (fun _ h9 => h9) (Or.inl rfl) dX8_begin_24 rfl (fun g7 => ?_)
  refine x_aload_n (pc' := 28) K 0 dX8_begin_27 rfl rfl ?_
  refine x_iconst (pc' := 29) (v := 0) K dX8_begin_28 rfl rfl ?_
  refine x_puti (pc' := 32) K fp_14_5 (Or.inl (K.2.2.2.2.1 _ q1317)) (fun _ h9 => h9) (Or.inl rfl) dX8_begin_29 rfl (fun g8 => ?_)
  refine x_aload_n (pc' := 33) K 0 dX8_begin_32 rfl rfl ?_
  refine x_cV (pc' := 36) (As := []) (en := (fun _ => none)) (rest := []) K (fun a h1 hF => ct_X8_go hF) rfl (by decide) q1491 q1493 qs34 q1494 q105 hy_X8_go (Nat.le_of_ble_eq_true rfl) (Nat.le_of_ble_eq_true rfl) (Nat.le_of_ble_eq_true rfl) dX8_begin_33 rfl (fun x_ g9 => ?_)
  exact x_vret K rfl hr dX8_begin_36
/-! FaceCoinsModel.bad(I)Z -/
noncomputable def fM_bad (v0 : Nat) (v1 : Int32) (h0 : AH) : Option (Int32 × AH) :=
  (xgi h0 v0 [14] 7).bind fun x1 =>
  if x1 = (1 : Int32) then (
    (xpi h0 v0 [14] 10 (1 : Int32)).bind fun g5 =>
    (xgi g5 v0 [14] 6).bind fun x6 =>
    (xpi g5 v0 [14] 11 x6).bind fun g7 =>
    some (((0 : Int32), g7)))
  else (
    (xpi h0 v0 [14] 10 v1).bind fun g2 =>
    (xgi g2 v0 [14] 6).bind fun x3 =>
    (xpi g2 v0 [14] 11 x3).bind fun g4 =>
    some (((0 : Int32), g4)))
set_option maxHeartbeats 4000000 in
theorem ct_X8_bad {l : Launch} {D : XD} {v0 : Nat} {v1 : Int32} {h0 : AH} {a : Int32} {h1 : AH} (hF : fM_bad v0 v1 h0 = some (a, h1)) : XCt l D yX8_bad (ws_ yX8_bad cX8_bad 2 (some .boolean)) 0 0 [xR v0, xI v1] h0 (.inl (some (xI a))) h1 := by
  refine x_method (by decide) (Nat.le_of_ble_eq_true rfl) fun p e R s m args below meth c K hr hnm hex => ?_
  have K : XO p R s m args meth c D 2 h0 cX8_bad "FaceCoinsModel" 0 0 := K
  generalize hQ : XMQ below _ _ _ _ _ _ = Q
  refine (?_ : XF p l e R s m args below meth c D 2 h0 Q 0 [(0, xR v0), (1, xI v1)] [] h0 (fM_bad v0 v1 h0) (XEnd below s D h0 (fun v => .inl (some (xI v))) Q)) (a, h1) hF hQ.symm
  unfold fM_bad
  refine x_aload_n (pc' := 1) K 0 dX8_bad_0 rfl rfl ?_
  refine x_aload_n (pc' := 2) K 0 dX8_bad_1 rfl rfl ?_
  refine x_geti (pc' := 5) K fg_14_7 (Or.inl (K.2.2.2.2.1 _ q1319)) (fun _ h9 => h9) dX8_bad_2 rfl (fun x1 => ?_)
  refine x_iconst (pc' := 6) (v := 1) K dX8_bad_5 rfl rfl ?_
  refine x_icmp_ne (tgt := 13) (pc' := 9) K dX8_bad_6 rfl (by decide) ?_ ?_
  · refine x_iload_n (pc' := 14) K 1 dX8_bad_13 rfl rfl ?_
    refine x_puti (pc' := 17) K fp_14_10 (Or.inl (K.2.2.2.2.1 _ q1322)) (fun _ h9 => h9) (Or.inl rfl) dX8_bad_14 rfl (fun g2 => ?_)
    refine x_aload_n (pc' := 18) K 0 dX8_bad_17 rfl rfl ?_
    refine x_aload_n (pc' := 19) K 0 dX8_bad_18 rfl rfl ?_
    refine x_geti (pc' := 22) K fg_14_6 (Or.inl (K.2.2.2.2.1 _ q1318)) (fun _ h9 => h9) dX8_bad_19 rfl (fun x3 => ?_)
    refine x_puti (pc' := 25) K fp_14_11 (Or.inl (K.2.2.2.2.1 _ q1323)) (fun _ h9 => h9) (Or.inl rfl) dX8_bad_22 rfl (fun g4 => ?_)
    refine x_iconst (pc' := 26) (v := 0) K dX8_bad_25 rfl rfl ?_
    exact x_zret K (Or.inl rfl) rfl hr dX8_bad_26
  · refine x_iconst (pc' := 10) (v := 1) K dX8_bad_9 rfl rfl ?_
    refine x_goto (tgt := 14) K dX8_bad_10 (by decide) ?_
    refine x_puti (pc' := 17) K fp_14_10 (Or.inl (K.2.2.2.2.1 _ q1322)) (fun _ h9 => h9) (Or.inl rfl) dX8_bad_14 rfl (fun g5 => ?_)
    refine x_aload_n (pc' := 18) K 0 dX8_bad_17 rfl rfl ?_
    refine x_aload_n (pc' := 19) K 0 dX8_bad_18 rfl rfl ?_
    refine x_geti (pc' := 22) K fg_14_6 (Or.inl (K.2.2.2.2.1 _ q1318)) (fun _ h9 => h9) dX8_bad_19 rfl (fun x6 => ?_)
    refine x_puti (pc' := 25) K fp_14_11 (Or.inl (K.2.2.2.2.1 _ q1323)) (fun _ h9 => h9) (Or.inl rfl) dX8_bad_22 rfl (fun g7 => ?_)
    refine x_iconst (pc' := 26) (v := 0) K dX8_bad_25 rfl rfl ?_
    exact x_zret K (Or.inl rfl) rfl hr dX8_bad_26
/-! FaceCoinsModel.on(JII)J -/
noncomputable def fM_on (v0 : Int64) (v2 : Int32) (v3 : Int32) (h0 : AH) : Option Int64 :=
  if v3 ≤ 0 then (
    some (((((27 : Int64) * v0) + (Int32.toInt64 v2)) - (96 : Int64))))
  else (
    some (((((27 : Int64) * ((((27 : Int64) * v0) + (Int32.toInt64 v2)) - (96 : Int64))) + (Int32.toInt64 v3)) - (96 : Int64))))
set_option maxHeartbeats 4000000 in
theorem ct_X8_on {l : Launch} {D : XD} {v0 : Int64} {v2 : Int32} {v3 : Int32} {h0 : AH} {a : Int64} (hF : fM_on v0 v2 v3 h0 = some a) : XCt l D yX8_on (ws_ yX8_on cX8_on 6 (some .long)) 0 0 [xJ v0, xI v2, xI v3] h0 (.inl (some (xJ a))) h0 := by
  refine x_method (by decide) (Nat.le_of_ble_eq_true rfl) fun p e R s m args below meth c K hr hnm hex => ?_
  have K : XO p R s m args meth c D 6 h0 cX8_on "FaceCoinsModel" 0 0 := K
  generalize hQ : XMQ below _ _ _ _ _ _ = Q
  refine (?_ : XF p l e R s m args below meth c D 6 h0 Q 0 [(0, xJ v0), (2, xI v2), (3, xI v3)] [] h0 (fM_on v0 v2 v3 h0) (fun z => XEnd below s D h0 (fun v => .inl (some (xJ v))) Q (z, h0))) a hF hQ.symm
  unfold fM_on
  refine x_ldc2 (pc' := 3) K q1505 dX8_on_0 rfl ?_
  refine x_lload_n (pc' := 4) K 0 dX8_on_3 rfl rfl ?_
  refine x_lmul (pc' := 5) K dX8_on_4 rfl ?_
  refine x_iload_n (pc' := 6) K 1 dX8_on_5 rfl rfl ?_
  refine x_i2l (pc' := 7) K dX8_on_6 rfl ?_
  refine x_ladd (pc' := 8) K dX8_on_7 rfl ?_
  refine x_ldc2 (pc' := 11) K q1506 dX8_on_8 rfl ?_
  refine x_lsub (pc' := 12) K dX8_on_11 rfl ?_
  refine x_lstore (pc' := 14) (lv' := [(4, xJ ((((27 : Int64) * v0) + (Int32.toInt64 v2)) - (96 : Int64))), (0, xJ v0), (2, xI v2), (3, xI v3)]) K dX8_on_12 rfl (by decide) rfl ?_
  refine x_iload_n (pc' := 15) K 3 dX8_on_14 rfl rfl ?_
  refine x_if_le (tgt := 34) (pc' := 18) K dX8_on_15 rfl (by decide) ?_ ?_
  · refine x_lload (pc' := 36) K 0 dX8_on_34 rfl rfl ?_
    exact x_ro (C9 := XEnd below s D h0 (fun v => .inl (some (xJ v))) Q) (x_lret K rfl hr dX8_on_36)
  · refine x_ldc2 (pc' := 21) K q1505 dX8_on_18 rfl ?_
    refine x_lload (pc' := 23) K 0 dX8_on_21 rfl rfl ?_
    refine x_lmul (pc' := 24) K dX8_on_23 rfl ?_
    refine x_iload_n (pc' := 25) K 3 dX8_on_24 rfl rfl ?_
    refine x_i2l (pc' := 26) K dX8_on_25 rfl ?_
    refine x_ladd (pc' := 27) K dX8_on_26 rfl ?_
    refine x_ldc2 (pc' := 30) K q1506 dX8_on_27 rfl ?_
    refine x_lsub (pc' := 31) K dX8_on_30 rfl ?_
    refine x_goto (tgt := 36) K dX8_on_31 (by decide) ?_
    exact x_ro (C9 := XEnd below s D h0 (fun v => .inl (some (xJ v))) Q) (x_lret K rfl hr dX8_on_36)
/-! FaceCoinsModel.spelt(IIII)J -/
noncomputable def fM_spelt_b38 (v3 : Int32) (v4 : Int64)  (h0 : AH) : Option Int64 :=
  if v3 ≤ 0 then (
    some (v4))
  else (
    some (((((27 : Int64) * v4) + (Int32.toInt64 v3)) - (96 : Int64))))
noncomputable def fM_spelt (v0 : Int32) (v1 : Int32) (v2 : Int32) (v3 : Int32) (h0 : AH) : Option Int64 :=
  if v2 ≤ 0 then (
    fM_spelt_b38 v3 ((((27 : Int64) * ((Int32.toInt64 v0) - (96 : Int64))) + (Int32.toInt64 v1)) - (96 : Int64)) h0)
  else (
    fM_spelt_b38 v3 ((((27 : Int64) * ((((27 : Int64) * ((Int32.toInt64 v0) - (96 : Int64))) + (Int32.toInt64 v1)) - (96 : Int64))) + (Int32.toInt64 v2)) - (96 : Int64)) h0)
set_option maxHeartbeats 4000000 in
theorem ct_X8_spelt {l : Launch} {D : XD} {v0 : Int32} {v1 : Int32} {v2 : Int32} {v3 : Int32} {h0 : AH} {a : Int64} (hF : fM_spelt v0 v1 v2 v3 h0 = some a) : XCt l D yX8_spelt (ws_ yX8_spelt cX8_spelt 6 (some .long)) 0 0 [xI v0, xI v1, xI v2, xI v3] h0 (.inl (some (xJ a))) h0 := by
  refine x_method (by decide) (Nat.le_of_ble_eq_true rfl) fun p e R s m args below meth c K hr hnm hex => ?_
  have K : XO p R s m args meth c D 6 h0 cX8_spelt "FaceCoinsModel" 0 0 := K
  generalize hQ : XMQ below _ _ _ _ _ _ = Q
  have hB38 : ∀ (v3 : Int32) (v4 : Int64) , XF p l e R s m args below meth c D 6 h0 Q 38 [(3, xI v3), (4, xJ v4)] [] h0 (fM_spelt_b38 v3 v4 h0) (fun z => XEnd below s D h0 (fun v => .inl (some (xJ v))) Q (z, h0)) := by
    intro v3 v4
    unfold fM_spelt_b38
    refine x_iload_n (pc' := 39) K 0 dX8_spelt_38 rfl rfl ?_
    refine x_if_le (tgt := 58) (pc' := 42) K dX8_spelt_39 rfl (by decide) ?_ ?_
    · refine x_lload (pc' := 60) K 1 dX8_spelt_58 rfl rfl ?_
      exact x_ro (C9 := XEnd below s D h0 (fun v => .inl (some (xJ v))) Q) (x_lret K rfl hr dX8_spelt_60)
    · refine x_ldc2 (pc' := 45) K q1505 dX8_spelt_42 rfl ?_
      refine x_lload (pc' := 47) K 1 dX8_spelt_45 rfl rfl ?_
      refine x_lmul (pc' := 48) K dX8_spelt_47 rfl ?_
      refine x_iload_n (pc' := 49) K 0 dX8_spelt_48 rfl rfl ?_
      refine x_i2l (pc' := 50) K dX8_spelt_49 rfl ?_
      refine x_ladd (pc' := 51) K dX8_spelt_50 rfl ?_
      refine x_ldc2 (pc' := 54) K q1506 dX8_spelt_51 rfl ?_
      refine x_lsub (pc' := 55) K dX8_spelt_54 rfl ?_
      refine x_goto (tgt := 60) K dX8_spelt_55 (by decide) ?_
      exact x_ro (C9 := XEnd below s D h0 (fun v => .inl (some (xJ v))) Q) (x_lret K rfl hr dX8_spelt_60)
  refine (?_ : XF p l e R s m args below meth c D 6 h0 Q 0 [(0, xI v0), (1, xI v1), (2, xI v2), (3, xI v3)] [] h0 (fM_spelt v0 v1 v2 v3 h0) (fun z => XEnd below s D h0 (fun v => .inl (some (xJ v))) Q (z, h0))) a hF hQ.symm
  unfold fM_spelt
  refine x_ldc2 (pc' := 3) K q1505 dX8_spelt_0 rfl ?_
  refine x_iload_n (pc' := 4) K 0 dX8_spelt_3 rfl rfl ?_
  refine x_i2l (pc' := 5) K dX8_spelt_4 rfl ?_
  refine x_ldc2 (pc' := 8) K q1506 dX8_spelt_5 rfl ?_
  refine x_lsub (pc' := 9) K dX8_spelt_8 rfl ?_
  refine x_lmul (pc' := 10) K dX8_spelt_9 rfl ?_
  refine x_iload_n (pc' := 11) K 1 dX8_spelt_10 rfl rfl ?_
  refine x_i2l (pc' := 12) K dX8_spelt_11 rfl ?_
  refine x_ladd (pc' := 13) K dX8_spelt_12 rfl ?_
  refine x_ldc2 (pc' := 16) K q1506 dX8_spelt_13 rfl ?_
  refine x_lsub (pc' := 17) K dX8_spelt_16 rfl ?_
  refine x_lstore (pc' := 19) (lv' := [(4, xJ ((((27 : Int64) * ((Int32.toInt64 v0) - (96 : Int64))) + (Int32.toInt64 v1)) - (96 : Int64))), (0, xI v0), (1, xI v1), (2, xI v2), (3, xI v3)]) K dX8_spelt_17 rfl (by decide) rfl ?_
  refine x_iload_n (pc' := 20) K 3 dX8_spelt_19 rfl rfl ?_
  refine x_if_le (tgt := 38) (pc' := 23) K dX8_spelt_20 rfl (by decide) ?_ ?_
  · refine x_sub (lv' := [(3, xI v3), (4, xJ ((((27 : Int64) * ((Int32.toInt64 v0) - (96 : Int64))) + (Int32.toInt64 v1)) - (96 : Int64)))]) [4, 0] rfl ?_
    exact hB38 _ _
  · refine x_ldc2 (pc' := 26) K q1505 dX8_spelt_23 rfl ?_
    refine x_lload (pc' := 28) K 0 dX8_spelt_26 rfl rfl ?_
    refine x_lmul (pc' := 29) K dX8_spelt_28 rfl ?_
    refine x_iload_n (pc' := 30) K 3 dX8_spelt_29 rfl rfl ?_
    refine x_i2l (pc' := 31) K dX8_spelt_30 rfl ?_
    refine x_ladd (pc' := 32) K dX8_spelt_31 rfl ?_
    refine x_ldc2 (pc' := 35) K q1506 dX8_spelt_32 rfl ?_
    refine x_lsub (pc' := 36) K dX8_spelt_35 rfl ?_
    refine x_lstore (pc' := 38) (lv' := [(4, xJ ((((27 : Int64) * ((((27 : Int64) * ((Int32.toInt64 v0) - (96 : Int64))) + (Int32.toInt64 v1)) - (96 : Int64))) + (Int32.toInt64 v2)) - (96 : Int64))), (0, xI v0), (1, xI v1), (2, xI v2), (3, xI v3)]) K dX8_spelt_36 rfl (by decide) rfl ?_
    refine x_sub (lv' := [(3, xI v3), (4, xJ ((((27 : Int64) * ((((27 : Int64) * ((Int32.toInt64 v0) - (96 : Int64))) + (Int32.toInt64 v1)) - (96 : Int64))) + (Int32.toInt64 v2)) - (96 : Int64)))]) [4, 0] rfl ?_
    exact hB38 _ _
/-! FaceCoinsModel.wordOf(I)J -/
noncomputable def fM_wordOf (v0 : Int32) (h0 : AH) : Option Int64 :=
  if v0 = 0 then (
    (fM_spelt (119 : Int32) (104 : Int32) (111 : Int32) (0 : Int32) h0).bind fun x1 =>
    some (x1))
  else (
  if v0 = 1 then (
    (fM_spelt (98 : Int32) (101 : Int32) (103 : Int32) (115 : Int32) h0).bind fun x2 =>
    some (x2))
  else (
  if v0 = 2 then (
    (fM_spelt (111 : Int32) (119 : Int32) (101 : Int32) (115 : Int32) h0).bind fun x3 =>
    some (x3))
  else (
  if v0 = 3 then (
    (fM_spelt (109 : Int32) (105 : Int32) (110 : Int32) (116 : Int32) h0).bind fun x4 =>
    some (x4))
  else (
  if v0 = 4 then (
    (fM_spelt (116 : Int32) (97 : Int32) (107 : Int32) (101 : Int32) h0).bind fun x5 =>
    (fM_on x5 (115 : Int32) (0 : Int32) h0).bind fun x6 =>
    some (x6))
  else (
  if v0 = 5 then (
    (fM_spelt (108 : Int32) (117 : Int32) (99 : Int32) (107 : Int32) h0).bind fun x7 =>
    (fM_on x7 (121 : Int32) (0 : Int32) h0).bind fun x8 =>
    some (x8))
  else (
  if v0 = 6 then (
    (fM_spelt (100 : Int32) (101 : Int32) (97 : Int32) (100 : Int32) h0).bind fun x9 =>
    some (x9))
  else (
  if v0 = 7 then (
    (fM_spelt (116 : Int32) (104 : Int32) (105 : Int32) (110 : Int32) h0).bind fun x10 =>
    some (x10))
  else (
  if v0 = 8 then (
    (fM_spelt (102 : Int32) (97 : Int32) (99 : Int32) (101 : Int32) h0).bind fun x11 =>
    (fM_on x11 (115 : Int32) (0 : Int32) h0).bind fun x12 =>
    some (x12))
  else (
  if v0 = 9 then (
    (fM_spelt (111 : Int32) (114 : Int32) (0 : Int32) (0 : Int32) h0).bind fun x13 =>
    some (x13))
  else (
  if v0 = 10 then (
    (fM_spelt (97 : Int32) (110 : Int32) (100 : Int32) (0 : Int32) h0).bind fun x14 =>
    some (x14))
  else (
  if v0 = 11 then (
    (fM_spelt (110 : Int32) (111 : Int32) (116 : Int32) (0 : Int32) h0).bind fun x15 =>
    some (x15))
  else (
  if v0 = 12 then (
    (fM_spelt (98 : Int32) (101 : Int32) (97 : Int32) (114 : Int32) h0).bind fun x16 =>
    (fM_on x16 (115 : Int32) (0 : Int32) h0).bind fun x17 =>
    some (x17))
  else (
  if v0 = 13 then (
    (fM_spelt (115 : Int32) (104 : Int32) (111 : Int32) (119 : Int32) h0).bind fun x18 =>
    (fM_on x18 (115 : Int32) (0 : Int32) h0).bind fun x19 =>
    some (x19))
  else (
  if v0 = 14 then (
    (fM_spelt (104 : Int32) (101 : Int32) (108 : Int32) (100 : Int32) h0).bind fun x20 =>
    some (x20))
  else (
  if v0 = 15 then (
    (fM_spelt (102 : Int32) (97 : Int32) (108 : Int32) (115 : Int32) h0).bind fun x21 =>
    (fM_on x21 (101 : Int32) (0 : Int32) h0).bind fun x22 =>
    some (x22))
  else (
  if v0 = 16 then (
    (fM_spelt (103 : Int32) (114 : Int32) (97 : Int32) (105 : Int32) h0).bind fun x23 =>
    (fM_on x23 (110 : Int32) (115 : Int32) h0).bind fun x24 =>
    some (x24))
  else (
  if v0 = 17 then (
    (fM_spelt (108 : Int32) (97 : Int32) (121 : Int32) (101 : Int32) h0).bind fun x25 =>
    (fM_on x25 (114 : Int32) (115 : Int32) h0).bind fun x26 =>
    some (x26))
  else (
    (fM_spelt (115 : Int32) (116 : Int32) (114 : Int32) (117 : Int32) h0).bind fun x27 =>
    (fM_on x27 (99 : Int32) (107 : Int32) h0).bind fun x28 =>
    some (x28)))))))))))))))))))
set_option maxHeartbeats 4000000 in
theorem ct_X8_wordOf {l : Launch} {D : XD} {v0 : Int32} {h0 : AH} {a : Int64} (hF : fM_wordOf v0 h0 = some a) : XCt l D yX8_wordOf (ws_ yX8_wordOf cX8_wordOf 1 (some .long)) 1 25 [xI v0] h0 (.inl (some (xJ a))) h0 := by
  refine x_method (by decide) (Nat.le_of_ble_eq_true rfl) fun p e R s m args below meth c K hr hnm hex => ?_
  have K : XO p R s m args meth c D 1 h0 cX8_wordOf "FaceCoinsModel" 1 25 := K
  generalize hQ : XMQ below _ _ _ _ _ _ = Q
  refine (?_ : XF p l e R s m args below meth c D 1 h0 Q 0 [(0, xI v0)] [] h0 (fM_wordOf v0 h0) (fun z => XEnd below s D h0 (fun v => .inl (some (xJ v))) Q (z, h0))) a hF hQ.symm
  unfold fM_wordOf
  refine x_iload_n (pc' := 1) K 0 dX8_wordOf_0 rfl rfl ?_
  refine x_tsw (tgt := 88) K 0 dX8_wordOf_1 (by decide) rfl (by decide) ?_ (fun q0 => ?_)
  · refine x_bipush (pc' := 90) (v := 119) K dX8_wordOf_88 rfl (by decide) ?_
    refine x_bipush (pc' := 92) (v := 104) K dX8_wordOf_90 rfl (by decide) ?_
    refine x_bipush (pc' := 94) (v := 111) K dX8_wordOf_92 rfl (by decide) ?_
    refine x_iconst (pc' := 95) (v := 0) K dX8_wordOf_94 rfl rfl ?_
    refine x_cSO (pc' := 98) (As := [xI (119 : Int32), xI (104 : Int32), xI (111 : Int32), xI (0 : Int32)]) (en := (fun v => some (xJ v))) (rest := []) K (fun a hF => ct_X8_spelt hF) rfl q1518 q1519 q1520 q105 hy_X8_spelt (Nat.le_of_ble_eq_true rfl) (Nat.le_of_ble_eq_true rfl) (Nat.le_of_ble_eq_true rfl) dX8_wordOf_95 rfl (fun x1 => ?_)
    exact x_ro (C9 := XEnd below s D h0 (fun v => .inl (some (xJ v))) Q) (x_lret K rfl hr dX8_wordOf_98)
  refine x_tsw (tgt := 99) K 1 dX8_wordOf_1 (by decide) rfl (by decide) ?_ (fun q1 => ?_)
  · refine x_bipush (pc' := 101) (v := 98) K dX8_wordOf_99 rfl (by decide) ?_
    refine x_bipush (pc' := 103) (v := 101) K dX8_wordOf_101 rfl (by decide) ?_
    refine x_bipush (pc' := 105) (v := 103) K dX8_wordOf_103 rfl (by decide) ?_
    refine x_bipush (pc' := 107) (v := 115) K dX8_wordOf_105 rfl (by decide) ?_
    refine x_cSO (pc' := 110) (As := [xI (98 : Int32), xI (101 : Int32), xI (103 : Int32), xI (115 : Int32)]) (en := (fun v => some (xJ v))) (rest := []) K (fun a hF => ct_X8_spelt hF) rfl q1518 q1519 q1520 q105 hy_X8_spelt (Nat.le_of_ble_eq_true rfl) (Nat.le_of_ble_eq_true rfl) (Nat.le_of_ble_eq_true rfl) dX8_wordOf_107 rfl (fun x2 => ?_)
    exact x_ro (C9 := XEnd below s D h0 (fun v => .inl (some (xJ v))) Q) (x_lret K rfl hr dX8_wordOf_110)
  refine x_tsw (tgt := 111) K 2 dX8_wordOf_1 (by decide) rfl (by decide) ?_ (fun q2 => ?_)
  · refine x_bipush (pc' := 113) (v := 111) K dX8_wordOf_111 rfl (by decide) ?_
    refine x_bipush (pc' := 115) (v := 119) K dX8_wordOf_113 rfl (by decide) ?_
    refine x_bipush (pc' := 117) (v := 101) K dX8_wordOf_115 rfl (by decide) ?_
    refine x_bipush (pc' := 119) (v := 115) K dX8_wordOf_117 rfl (by decide) ?_
    refine x_cSO (pc' := 122) (As := [xI (111 : Int32), xI (119 : Int32), xI (101 : Int32), xI (115 : Int32)]) (en := (fun v => some (xJ v))) (rest := []) K (fun a hF => ct_X8_spelt hF) rfl q1518 q1519 q1520 q105 hy_X8_spelt (Nat.le_of_ble_eq_true rfl) (Nat.le_of_ble_eq_true rfl) (Nat.le_of_ble_eq_true rfl) dX8_wordOf_119 rfl (fun x3 => ?_)
    exact x_ro (C9 := XEnd below s D h0 (fun v => .inl (some (xJ v))) Q) (x_lret K rfl hr dX8_wordOf_122)
  refine x_tsw (tgt := 123) K 3 dX8_wordOf_1 (by decide) rfl (by decide) ?_ (fun q3 => ?_)
  · refine x_bipush (pc' := 125) (v := 109) K dX8_wordOf_123 rfl (by decide) ?_
    refine x_bipush (pc' := 127) (v := 105) K dX8_wordOf_125 rfl (by decide) ?_
    refine x_bipush (pc' := 129) (v := 110) K dX8_wordOf_127 rfl (by decide) ?_
    refine x_bipush (pc' := 131) (v := 116) K dX8_wordOf_129 rfl (by decide) ?_
    refine x_cSO (pc' := 134) (As := [xI (109 : Int32), xI (105 : Int32), xI (110 : Int32), xI (116 : Int32)]) (en := (fun v => some (xJ v))) (rest := []) K (fun a hF => ct_X8_spelt hF) rfl q1518 q1519 q1520 q105 hy_X8_spelt (Nat.le_of_ble_eq_true rfl) (Nat.le_of_ble_eq_true rfl) (Nat.le_of_ble_eq_true rfl) dX8_wordOf_131 rfl (fun x4 => ?_)
    exact x_ro (C9 := XEnd below s D h0 (fun v => .inl (some (xJ v))) Q) (x_lret K rfl hr dX8_wordOf_134)
  refine x_tsw (tgt := 135) K 4 dX8_wordOf_1 (by decide) rfl (by decide) ?_ (fun q4 => ?_)
  · refine x_bipush (pc' := 137) (v := 116) K dX8_wordOf_135 rfl (by decide) ?_
    refine x_bipush (pc' := 139) (v := 97) K dX8_wordOf_137 rfl (by decide) ?_
    refine x_bipush (pc' := 141) (v := 107) K dX8_wordOf_139 rfl (by decide) ?_
    refine x_bipush (pc' := 143) (v := 101) K dX8_wordOf_141 rfl (by decide) ?_
    refine x_cSO (pc' := 146) (As := [xI (116 : Int32), xI (97 : Int32), xI (107 : Int32), xI (101 : Int32)]) (en := (fun v => some (xJ v))) (rest := []) K (fun a hF => ct_X8_spelt hF) rfl q1518 q1519 q1520 q105 hy_X8_spelt (Nat.le_of_ble_eq_true rfl) (Nat.le_of_ble_eq_true rfl) (Nat.le_of_ble_eq_true rfl) dX8_wordOf_143 rfl (fun x5 => ?_)
    refine x_bipush (pc' := 148) (v := 115) K dX8_wordOf_146 rfl (by decide) ?_
    refine x_iconst (pc' := 149) (v := 0) K dX8_wordOf_148 rfl rfl ?_
    refine x_cSO (pc' := 152) (As := [xJ x5, xI (115 : Int32), xI (0 : Int32)]) (en := (fun v => some (xJ v))) (rest := []) K (fun a hF => ct_X8_on hF) rfl q1521 q1522 q1523 q105 hy_X8_on (Nat.le_of_ble_eq_true rfl) (Nat.le_of_ble_eq_true rfl) (Nat.le_of_ble_eq_true rfl) dX8_wordOf_149 rfl (fun x6 => ?_)
    exact x_ro (C9 := XEnd below s D h0 (fun v => .inl (some (xJ v))) Q) (x_lret K rfl hr dX8_wordOf_152)
  refine x_tsw (tgt := 153) K 5 dX8_wordOf_1 (by decide) rfl (by decide) ?_ (fun q5 => ?_)
  · refine x_bipush (pc' := 155) (v := 108) K dX8_wordOf_153 rfl (by decide) ?_
    refine x_bipush (pc' := 157) (v := 117) K dX8_wordOf_155 rfl (by decide) ?_
    refine x_bipush (pc' := 159) (v := 99) K dX8_wordOf_157 rfl (by decide) ?_
    refine x_bipush (pc' := 161) (v := 107) K dX8_wordOf_159 rfl (by decide) ?_
    refine x_cSO (pc' := 164) (As := [xI (108 : Int32), xI (117 : Int32), xI (99 : Int32), xI (107 : Int32)]) (en := (fun v => some (xJ v))) (rest := []) K (fun a hF => ct_X8_spelt hF) rfl q1518 q1519 q1520 q105 hy_X8_spelt (Nat.le_of_ble_eq_true rfl) (Nat.le_of_ble_eq_true rfl) (Nat.le_of_ble_eq_true rfl) dX8_wordOf_161 rfl (fun x7 => ?_)
    refine x_bipush (pc' := 166) (v := 121) K dX8_wordOf_164 rfl (by decide) ?_
    refine x_iconst (pc' := 167) (v := 0) K dX8_wordOf_166 rfl rfl ?_
    refine x_cSO (pc' := 170) (As := [xJ x7, xI (121 : Int32), xI (0 : Int32)]) (en := (fun v => some (xJ v))) (rest := []) K (fun a hF => ct_X8_on hF) rfl q1521 q1522 q1523 q105 hy_X8_on (Nat.le_of_ble_eq_true rfl) (Nat.le_of_ble_eq_true rfl) (Nat.le_of_ble_eq_true rfl) dX8_wordOf_167 rfl (fun x8 => ?_)
    exact x_ro (C9 := XEnd below s D h0 (fun v => .inl (some (xJ v))) Q) (x_lret K rfl hr dX8_wordOf_170)
  refine x_tsw (tgt := 171) K 6 dX8_wordOf_1 (by decide) rfl (by decide) ?_ (fun q6 => ?_)
  · refine x_bipush (pc' := 173) (v := 100) K dX8_wordOf_171 rfl (by decide) ?_
    refine x_bipush (pc' := 175) (v := 101) K dX8_wordOf_173 rfl (by decide) ?_
    refine x_bipush (pc' := 177) (v := 97) K dX8_wordOf_175 rfl (by decide) ?_
    refine x_bipush (pc' := 179) (v := 100) K dX8_wordOf_177 rfl (by decide) ?_
    refine x_cSO (pc' := 182) (As := [xI (100 : Int32), xI (101 : Int32), xI (97 : Int32), xI (100 : Int32)]) (en := (fun v => some (xJ v))) (rest := []) K (fun a hF => ct_X8_spelt hF) rfl q1518 q1519 q1520 q105 hy_X8_spelt (Nat.le_of_ble_eq_true rfl) (Nat.le_of_ble_eq_true rfl) (Nat.le_of_ble_eq_true rfl) dX8_wordOf_179 rfl (fun x9 => ?_)
    exact x_ro (C9 := XEnd below s D h0 (fun v => .inl (some (xJ v))) Q) (x_lret K rfl hr dX8_wordOf_182)
  refine x_tsw (tgt := 183) K 7 dX8_wordOf_1 (by decide) rfl (by decide) ?_ (fun q7 => ?_)
  · refine x_bipush (pc' := 185) (v := 116) K dX8_wordOf_183 rfl (by decide) ?_
    refine x_bipush (pc' := 187) (v := 104) K dX8_wordOf_185 rfl (by decide) ?_
    refine x_bipush (pc' := 189) (v := 105) K dX8_wordOf_187 rfl (by decide) ?_
    refine x_bipush (pc' := 191) (v := 110) K dX8_wordOf_189 rfl (by decide) ?_
    refine x_cSO (pc' := 194) (As := [xI (116 : Int32), xI (104 : Int32), xI (105 : Int32), xI (110 : Int32)]) (en := (fun v => some (xJ v))) (rest := []) K (fun a hF => ct_X8_spelt hF) rfl q1518 q1519 q1520 q105 hy_X8_spelt (Nat.le_of_ble_eq_true rfl) (Nat.le_of_ble_eq_true rfl) (Nat.le_of_ble_eq_true rfl) dX8_wordOf_191 rfl (fun x10 => ?_)
    exact x_ro (C9 := XEnd below s D h0 (fun v => .inl (some (xJ v))) Q) (x_lret K rfl hr dX8_wordOf_194)
  refine x_tsw (tgt := 195) K 8 dX8_wordOf_1 (by decide) rfl (by decide) ?_ (fun q8 => ?_)
  · refine x_bipush (pc' := 197) (v := 102) K dX8_wordOf_195 rfl (by decide) ?_
    refine x_bipush (pc' := 199) (v := 97) K dX8_wordOf_197 rfl (by decide) ?_
    refine x_bipush (pc' := 201) (v := 99) K dX8_wordOf_199 rfl (by decide) ?_
    refine x_bipush (pc' := 203) (v := 101) K dX8_wordOf_201 rfl (by decide) ?_
    refine x_cSO (pc' := 206) (As := [xI (102 : Int32), xI (97 : Int32), xI (99 : Int32), xI (101 : Int32)]) (en := (fun v => some (xJ v))) (rest := []) K (fun a hF => ct_X8_spelt hF) rfl q1518 q1519 q1520 q105 hy_X8_spelt (Nat.le_of_ble_eq_true rfl) (Nat.le_of_ble_eq_true rfl) (Nat.le_of_ble_eq_true rfl) dX8_wordOf_203 rfl (fun x11 => ?_)
    refine x_bipush (pc' := 208) (v := 115) K dX8_wordOf_206 rfl (by decide) ?_
    refine x_iconst (pc' := 209) (v := 0) K dX8_wordOf_208 rfl rfl ?_
    refine x_cSO (pc' := 212) (As := [xJ x11, xI (115 : Int32), xI (0 : Int32)]) (en := (fun v => some (xJ v))) (rest := []) K (fun a hF => ct_X8_on hF) rfl q1521 q1522 q1523 q105 hy_X8_on (Nat.le_of_ble_eq_true rfl) (Nat.le_of_ble_eq_true rfl) (Nat.le_of_ble_eq_true rfl) dX8_wordOf_209 rfl (fun x12 => ?_)
    exact x_ro (C9 := XEnd below s D h0 (fun v => .inl (some (xJ v))) Q) (x_lret K rfl hr dX8_wordOf_212)
  refine x_tsw (tgt := 213) K 9 dX8_wordOf_1 (by decide) rfl (by decide) ?_ (fun q9 => ?_)
  · refine x_bipush (pc' := 215) (v := 111) K dX8_wordOf_213 rfl (by decide) ?_
    refine x_bipush (pc' := 217) (v := 114) K dX8_wordOf_215 rfl (by decide) ?_
    refine x_iconst (pc' := 218) (v := 0) K dX8_wordOf_217 rfl rfl ?_
    refine x_iconst (pc' := 219) (v := 0) K dX8_wordOf_218 rfl rfl ?_
    refine x_cSO (pc' := 222) (As := [xI (111 : Int32), xI (114 : Int32), xI (0 : Int32), xI (0 : Int32)]) (en := (fun v => some (xJ v))) (rest := []) K (fun a hF => ct_X8_spelt hF) rfl q1518 q1519 q1520 q105 hy_X8_spelt (Nat.le_of_ble_eq_true rfl) (Nat.le_of_ble_eq_true rfl) (Nat.le_of_ble_eq_true rfl) dX8_wordOf_219 rfl (fun x13 => ?_)
    exact x_ro (C9 := XEnd below s D h0 (fun v => .inl (some (xJ v))) Q) (x_lret K rfl hr dX8_wordOf_222)
  refine x_tsw (tgt := 223) K 10 dX8_wordOf_1 (by decide) rfl (by decide) ?_ (fun q10 => ?_)
  · refine x_bipush (pc' := 225) (v := 97) K dX8_wordOf_223 rfl (by decide) ?_
    refine x_bipush (pc' := 227) (v := 110) K dX8_wordOf_225 rfl (by decide) ?_
    refine x_bipush (pc' := 229) (v := 100) K dX8_wordOf_227 rfl (by decide) ?_
    refine x_iconst (pc' := 230) (v := 0) K dX8_wordOf_229 rfl rfl ?_
    refine x_cSO (pc' := 233) (As := [xI (97 : Int32), xI (110 : Int32), xI (100 : Int32), xI (0 : Int32)]) (en := (fun v => some (xJ v))) (rest := []) K (fun a hF => ct_X8_spelt hF) rfl q1518 q1519 q1520 q105 hy_X8_spelt (Nat.le_of_ble_eq_true rfl) (Nat.le_of_ble_eq_true rfl) (Nat.le_of_ble_eq_true rfl) dX8_wordOf_230 rfl (fun x14 => ?_)
    exact x_ro (C9 := XEnd below s D h0 (fun v => .inl (some (xJ v))) Q) (x_lret K rfl hr dX8_wordOf_233)
  refine x_tsw (tgt := 234) K 11 dX8_wordOf_1 (by decide) rfl (by decide) ?_ (fun q11 => ?_)
  · refine x_bipush (pc' := 236) (v := 110) K dX8_wordOf_234 rfl (by decide) ?_
    refine x_bipush (pc' := 238) (v := 111) K dX8_wordOf_236 rfl (by decide) ?_
    refine x_bipush (pc' := 240) (v := 116) K dX8_wordOf_238 rfl (by decide) ?_
    refine x_iconst (pc' := 241) (v := 0) K dX8_wordOf_240 rfl rfl ?_
    refine x_cSO (pc' := 244) (As := [xI (110 : Int32), xI (111 : Int32), xI (116 : Int32), xI (0 : Int32)]) (en := (fun v => some (xJ v))) (rest := []) K (fun a hF => ct_X8_spelt hF) rfl q1518 q1519 q1520 q105 hy_X8_spelt (Nat.le_of_ble_eq_true rfl) (Nat.le_of_ble_eq_true rfl) (Nat.le_of_ble_eq_true rfl) dX8_wordOf_241 rfl (fun x15 => ?_)
    exact x_ro (C9 := XEnd below s D h0 (fun v => .inl (some (xJ v))) Q) (x_lret K rfl hr dX8_wordOf_244)
  refine x_tsw (tgt := 245) K 12 dX8_wordOf_1 (by decide) rfl (by decide) ?_ (fun q12 => ?_)
  · refine x_bipush (pc' := 247) (v := 98) K dX8_wordOf_245 rfl (by decide) ?_
    refine x_bipush (pc' := 249) (v := 101) K dX8_wordOf_247 rfl (by decide) ?_
    refine x_bipush (pc' := 251) (v := 97) K dX8_wordOf_249 rfl (by decide) ?_
    refine x_bipush (pc' := 253) (v := 114) K dX8_wordOf_251 rfl (by decide) ?_
    refine x_cSO (pc' := 256) (As := [xI (98 : Int32), xI (101 : Int32), xI (97 : Int32), xI (114 : Int32)]) (en := (fun v => some (xJ v))) (rest := []) K (fun a hF => ct_X8_spelt hF) rfl q1518 q1519 q1520 q105 hy_X8_spelt (Nat.le_of_ble_eq_true rfl) (Nat.le_of_ble_eq_true rfl) (Nat.le_of_ble_eq_true rfl) dX8_wordOf_253 rfl (fun x16 => ?_)
    refine x_bipush (pc' := 258) (v := 115) K dX8_wordOf_256 rfl (by decide) ?_
    refine x_iconst (pc' := 259) (v := 0) K dX8_wordOf_258 rfl rfl ?_
    refine x_cSO (pc' := 262) (As := [xJ x16, xI (115 : Int32), xI (0 : Int32)]) (en := (fun v => some (xJ v))) (rest := []) K (fun a hF => ct_X8_on hF) rfl q1521 q1522 q1523 q105 hy_X8_on (Nat.le_of_ble_eq_true rfl) (Nat.le_of_ble_eq_true rfl) (Nat.le_of_ble_eq_true rfl) dX8_wordOf_259 rfl (fun x17 => ?_)
    exact x_ro (C9 := XEnd below s D h0 (fun v => .inl (some (xJ v))) Q) (x_lret K rfl hr dX8_wordOf_262)
  refine x_tsw (tgt := 263) K 13 dX8_wordOf_1 (by decide) rfl (by decide) ?_ (fun q13 => ?_)
  · refine x_bipush (pc' := 265) (v := 115) K dX8_wordOf_263 rfl (by decide) ?_
    refine x_bipush (pc' := 267) (v := 104) K dX8_wordOf_265 rfl (by decide) ?_
    refine x_bipush (pc' := 269) (v := 111) K dX8_wordOf_267 rfl (by decide) ?_
    refine x_bipush (pc' := 271) (v := 119) K dX8_wordOf_269 rfl (by decide) ?_
    refine x_cSO (pc' := 274) (As := [xI (115 : Int32), xI (104 : Int32), xI (111 : Int32), xI (119 : Int32)]) (en := (fun v => some (xJ v))) (rest := []) K (fun a hF => ct_X8_spelt hF) rfl q1518 q1519 q1520 q105 hy_X8_spelt (Nat.le_of_ble_eq_true rfl) (Nat.le_of_ble_eq_true rfl) (Nat.le_of_ble_eq_true rfl) dX8_wordOf_271 rfl (fun x18 => ?_)
    refine x_bipush (pc' := 276) (v := 115) K dX8_wordOf_274 rfl (by decide) ?_
    refine x_iconst (pc' := 277) (v := 0) K dX8_wordOf_276 rfl rfl ?_
    refine x_cSO (pc' := 280) (As := [xJ x18, xI (115 : Int32), xI (0 : Int32)]) (en := (fun v => some (xJ v))) (rest := []) K (fun a hF => ct_X8_on hF) rfl q1521 q1522 q1523 q105 hy_X8_on (Nat.le_of_ble_eq_true rfl) (Nat.le_of_ble_eq_true rfl) (Nat.le_of_ble_eq_true rfl) dX8_wordOf_277 rfl (fun x19 => ?_)
    exact x_ro (C9 := XEnd below s D h0 (fun v => .inl (some (xJ v))) Q) (x_lret K rfl hr dX8_wordOf_280)
  refine x_tsw (tgt := 281) K 14 dX8_wordOf_1 (by decide) rfl (by decide) ?_ (fun q14 => ?_)
  · refine x_bipush (pc' := 283) (v := 104) K dX8_wordOf_281 rfl (by decide) ?_
    refine x_bipush (pc' := 285) (v := 101) K dX8_wordOf_283 rfl (by decide) ?_
    refine x_bipush (pc' := 287) (v := 108) K dX8_wordOf_285 rfl (by decide) ?_
    refine x_bipush (pc' := 289) (v := 100) K dX8_wordOf_287 rfl (by decide) ?_
    refine x_cSO (pc' := 292) (As := [xI (104 : Int32), xI (101 : Int32), xI (108 : Int32), xI (100 : Int32)]) (en := (fun v => some (xJ v))) (rest := []) K (fun a hF => ct_X8_spelt hF) rfl q1518 q1519 q1520 q105 hy_X8_spelt (Nat.le_of_ble_eq_true rfl) (Nat.le_of_ble_eq_true rfl) (Nat.le_of_ble_eq_true rfl) dX8_wordOf_289 rfl (fun x20 => ?_)
    exact x_ro (C9 := XEnd below s D h0 (fun v => .inl (some (xJ v))) Q) (x_lret K rfl hr dX8_wordOf_292)
  refine x_tsw (tgt := 293) K 15 dX8_wordOf_1 (by decide) rfl (by decide) ?_ (fun q15 => ?_)
  · refine x_bipush (pc' := 295) (v := 102) K dX8_wordOf_293 rfl (by decide) ?_
    refine x_bipush (pc' := 297) (v := 97) K dX8_wordOf_295 rfl (by decide) ?_
    refine x_bipush (pc' := 299) (v := 108) K dX8_wordOf_297 rfl (by decide) ?_
    refine x_bipush (pc' := 301) (v := 115) K dX8_wordOf_299 rfl (by decide) ?_
    refine x_cSO (pc' := 304) (As := [xI (102 : Int32), xI (97 : Int32), xI (108 : Int32), xI (115 : Int32)]) (en := (fun v => some (xJ v))) (rest := []) K (fun a hF => ct_X8_spelt hF) rfl q1518 q1519 q1520 q105 hy_X8_spelt (Nat.le_of_ble_eq_true rfl) (Nat.le_of_ble_eq_true rfl) (Nat.le_of_ble_eq_true rfl) dX8_wordOf_301 rfl (fun x21 => ?_)
    refine x_bipush (pc' := 306) (v := 101) K dX8_wordOf_304 rfl (by decide) ?_
    refine x_iconst (pc' := 307) (v := 0) K dX8_wordOf_306 rfl rfl ?_
    refine x_cSO (pc' := 310) (As := [xJ x21, xI (101 : Int32), xI (0 : Int32)]) (en := (fun v => some (xJ v))) (rest := []) K (fun a hF => ct_X8_on hF) rfl q1521 q1522 q1523 q105 hy_X8_on (Nat.le_of_ble_eq_true rfl) (Nat.le_of_ble_eq_true rfl) (Nat.le_of_ble_eq_true rfl) dX8_wordOf_307 rfl (fun x22 => ?_)
    exact x_ro (C9 := XEnd below s D h0 (fun v => .inl (some (xJ v))) Q) (x_lret K rfl hr dX8_wordOf_310)
  refine x_tsw (tgt := 311) K 16 dX8_wordOf_1 (by decide) rfl (by decide) ?_ (fun q16 => ?_)
  · refine x_bipush (pc' := 313) (v := 103) K dX8_wordOf_311 rfl (by decide) ?_
    refine x_bipush (pc' := 315) (v := 114) K dX8_wordOf_313 rfl (by decide) ?_
    refine x_bipush (pc' := 317) (v := 97) K dX8_wordOf_315 rfl (by decide) ?_
    refine x_bipush (pc' := 319) (v := 105) K dX8_wordOf_317 rfl (by decide) ?_
    refine x_cSO (pc' := 322) (As := [xI (103 : Int32), xI (114 : Int32), xI (97 : Int32), xI (105 : Int32)]) (en := (fun v => some (xJ v))) (rest := []) K (fun a hF => ct_X8_spelt hF) rfl q1518 q1519 q1520 q105 hy_X8_spelt (Nat.le_of_ble_eq_true rfl) (Nat.le_of_ble_eq_true rfl) (Nat.le_of_ble_eq_true rfl) dX8_wordOf_319 rfl (fun x23 => ?_)
    refine x_bipush (pc' := 324) (v := 110) K dX8_wordOf_322 rfl (by decide) ?_
    refine x_bipush (pc' := 326) (v := 115) K dX8_wordOf_324 rfl (by decide) ?_
    refine x_cSO (pc' := 329) (As := [xJ x23, xI (110 : Int32), xI (115 : Int32)]) (en := (fun v => some (xJ v))) (rest := []) K (fun a hF => ct_X8_on hF) rfl q1521 q1522 q1523 q105 hy_X8_on (Nat.le_of_ble_eq_true rfl) (Nat.le_of_ble_eq_true rfl) (Nat.le_of_ble_eq_true rfl) dX8_wordOf_326 rfl (fun x24 => ?_)
    exact x_ro (C9 := XEnd below s D h0 (fun v => .inl (some (xJ v))) Q) (x_lret K rfl hr dX8_wordOf_329)
  refine x_tsw (tgt := 330) K 17 dX8_wordOf_1 (by decide) rfl (by decide) ?_ (fun q17 => ?_)
  · refine x_bipush (pc' := 332) (v := 108) K dX8_wordOf_330 rfl (by decide) ?_
    refine x_bipush (pc' := 334) (v := 97) K dX8_wordOf_332 rfl (by decide) ?_
    refine x_bipush (pc' := 336) (v := 121) K dX8_wordOf_334 rfl (by decide) ?_
    refine x_bipush (pc' := 338) (v := 101) K dX8_wordOf_336 rfl (by decide) ?_
    refine x_cSO (pc' := 341) (As := [xI (108 : Int32), xI (97 : Int32), xI (121 : Int32), xI (101 : Int32)]) (en := (fun v => some (xJ v))) (rest := []) K (fun a hF => ct_X8_spelt hF) rfl q1518 q1519 q1520 q105 hy_X8_spelt (Nat.le_of_ble_eq_true rfl) (Nat.le_of_ble_eq_true rfl) (Nat.le_of_ble_eq_true rfl) dX8_wordOf_338 rfl (fun x25 => ?_)
    refine x_bipush (pc' := 343) (v := 114) K dX8_wordOf_341 rfl (by decide) ?_
    refine x_bipush (pc' := 345) (v := 115) K dX8_wordOf_343 rfl (by decide) ?_
    refine x_cSO (pc' := 348) (As := [xJ x25, xI (114 : Int32), xI (115 : Int32)]) (en := (fun v => some (xJ v))) (rest := []) K (fun a hF => ct_X8_on hF) rfl q1521 q1522 q1523 q105 hy_X8_on (Nat.le_of_ble_eq_true rfl) (Nat.le_of_ble_eq_true rfl) (Nat.le_of_ble_eq_true rfl) dX8_wordOf_345 rfl (fun x26 => ?_)
    exact x_ro (C9 := XEnd below s D h0 (fun v => .inl (some (xJ v))) Q) (x_lret K rfl hr dX8_wordOf_348)
  refine x_tsw0 (tgt := 349) K dX8_wordOf_1 (xout_ok (xout_s (xout_s (xout_s (xout_s (xout_s (xout_s (xout_s (xout_s (xout_s (xout_s (xout_s (xout_s (xout_s (xout_s (xout_s (xout_s (xout_s (xout_s xout_0 (by decide) q0) (by decide) q1) (by decide) q2) (by decide) q3) (by decide) q4) (by decide) q5) (by decide) q6) (by decide) q7) (by decide) q8) (by decide) q9) (by decide) q10) (by decide) q11) (by decide) q12) (by decide) q13) (by decide) q14) (by decide) q15) (by decide) q16) (by decide) q17) (by decide)) (by decide) ?_
  refine x_bipush (pc' := 351) (v := 115) K dX8_wordOf_349 rfl (by decide) ?_
  refine x_bipush (pc' := 353) (v := 116) K dX8_wordOf_351 rfl (by decide) ?_
  refine x_bipush (pc' := 355) (v := 114) K dX8_wordOf_353 rfl (by decide) ?_
  refine x_bipush (pc' := 357) (v := 117) K dX8_wordOf_355 rfl (by decide) ?_
  refine x_cSO (pc' := 360) (As := [xI (115 : Int32), xI (116 : Int32), xI (114 : Int32), xI (117 : Int32)]) (en := (fun v => some (xJ v))) (rest := []) K (fun a hF => ct_X8_spelt hF) rfl q1518 q1519 q1520 q105 hy_X8_spelt (Nat.le_of_ble_eq_true rfl) (Nat.le_of_ble_eq_true rfl) (Nat.le_of_ble_eq_true rfl) dX8_wordOf_357 rfl (fun x27 => ?_)
  refine x_bipush (pc' := 362) (v := 99) K dX8_wordOf_360 rfl (by decide) ?_
  refine x_bipush (pc' := 364) (v := 107) K dX8_wordOf_362 rfl (by decide) ?_
  refine x_cSO (pc' := 367) (As := [xJ x27, xI (99 : Int32), xI (107 : Int32)]) (en := (fun v => some (xJ v))) (rest := []) K (fun a hF => ct_X8_on hF) rfl q1521 q1522 q1523 q105 hy_X8_on (Nat.le_of_ble_eq_true rfl) (Nat.le_of_ble_eq_true rfl) (Nat.le_of_ble_eq_true rfl) dX8_wordOf_364 rfl (fun x28 => ?_)
  exact x_ro (C9 := XEnd below s D h0 (fun v => .inl (some (xJ v))) Q) (x_lret K rfl hr dX8_wordOf_367)
/-! FaceCoinsModel.isWord(I)Z -/
noncomputable def fM_isWord (v0 : Nat) (v1 : Int32) (h0 : AH) : Option Int32 :=
  (xgi h0 v0 [14] 7).bind fun x1 =>
  if x1 = (2 : Int32) then (
    (xgj h0 v0 [14] 12).bind fun x2 =>
    (fM_wordOf v1 h0).bind fun x3 =>
    if (lg_cmp x2 x3) = 0 then (
      some ((1 : Int32)))
    else (
      some ((0 : Int32))))
  else (
    some ((0 : Int32)))
set_option maxHeartbeats 4000000 in
theorem ct_X8_isWord {l : Launch} {D : XD} {v0 : Nat} {v1 : Int32} {h0 : AH} {a : Int32} (hF : fM_isWord v0 v1 h0 = some a) : XCt l D yX8_isWord (ws_ yX8_isWord cX8_isWord 2 (some .boolean)) 2 45 [xR v0, xI v1] h0 (.inl (some (xI a))) h0 := by
  refine x_method (by decide) (Nat.le_of_ble_eq_true rfl) fun p e R s m args below meth c K hr hnm hex => ?_
  have K : XO p R s m args meth c D 2 h0 cX8_isWord "FaceCoinsModel" 2 45 := K
  generalize hQ : XMQ below _ _ _ _ _ _ = Q
  refine (?_ : XF p l e R s m args below meth c D 2 h0 Q 0 [(0, xR v0), (1, xI v1)] [] h0 (fM_isWord v0 v1 h0) (fun z => XEnd below s D h0 (fun v => .inl (some (xI v))) Q (z, h0))) a hF hQ.symm
  unfold fM_isWord
  refine x_aload_n (pc' := 1) K 0 dX8_isWord_0 rfl rfl ?_
  refine x_geti (pc' := 4) K fg_14_7 (Or.inl (K.2.2.2.2.1 _ q1319)) (fun _ h9 => h9) dX8_isWord_1 rfl (fun x1 => ?_)
  refine x_iconst (pc' := 5) (v := 2) K dX8_isWord_4 rfl rfl ?_
  refine x_icmp_ne (tgt := 24) (pc' := 8) K dX8_isWord_5 rfl (by decide) ?_ ?_
  · refine x_iconst (pc' := 25) (v := 0) K dX8_isWord_24 rfl rfl ?_
    exact x_ro (C9 := XEnd below s D h0 (fun v => .inl (some (xI v))) Q) (x_zret K (Or.inl rfl) rfl hr dX8_isWord_25)
  · refine x_aload_n (pc' := 9) K 0 dX8_isWord_8 rfl rfl ?_
    refine x_getj (pc' := 12) K fg_14_12 (Or.inl (K.2.2.2.2.1 _ q1324)) (fun _ h9 => h9) dX8_isWord_9 rfl (fun x2 => ?_)
    refine x_iload_n (pc' := 13) K 1 dX8_isWord_12 rfl rfl ?_
    refine x_cSO (pc' := 16) (As := [xI v1]) (en := (fun v => some (xJ v))) (rest := [xJ x2]) K (fun a hF => ct_X8_wordOf hF) rfl q1515 q1516 q1517 q105 hy_X8_wordOf (Nat.le_of_ble_eq_true rfl) (Nat.le_of_ble_eq_true rfl) (Nat.le_of_ble_eq_true rfl) dX8_isWord_13 rfl (fun x3 => ?_)
    refine x_lcmp (pc' := 17) K dX8_isWord_16 rfl ?_
    refine x_if_ne (tgt := 24) (pc' := 20) K dX8_isWord_17 rfl (by decide) ?_ ?_
    · refine x_iconst (pc' := 25) (v := 0) K dX8_isWord_24 rfl rfl ?_
      exact x_ro (C9 := XEnd below s D h0 (fun v => .inl (some (xI v))) Q) (x_zret K (Or.inl rfl) rfl hr dX8_isWord_25)
    · refine x_iconst (pc' := 21) (v := 1) K dX8_isWord_20 rfl rfl ?_
      refine x_goto (tgt := 25) K dX8_isWord_21 (by decide) ?_
      exact x_ro (C9 := XEnd below s D h0 (fun v => .inl (some (xI v))) Q) (x_zret K (Or.inr rfl) rfl hr dX8_isWord_25)
/-! FaceCoinsModel.isSign(I)Z -/
noncomputable def fM_isSign (v0 : Nat) (v1 : Int32) (h0 : AH) : Option Int32 :=
  (xgi h0 v0 [14] 7).bind fun x1 =>
  if x1 = (4 : Int32) then (
    (xgi h0 v0 [14] 9).bind fun x2 =>
    if x2 = v1 then (
      some ((1 : Int32)))
    else (
      some ((0 : Int32))))
  else (
    some ((0 : Int32)))
set_option maxHeartbeats 4000000 in
theorem ct_X8_isSign {l : Launch} {D : XD} {v0 : Nat} {v1 : Int32} {h0 : AH} {a : Int32} (hF : fM_isSign v0 v1 h0 = some a) : XCt l D yX8_isSign (ws_ yX8_isSign cX8_isSign 2 (some .boolean)) 0 0 [xR v0, xI v1] h0 (.inl (some (xI a))) h0 := by
  refine x_method (by decide) (Nat.le_of_ble_eq_true rfl) fun p e R s m args below meth c K hr hnm hex => ?_
  have K : XO p R s m args meth c D 2 h0 cX8_isSign "FaceCoinsModel" 0 0 := K
  generalize hQ : XMQ below _ _ _ _ _ _ = Q
  refine (?_ : XF p l e R s m args below meth c D 2 h0 Q 0 [(0, xR v0), (1, xI v1)] [] h0 (fM_isSign v0 v1 h0) (fun z => XEnd below s D h0 (fun v => .inl (some (xI v))) Q (z, h0))) a hF hQ.symm
  unfold fM_isSign
  refine x_aload_n (pc' := 1) K 0 dX8_isSign_0 rfl rfl ?_
  refine x_geti (pc' := 4) K fg_14_7 (Or.inl (K.2.2.2.2.1 _ q1319)) (fun _ h9 => h9) dX8_isSign_1 rfl (fun x1 => ?_)
  refine x_iconst (pc' := 5) (v := 4) K dX8_isSign_4 rfl rfl ?_
  refine x_icmp_ne (tgt := 20) (pc' := 8) K dX8_isSign_5 rfl (by decide) ?_ ?_
  · refine x_iconst (pc' := 21) (v := 0) K dX8_isSign_20 rfl rfl ?_
    exact x_ro (C9 := XEnd below s D h0 (fun v => .inl (some (xI v))) Q) (x_zret K (Or.inl rfl) rfl hr dX8_isSign_21)
  · refine x_aload_n (pc' := 9) K 0 dX8_isSign_8 rfl rfl ?_
    refine x_geti (pc' := 12) K fg_14_9 (Or.inl (K.2.2.2.2.1 _ q1321)) (fun _ h9 => h9) dX8_isSign_9 rfl (fun x2 => ?_)
    refine x_iload_n (pc' := 13) K 1 dX8_isSign_12 rfl rfl ?_
    refine x_icmp_ne (tgt := 20) (pc' := 16) K dX8_isSign_13 rfl (by decide) ?_ ?_
    · refine x_iconst (pc' := 21) (v := 0) K dX8_isSign_20 rfl rfl ?_
      exact x_ro (C9 := XEnd below s D h0 (fun v => .inl (some (xI v))) Q) (x_zret K (Or.inl rfl) rfl hr dX8_isSign_21)
    · refine x_iconst (pc' := 17) (v := 1) K dX8_isSign_16 rfl rfl ?_
      refine x_goto (tgt := 21) K dX8_isSign_17 (by decide) ?_
      exact x_ro (C9 := XEnd below s D h0 (fun v => .inl (some (xI v))) Q) (x_zret K (Or.inr rfl) rfl hr dX8_isSign_21)
/-! FaceCoinsModel.readEnd()Z -/
noncomputable def fM_readEnd (v0 : Nat) (h0 : AH) : Option (Int32 × AH) :=
  (xck h0 v0 14 (fM_isSign v0 (59 : Int32) h0)).bind fun x1 =>
  if x1 = 0 then (
    xb2 (xck h0 v0 14 (fM_bad v0 (1 : Int32) h0)) fun x3 g4 =>
    if x3 = 0 ∨ x3 = 1 then (
      some ((x3, g4)))
    else none)
  else (
    xb2 (xck h0 v0 14 (fM_go v0 h0)) fun x_ g2 =>
    some (((1 : Int32), g2)))
set_option maxHeartbeats 4000000 in
theorem ct_X8_readEnd {l : Launch} {D : XD} {v0 : Nat} {h0 : AH} {a : Int32} {h1 : AH} (hF : fM_readEnd v0 h0 = some (a, h1)) : XCt l D yX8_readEnd (ws_ yX8_readEnd cX8_readEnd 1 (some .boolean)) 2 45 [xR v0] h0 (.inl (some (xI a))) h1 := by
  refine x_method (by decide) (Nat.le_of_ble_eq_true rfl) fun p e R s m args below meth c K hr hnm hex => ?_
  have K : XO p R s m args meth c D 1 h0 cX8_readEnd "FaceCoinsModel" 2 45 := K
  generalize hQ : XMQ below _ _ _ _ _ _ = Q
  refine (?_ : XF p l e R s m args below meth c D 1 h0 Q 0 [(0, xR v0)] [] h0 (fM_readEnd v0 h0) (XEnd below s D h0 (fun v => .inl (some (xI v))) Q)) (a, h1) hF hQ.symm
  unfold fM_readEnd
  refine x_aload_n (pc' := 1) K 0 dX8_readEnd_0 rfl rfl ?_
  refine x_bipush (pc' := 3) (v := 59) K dX8_readEnd_1 rfl (by decide) ?_
  refine x_cVO (pc' := 6) (As := [xI (59 : Int32)]) (en := (fun v => some (xI v))) (rest := []) K (fun a hF => ct_X8_isSign hF) rfl (by decide) q1574 q1576 qs49 q1577 q105 hy_X8_isSign (Nat.le_of_ble_eq_true rfl) (Nat.le_of_ble_eq_true rfl) (Nat.le_of_ble_eq_true rfl) dX8_readEnd_3 rfl (fun x1 => ?_)
  refine x_if_ne (tgt := 15) (pc' := 9) K dX8_readEnd_6 rfl (by decide) ?_ ?_
  · refine x_aload_n (pc' := 16) K 0 dX8_readEnd_15 rfl rfl ?_
    refine x_cV (pc' := 19) (As := []) (en := (fun _ => none)) (rest := []) K (fun a h1 hF => ct_X8_go hF) rfl (by decide) q1491 q1493 qs34 q1494 q105 hy_X8_go (Nat.le_of_ble_eq_true rfl) (Nat.le_of_ble_eq_true rfl) (Nat.le_of_ble_eq_true rfl) dX8_readEnd_16 rfl (fun x_ g2 => ?_)
    refine x_iconst (pc' := 20) (v := 1) K dX8_readEnd_19 rfl rfl ?_
    exact x_zret K (Or.inr rfl) rfl hr dX8_readEnd_20
  · refine x_aload_n (pc' := 10) K 0 dX8_readEnd_9 rfl rfl ?_
    refine x_iconst (pc' := 11) (v := 1) K dX8_readEnd_10 rfl rfl ?_
    refine x_cV (pc' := 14) (As := [xI (1 : Int32)]) (en := (fun v => some (xI v))) (rest := []) K (fun a h1 hF => ct_X8_bad hF) rfl (by decide) q1528 q1530 qs39 q1531 q105 hy_X8_bad (Nat.le_of_ble_eq_true rfl) (Nat.le_of_ble_eq_true rfl) (Nat.le_of_ble_eq_true rfl) dX8_readEnd_11 rfl (fun x3 g4 => ?_)
    refine x_check (fun qz => ?_)
    exact x_zret K qz rfl hr dX8_readEnd_14
/-! FaceCoinsModel.findIn([JII)I -/
noncomputable def fM_findIn_l3 (v0 : Nat) (v1 : Nat) (v2 : Int32) (v3 : Int32) (v4 : Int32) (h0 : AH) : Option ((Nat × Nat × Int32 × Int32 × Int32) ⊕ (Unit ⊕ Int32)) :=
  if v3 ≤ v4 then (
    some (Sum.inr (Sum.inl ())))
  else (
    (xaj h0 v1 (v2 + v4)).bind fun x1 =>
    (xgj h0 v0 [14] 12).bind fun x2 =>
    if (lg_cmp x1 x2) = 0 then (
      some (Sum.inr (Sum.inr (v4))))
    else (
      some (Sum.inl (v0, v1, v2, v3, (v4 + 1)))))
noncomputable def fM_findIn_a32  (h0 : AH) : Option Int32 :=
  some (((-1) : Int32))
noncomputable def fM_findIn (v0 : Nat) (v1 : Nat) (v2 : Int32) (v3 : Int32) (h0 : AH) : Option Int32 :=
  (xloop (fun s9 : (Nat × Nat × Int32 × Int32 × Int32) => fM_findIn_l3 s9.1 s9.2.1 s9.2.2.1 s9.2.2.2.1 s9.2.2.2.2 h0) (v0, v1, v2, v3, (0 : Int32))).bind (Sum.elim (fun r9 : Unit => fM_findIn_a32 h0) some)
set_option maxHeartbeats 4000000 in
theorem ct_X8_findIn {l : Launch} {D : XD} {v0 : Nat} {v1 : Nat} {v2 : Int32} {v3 : Int32} {h0 : AH} {a : Int32} (hF : fM_findIn v0 v1 v2 v3 h0 = some a) : XCt l D yX8_findIn (ws_ yX8_findIn cX8_findIn 5 (some .int)) 0 0 [xR v0, xR v1, xI v2, xI v3] h0 (.inl (some (xI a))) h0 := by
  refine x_method (by decide) (Nat.le_of_ble_eq_true rfl) fun p e R s m args below meth c K hr hnm hex => ?_
  have K : XO p R s m args meth c D 5 h0 cX8_findIn "FaceCoinsModel" 0 0 := K
  generalize hQ : XMQ below _ _ _ _ _ _ = Q
  have hL3 : ∀ (C1 : ((Nat × Nat × Int32 × Int32 × Int32) ⊕ (Unit ⊕ Int32)) → Prop) (hj1 : ∀ s9 : (Nat × Nat × Int32 × Int32 × Int32), C1 (Sum.inl s9) → XG p l e R s m args below meth c D 5 h0 Q 3 [(0, xR s9.1), (1, xR s9.2.1), (2, xI s9.2.2.1), (3, xI s9.2.2.2.1), (4, xI s9.2.2.2.2)] [] h0) (he1 : ∀ r9 : Unit, C1 (Sum.inr (Sum.inl r9)) → XG p l e R s m args below meth c D 5 h0 Q 32 [] [] h0) (hd1 : ∀ y9 : Int32, C1 (Sum.inr (Sum.inr y9)) → (fun z => XEnd below s D h0 (fun v => .inl (some (xI v))) Q (z, h0)) y9) (v0 : Nat) (v1 : Nat) (v2 : Int32) (v3 : Int32) (v4 : Int32), XF p l e R s m args below meth c D 5 h0 Q 3 [(0, xR v0), (1, xR v1), (2, xI v2), (3, xI v3), (4, xI v4)] [] h0 (fM_findIn_l3 v0 v1 v2 v3 v4 h0) C1 := by
    intro C1 hj1 he1 hd1
    intro v0 v1 v2 v3 v4
    unfold fM_findIn_l3
    refine x_iload (pc' := 5) K 4 dX8_findIn_3 rfl rfl ?_
    refine x_iload_n (pc' := 6) K 3 dX8_findIn_5 rfl rfl ?_
    refine x_icmp_ge (tgt := 32) (pc' := 9) K dX8_findIn_6 rfl (by decide) ?_ ?_
    · refine x_sub (lv' := []) [] rfl ?_
      exact x_jump (fun hz => he1 () hz)
    · refine x_aload_n (pc' := 10) K 1 dX8_findIn_9 rfl rfl ?_
      refine x_iload_n (pc' := 11) K 2 dX8_findIn_10 rfl rfl ?_
      refine x_iload (pc' := 13) K 4 dX8_findIn_11 rfl rfl ?_
      refine x_iadd (pc' := 14) K dX8_findIn_13 rfl ?_
      refine x_lald (pc' := 15) K dX8_findIn_14 rfl (fun x1 => ?_)
      refine x_aload_n (pc' := 16) K 0 dX8_findIn_15 rfl rfl ?_
      refine x_getj (pc' := 19) K fg_14_12 (Or.inl (K.2.2.2.2.1 _ q1324)) (fun _ h9 => h9) dX8_findIn_16 rfl (fun x2 => ?_)
      refine x_lcmp (pc' := 20) K dX8_findIn_19 rfl ?_
      refine x_if_ne (tgt := 26) (pc' := 23) K dX8_findIn_20 rfl (by decide) ?_ ?_
      · refine x_iinc (pc' := 29) (y := 1) (lv' := [(4, xI (v4 + 1)), (0, xR v0), (1, xR v1), (2, xI v2), (3, xI v3)]) K 4 dX8_findIn_26 rfl rfl (by decide) (by decide) rfl ?_
        refine x_goto (tgt := 3) K dX8_findIn_29 (by decide) ?_
        refine x_sub (lv' := [(0, xR v0), (1, xR v1), (2, xI v2), (3, xI v3), (4, xI (v4 + 1))]) [1, 2, 3, 4, 0] rfl ?_
        exact x_jump (fun hz => hj1 (v0, v1, v2, v3, (v4 + 1)) hz)
      · refine x_iload (pc' := 25) K 4 dX8_findIn_23 rfl rfl ?_
        refine x_g (fun z => Sum.inr (Sum.inr z)) (x_C (C8 := (fun z => XEnd below s D h0 (fun v => .inl (some (xI v))) Q (z, h0))) (fun z hz => hd1 z hz) ?_)
        exact x_ro (C9 := XEnd below s D h0 (fun v => .inl (some (xI v))) Q) (x_iret K rfl hr dX8_findIn_25)
  have hA32_0 : XF p l e R s m args below meth c D 5 h0 Q 32 [] [] h0 (fM_findIn_a32 h0) (fun z => XEnd below s D h0 (fun v => .inl (some (xI v))) Q (z, h0)) := by
    unfold fM_findIn_a32
    refine x_iconst (pc' := 33) (v := (-1)) K dX8_findIn_32 rfl rfl ?_
    exact x_ro (C9 := XEnd below s D h0 (fun v => .inl (some (xI v))) Q) (x_iret K rfl hr dX8_findIn_33)
  refine (?_ : XF p l e R s m args below meth c D 5 h0 Q 0 [(0, xR v0), (1, xR v1), (2, xI v2), (3, xI v3)] [] h0 (fM_findIn v0 v1 v2 v3 h0) (fun z => XEnd below s D h0 (fun v => .inl (some (xI v))) Q (z, h0))) a hF hQ.symm
  unfold fM_findIn
  refine x_iconst (pc' := 1) (v := 0) K dX8_findIn_0 rfl rfl ?_
  refine x_istore (pc' := 3) (lv' := [(4, xI (0 : Int32)), (0, xR v0), (1, xR v1), (2, xI v2), (3, xI v3)]) K dX8_findIn_1 rfl (by decide) rfl ?_
  refine x_sub (lv' := [(0, xR v0), (1, xR v1), (2, xI v2), (3, xI v3), (4, xI (0 : Int32))]) [1, 2, 3, 4, 0] rfl ?_
  exact x_loop (pl := (fun s9 : (Nat × Nat × Int32 × Int32 × Int32) => [(0, xR s9.1), (1, xR s9.2.1), (2, xI s9.2.2.1), (3, xI s9.2.2.2.1), (4, xI s9.2.2.2.2)])) (ph := (fun s9 : (Nat × Nat × Int32 × Int32 × Int32) => h0)) (Sum.elim (fun r9 : Unit => XG p l e R s m args below meth c D 5 h0 Q 32 [] [] h0) (fun z => XEnd below s D h0 (fun v => .inl (some (xI v))) Q (z, h0))) (fun s9 => hL3 _ (fun _ hz => hz) (fun _ hz => hz) (fun _ hz => hz) s9.1 s9.2.1 s9.2.2.1 s9.2.2.2.1 s9.2.2.2.2) (x_ex2 (fun r9 x hx hc => hA32_0  x hx hc)) (v0, v1, v2, v3, (0 : Int32))
/-! FaceCoinsModel.isName()Z -/
noncomputable def fM_isName_l12 (v0 : Nat) (v1 : Int32) (h0 : AH) : Option ((Nat × Int32) ⊕ (Unit ⊕ Int32)) :=
  if (18 : Int32) < v1 then (
    some (Sum.inr (Sum.inl ())))
  else (
    (xgj h0 v0 [14] 12).bind fun x2 =>
    (fM_wordOf v1 h0).bind fun x3 =>
    if (lg_cmp x2 x3) = 0 then (
      some (Sum.inr (Sum.inr ((0 : Int32)))))
    else (
      some (Sum.inl (v0, (v1 + 1)))))
noncomputable def fM_isName_a38  (h0 : AH) : Option Int32 :=
  some ((1 : Int32))
noncomputable def fM_isName (v0 : Nat) (h0 : AH) : Option Int32 :=
  (xgi h0 v0 [14] 7).bind fun x1 =>
  if x1 = (2 : Int32) then (
    (xloop (fun s9 : (Nat × Int32) => fM_isName_l12 s9.1 s9.2 h0) (v0, (0 : Int32))).bind (Sum.elim (fun r9 : Unit => fM_isName_a38 h0) some))
  else (
    some ((0 : Int32)))
set_option maxHeartbeats 4000000 in
theorem ct_X8_isName {l : Launch} {D : XD} {v0 : Nat} {h0 : AH} {a : Int32} (hF : fM_isName v0 h0 = some a) : XCt l D yX8_isName (ws_ yX8_isName cX8_isName 2 (some .boolean)) 2 45 [xR v0] h0 (.inl (some (xI a))) h0 := by
  refine x_method (by decide) (Nat.le_of_ble_eq_true rfl) fun p e R s m args below meth c K hr hnm hex => ?_
  have K : XO p R s m args meth c D 2 h0 cX8_isName "FaceCoinsModel" 2 45 := K
  generalize hQ : XMQ below _ _ _ _ _ _ = Q
  have hL12 : ∀ (C1 : ((Nat × Int32) ⊕ (Unit ⊕ Int32)) → Prop) (hj1 : ∀ s9 : (Nat × Int32), C1 (Sum.inl s9) → XG p l e R s m args below meth c D 2 h0 Q 12 [(0, xR s9.1), (1, xI s9.2)] [] h0) (he1 : ∀ r9 : Unit, C1 (Sum.inr (Sum.inl r9)) → XG p l e R s m args below meth c D 2 h0 Q 38 [] [] h0) (hd1 : ∀ y9 : Int32, C1 (Sum.inr (Sum.inr y9)) → (fun z => XEnd below s D h0 (fun v => .inl (some (xI v))) Q (z, h0)) y9) (v0 : Nat) (v1 : Int32), XF p l e R s m args below meth c D 2 h0 Q 12 [(0, xR v0), (1, xI v1)] [] h0 (fM_isName_l12 v0 v1 h0) C1 := by
    intro C1 hj1 he1 hd1
    intro v0 v1
    unfold fM_isName_l12
    refine x_iload_n (pc' := 13) K 1 dX8_isName_12 rfl rfl ?_
    refine x_bipush (pc' := 15) (v := 18) K dX8_isName_13 rfl (by decide) ?_
    refine x_icmp_gt (tgt := 38) (pc' := 18) K dX8_isName_15 rfl (by decide) ?_ ?_
    · refine x_sub (lv' := []) [] rfl ?_
      exact x_jump (fun hz => he1 () hz)
    · refine x_aload_n (pc' := 19) K 0 dX8_isName_18 rfl rfl ?_
      refine x_getj (pc' := 22) K fg_14_12 (Or.inl (K.2.2.2.2.1 _ q1324)) (fun _ h9 => h9) dX8_isName_19 rfl (fun x2 => ?_)
      refine x_iload_n (pc' := 23) K 1 dX8_isName_22 rfl rfl ?_
      refine x_cSO (pc' := 26) (As := [xI v1]) (en := (fun v => some (xJ v))) (rest := [xJ x2]) K (fun a hF => ct_X8_wordOf hF) rfl q1515 q1516 q1517 q105 hy_X8_wordOf (Nat.le_of_ble_eq_true rfl) (Nat.le_of_ble_eq_true rfl) (Nat.le_of_ble_eq_true rfl) dX8_isName_23 rfl (fun x3 => ?_)
      refine x_lcmp (pc' := 27) K dX8_isName_26 rfl ?_
      refine x_if_ne (tgt := 32) (pc' := 30) K dX8_isName_27 rfl (by decide) ?_ ?_
      · refine x_iinc (pc' := 35) (y := 1) (lv' := [(1, xI (v1 + 1)), (0, xR v0)]) K 1 dX8_isName_32 rfl rfl (by decide) (by decide) rfl ?_
        refine x_goto (tgt := 12) K dX8_isName_35 (by decide) ?_
        refine x_sub (lv' := [(0, xR v0), (1, xI (v1 + 1))]) [1, 0] rfl ?_
        exact x_jump (fun hz => hj1 (v0, (v1 + 1)) hz)
      · refine x_iconst (pc' := 31) (v := 0) K dX8_isName_30 rfl rfl ?_
        refine x_g (fun z => Sum.inr (Sum.inr z)) (x_C (C8 := (fun z => XEnd below s D h0 (fun v => .inl (some (xI v))) Q (z, h0))) (fun z hz => hd1 z hz) ?_)
        exact x_ro (C9 := XEnd below s D h0 (fun v => .inl (some (xI v))) Q) (x_zret K (Or.inl rfl) rfl hr dX8_isName_31)
  have hA38_0 : XF p l e R s m args below meth c D 2 h0 Q 38 [] [] h0 (fM_isName_a38 h0) (fun z => XEnd below s D h0 (fun v => .inl (some (xI v))) Q (z, h0)) := by
    unfold fM_isName_a38
    refine x_iconst (pc' := 39) (v := 1) K dX8_isName_38 rfl rfl ?_
    exact x_ro (C9 := XEnd below s D h0 (fun v => .inl (some (xI v))) Q) (x_zret K (Or.inr rfl) rfl hr dX8_isName_39)
  refine (?_ : XF p l e R s m args below meth c D 2 h0 Q 0 [(0, xR v0)] [] h0 (fM_isName v0 h0) (fun z => XEnd below s D h0 (fun v => .inl (some (xI v))) Q (z, h0))) a hF hQ.symm
  unfold fM_isName
  refine x_aload_n (pc' := 1) K 0 dX8_isName_0 rfl rfl ?_
  refine x_geti (pc' := 4) K fg_14_7 (Or.inl (K.2.2.2.2.1 _ q1319)) (fun _ h9 => h9) dX8_isName_1 rfl (fun x1 => ?_)
  refine x_iconst (pc' := 5) (v := 2) K dX8_isName_4 rfl rfl ?_
  refine x_icmp_eq (tgt := 10) (pc' := 8) K dX8_isName_5 rfl (by decide) ?_ ?_
  · refine x_iconst (pc' := 11) (v := 0) K dX8_isName_10 rfl rfl ?_
    refine x_istore_n (pc' := 12) (lv' := [(1, xI (0 : Int32)), (0, xR v0)]) K dX8_isName_11 rfl (by decide) rfl ?_
    refine x_sub (lv' := [(0, xR v0), (1, xI (0 : Int32))]) [1, 0] rfl ?_
    exact x_loop (pl := (fun s9 : (Nat × Int32) => [(0, xR s9.1), (1, xI s9.2)])) (ph := (fun s9 : (Nat × Int32) => h0)) (Sum.elim (fun r9 : Unit => XG p l e R s m args below meth c D 2 h0 Q 38 [] [] h0) (fun z => XEnd below s D h0 (fun v => .inl (some (xI v))) Q (z, h0))) (fun s9 => hL12 _ (fun _ hz => hz) (fun _ hz => hz) (fun _ hz => hz) s9.1 s9.2) (x_ex2 (fun r9 x hx hc => hA38_0  x hx hc)) (v0, (0 : Int32))
  · refine x_iconst (pc' := 9) (v := 0) K dX8_isName_8 rfl rfl ?_
    exact x_ro (C9 := XEnd below s D h0 (fun v => .inl (some (xI v))) Q) (x_zret K (Or.inl rfl) rfl hr dX8_isName_9)
/-! FaceCoinsModel.readNew(I)Z -/
noncomputable def fM_readNew (v0 : Nat) (v1 : Int32) (h0 : AH) : Option (Int32 × AH) :=
  (xck h0 v0 14 (fM_isName v0 h0)).bind fun x1 =>
  if x1 = 0 then (
    xb2 (xck h0 v0 14 (fM_bad v0 (1 : Int32) h0)) fun x18 g19 =>
    if x18 = 0 ∨ x18 = 1 then (
      some ((x18, g19)))
    else none)
  else (
    (xgr h0 v0 [14] 19).bind fun x2 =>
    (xgr h0 v0 [14] 15).bind fun x3 =>
    (xai h0 x3 100 (0 : Int32)).bind fun x4 =>
    (xck h0 v0 14 (fM_findIn v0 x2 (0 : Int32) x4 h0)).bind fun x5 =>
    if x5 = ((-1) : Int32) then (
      (xgr h0 v0 [14] 19).bind fun x8 =>
      (xgr h0 v0 [14] 15).bind fun x9 =>
      (xai h0 x9 100 (1 : Int32)).bind fun x10 =>
      (xck h0 v0 14 (fM_findIn v0 x8 (8 : Int32) x10 h0)).bind fun x11 =>
      if x11 = ((-1) : Int32) then (
        (xgr h0 v0 [14] 19).bind fun x12 =>
        (xgj h0 v0 [14] 12).bind fun x13 =>
        (xsj h0 x12 v1 x13).bind fun g14 =>
        xb2 (xck g14 v0 14 (fM_go v0 g14)) fun x_ g15 =>
        some (((1 : Int32), g15)))
      else (
        xb2 (xck h0 v0 14 (fM_bad v0 (3 : Int32) h0)) fun x16 g17 =>
        if x16 = 0 ∨ x16 = 1 then (
          some ((x16, g17)))
        else none))
    else (
      xb2 (xck h0 v0 14 (fM_bad v0 (3 : Int32) h0)) fun x6 g7 =>
      if x6 = 0 ∨ x6 = 1 then (
        some ((x6, g7)))
      else none))
set_option maxHeartbeats 4000000 in
theorem ct_X8_readNew {l : Launch} {D : XD} {v0 : Nat} {v1 : Int32} {h0 : AH} {a : Int32} {h1 : AH} (hF : fM_readNew v0 v1 h0 = some (a, h1)) : XCt l D yX8_readNew (ws_ yX8_readNew cX8_readNew 2 (some .boolean)) 3 66 [xR v0, xI v1] h0 (.inl (some (xI a))) h1 := by
  refine x_method (by decide) (Nat.le_of_ble_eq_true rfl) fun p e R s m args below meth c K hr hnm hex => ?_
  have K : XO p R s m args meth c D 2 h0 cX8_readNew "FaceCoinsModel" 3 66 := K
  generalize hQ : XMQ below _ _ _ _ _ _ = Q
  refine (?_ : XF p l e R s m args below meth c D 2 h0 Q 0 [(0, xR v0), (1, xI v1)] [] h0 (fM_readNew v0 v1 h0) (XEnd below s D h0 (fun v => .inl (some (xI v))) Q)) (a, h1) hF hQ.symm
  unfold fM_readNew
  refine x_aload_n (pc' := 1) K 0 dX8_readNew_0 rfl rfl ?_
  refine x_cVO (pc' := 4) (As := []) (en := (fun v => some (xI v))) (rest := []) K (fun a hF => ct_X8_isName hF) rfl (by decide) q1536 q1538 qs41 q1539 q105 hy_X8_isName (Nat.le_of_ble_eq_true rfl) (Nat.le_of_ble_eq_true rfl) (Nat.le_of_ble_eq_true rfl) dX8_readNew_1 rfl (fun x1 => ?_)
  refine x_if_ne (tgt := 13) (pc' := 7) K dX8_readNew_4 rfl (by decide) ?_ ?_
  · refine x_aload_n (pc' := 14) K 0 dX8_readNew_13 rfl rfl ?_
    refine x_aload_n (pc' := 15) K 0 dX8_readNew_14 rfl rfl ?_
    refine x_getr (pc' := 18) K fg_14_19 (Or.inl (K.2.2.2.2.1 _ q1331)) (fun _ h9 => h9) dX8_readNew_15 rfl (fun x2 => ?_)
    refine x_iconst (pc' := 19) (v := 0) K dX8_readNew_18 rfl rfl ?_
    refine x_aload_n (pc' := 20) K 0 dX8_readNew_19 rfl rfl ?_
    refine x_getr (pc' := 23) K fg_14_15 (Or.inl (K.2.2.2.2.1 _ q1327)) (fun _ h9 => h9) dX8_readNew_20 rfl (fun x3 => ?_)
    refine x_iconst (pc' := 24) (v := 0) K dX8_readNew_23 rfl rfl ?_
    refine x_iald (pc' := 25) K dX8_readNew_24 rfl (fun x4 => ?_)
    refine x_cVO (pc' := 28) (As := [xR x2, xI (0 : Int32), xI x4]) (en := (fun v => some (xI v))) (rest := []) K (fun a hF => ct_X8_findIn hF) rfl (by decide) q1540 q1542 qs42 q1543 q105 hy_X8_findIn (Nat.le_of_ble_eq_true rfl) (Nat.le_of_ble_eq_true rfl) (Nat.le_of_ble_eq_true rfl) dX8_readNew_25 rfl (fun x5 => ?_)
    refine x_iconst (pc' := 29) (v := (-1)) K dX8_readNew_28 rfl rfl ?_
    refine x_icmp_ne (tgt := 52) (pc' := 32) K dX8_readNew_29 rfl (by decide) ?_ ?_
    · refine x_aload_n (pc' := 53) K 0 dX8_readNew_52 rfl rfl ?_
      refine x_iconst (pc' := 54) (v := 3) K dX8_readNew_53 rfl rfl ?_
      refine x_cV (pc' := 57) (As := [xI (3 : Int32)]) (en := (fun v => some (xI v))) (rest := []) K (fun a h1 hF => ct_X8_bad hF) rfl (by decide) q1528 q1530 qs39 q1531 q105 hy_X8_bad (Nat.le_of_ble_eq_true rfl) (Nat.le_of_ble_eq_true rfl) (Nat.le_of_ble_eq_true rfl) dX8_readNew_54 rfl (fun x6 g7 => ?_)
      refine x_check (fun qz => ?_)
      exact x_zret K qz rfl hr dX8_readNew_57
    · refine x_aload_n (pc' := 33) K 0 dX8_readNew_32 rfl rfl ?_
      refine x_aload_n (pc' := 34) K 0 dX8_readNew_33 rfl rfl ?_
      refine x_getr (pc' := 37) K fg_14_19 (Or.inl (K.2.2.2.2.1 _ q1331)) (fun _ h9 => h9) dX8_readNew_34 rfl (fun x8 => ?_)
      refine x_bipush (pc' := 39) (v := 8) K dX8_readNew_37 rfl (by decide) ?_
      refine x_aload_n (pc' := 40) K 0 dX8_readNew_39 rfl rfl ?_
      refine x_getr (pc' := 43) K fg_14_15 (Or.inl (K.2.2.2.2.1 _ q1327)) (fun _ h9 => h9) dX8_readNew_40 rfl (fun x9 => ?_)
      refine x_iconst (pc' := 44) (v := 1) K dX8_readNew_43 rfl rfl ?_
      refine x_iald (pc' := 45) K dX8_readNew_44 rfl (fun x10 => ?_)
      refine x_cVO (pc' := 48) (As := [xR x8, xI (8 : Int32), xI x10]) (en := (fun v => some (xI v))) (rest := []) K (fun a hF => ct_X8_findIn hF) rfl (by decide) q1540 q1542 qs42 q1543 q105 hy_X8_findIn (Nat.le_of_ble_eq_true rfl) (Nat.le_of_ble_eq_true rfl) (Nat.le_of_ble_eq_true rfl) dX8_readNew_45 rfl (fun x11 => ?_)
      refine x_iconst (pc' := 49) (v := (-1)) K dX8_readNew_48 rfl rfl ?_
      refine x_icmp_eq (tgt := 58) (pc' := 52) K dX8_readNew_49 rfl (by decide) ?_ ?_
      · refine x_aload_n (pc' := 59) K 0 dX8_readNew_58 rfl rfl ?_
        refine x_getr (pc' := 62) K fg_14_19 (Or.inl (K.2.2.2.2.1 _ q1331)) (fun _ h9 => h9) dX8_readNew_59 rfl (fun x12 => ?_)
        refine x_iload_n (pc' := 63) K 1 dX8_readNew_62 rfl rfl ?_
        refine x_aload_n (pc' := 64) K 0 dX8_readNew_63 rfl rfl ?_
        refine x_getj (pc' := 67) K fg_14_12 (Or.inl (K.2.2.2.2.1 _ q1324)) (fun _ h9 => h9) dX8_readNew_64 rfl (fun x13 => ?_)
        refine x_last (pc' := 68) K dX8_readNew_67 rfl (fun g14 => ?_)
        refine x_aload_n (pc' := 69) K 0 dX8_readNew_68 rfl rfl ?_
        refine x_cV (pc' := 72) (As := []) (en := (fun _ => none)) (rest := []) K (fun a h1 hF => ct_X8_go hF) rfl (by decide) q1491 q1493 qs34 q1494 q105 hy_X8_go (Nat.le_of_ble_eq_true rfl) (Nat.le_of_ble_eq_true rfl) (Nat.le_of_ble_eq_true rfl) dX8_readNew_69 rfl (fun x_ g15 => ?_)
        refine x_iconst (pc' := 73) (v := 1) K dX8_readNew_72 rfl rfl ?_
        exact x_zret K (Or.inr rfl) rfl hr dX8_readNew_73
      · refine x_aload_n (pc' := 53) K 0 dX8_readNew_52 rfl rfl ?_
        refine x_iconst (pc' := 54) (v := 3) K dX8_readNew_53 rfl rfl ?_
        refine x_cV (pc' := 57) (As := [xI (3 : Int32)]) (en := (fun v => some (xI v))) (rest := []) K (fun a h1 hF => ct_X8_bad hF) rfl (by decide) q1528 q1530 qs39 q1531 q105 hy_X8_bad (Nat.le_of_ble_eq_true rfl) (Nat.le_of_ble_eq_true rfl) (Nat.le_of_ble_eq_true rfl) dX8_readNew_54 rfl (fun x16 g17 => ?_)
        refine x_check (fun qz => ?_)
        exact x_zret K qz rfl hr dX8_readNew_57
  · refine x_aload_n (pc' := 8) K 0 dX8_readNew_7 rfl rfl ?_
    refine x_iconst (pc' := 9) (v := 1) K dX8_readNew_8 rfl rfl ?_
    refine x_cV (pc' := 12) (As := [xI (1 : Int32)]) (en := (fun v => some (xI v))) (rest := []) K (fun a h1 hF => ct_X8_bad hF) rfl (by decide) q1528 q1530 qs39 q1531 q105 hy_X8_bad (Nat.le_of_ble_eq_true rfl) (Nat.le_of_ble_eq_true rfl) (Nat.le_of_ble_eq_true rfl) dX8_readNew_9 rfl (fun x18 g19 => ?_)
    refine x_check (fun qz => ?_)
    exact x_zret K qz rfl hr dX8_readNew_12
/-! FaceCoinsModel.isIn(III)Z -/
noncomputable def fM_isIn (v0 : Int32) (v1 : Int32) (v2 : Int32) (h0 : AH) : Option Int32 :=
  if v0 < v1 then (
    some ((0 : Int32)))
  else (
    if v2 < v0 then (
      some ((0 : Int32)))
    else (
      some ((1 : Int32))))
set_option maxHeartbeats 4000000 in
theorem ct_X8_isIn {l : Launch} {D : XD} {v0 : Int32} {v1 : Int32} {v2 : Int32} {h0 : AH} {a : Int32} (hF : fM_isIn v0 v1 v2 h0 = some a) : XCt l D yX8_isIn (ws_ yX8_isIn cX8_isIn 3 (some .boolean)) 0 0 [xI v0, xI v1, xI v2] h0 (.inl (some (xI a))) h0 := by
  refine x_method (by decide) (Nat.le_of_ble_eq_true rfl) fun p e R s m args below meth c K hr hnm hex => ?_
  have K : XO p R s m args meth c D 3 h0 cX8_isIn "FaceCoinsModel" 0 0 := K
  generalize hQ : XMQ below _ _ _ _ _ _ = Q
  refine (?_ : XF p l e R s m args below meth c D 3 h0 Q 0 [(0, xI v0), (1, xI v1), (2, xI v2)] [] h0 (fM_isIn v0 v1 v2 h0) (fun z => XEnd below s D h0 (fun v => .inl (some (xI v))) Q (z, h0))) a hF hQ.symm
  unfold fM_isIn
  refine x_iload_n (pc' := 1) K 0 dX8_isIn_0 rfl rfl ?_
  refine x_iload_n (pc' := 2) K 1 dX8_isIn_1 rfl rfl ?_
  refine x_icmp_lt (tgt := 14) (pc' := 5) K dX8_isIn_2 rfl (by decide) ?_ ?_
  · refine x_iconst (pc' := 15) (v := 0) K dX8_isIn_14 rfl rfl ?_
    exact x_ro (C9 := XEnd below s D h0 (fun v => .inl (some (xI v))) Q) (x_zret K (Or.inl rfl) rfl hr dX8_isIn_15)
  · refine x_iload_n (pc' := 6) K 0 dX8_isIn_5 rfl rfl ?_
    refine x_iload_n (pc' := 7) K 2 dX8_isIn_6 rfl rfl ?_
    refine x_icmp_gt (tgt := 14) (pc' := 10) K dX8_isIn_7 rfl (by decide) ?_ ?_
    · refine x_iconst (pc' := 15) (v := 0) K dX8_isIn_14 rfl rfl ?_
      exact x_ro (C9 := XEnd below s D h0 (fun v => .inl (some (xI v))) Q) (x_zret K (Or.inl rfl) rfl hr dX8_isIn_15)
    · refine x_iconst (pc' := 11) (v := 1) K dX8_isIn_10 rfl rfl ?_
      refine x_goto (tgt := 15) K dX8_isIn_11 (by decide) ?_
      exact x_ro (C9 := XEnd below s D h0 (fun v => .inl (some (xI v))) Q) (x_zret K (Or.inr rfl) rfl hr dX8_isIn_15)
/-! FaceCoinsModel.readNumber(II)Z -/
noncomputable def fM_readNumber (v0 : Nat) (v1 : Int32) (v2 : Int32) (h0 : AH) : Option (Int32 × AH) :=
  (xgi h0 v0 [14] 7).bind fun x1 =>
  if x1 = (3 : Int32) then (
    (xgi h0 v0 [14] 8).bind fun x2 =>
    (fM_isIn x2 v1 v2 h0).bind fun x3 =>
    if x3 = 0 then (
      xb2 (xck h0 v0 14 (fM_bad v0 (2 : Int32) h0)) fun x7 g8 =>
      if x7 = 0 ∨ x7 = 1 then (
        some ((x7, g8)))
      else none)
    else (
      (xgi h0 v0 [14] 8).bind fun x4 =>
      (xpi h0 v0 [14] 13 x4).bind fun g5 =>
      xb2 (xck g5 v0 14 (fM_go v0 g5)) fun x_ g6 =>
      some (((1 : Int32), g6))))
  else (
    xb2 (xck h0 v0 14 (fM_bad v0 (1 : Int32) h0)) fun x9 g10 =>
    if x9 = 0 ∨ x9 = 1 then (
      some ((x9, g10)))
    else none)
set_option maxHeartbeats 4000000 in
theorem ct_X8_readNumber {l : Launch} {D : XD} {v0 : Nat} {v1 : Int32} {v2 : Int32} {h0 : AH} {a : Int32} {h1 : AH} (hF : fM_readNumber v0 v1 v2 h0 = some (a, h1)) : XCt l D yX8_readNumber (ws_ yX8_readNumber cX8_readNumber 3 (some .boolean)) 2 45 [xR v0, xI v1, xI v2] h0 (.inl (some (xI a))) h1 := by
  refine x_method (by decide) (Nat.le_of_ble_eq_true rfl) fun p e R s m args below meth c K hr hnm hex => ?_
  have K : XO p R s m args meth c D 3 h0 cX8_readNumber "FaceCoinsModel" 2 45 := K
  generalize hQ : XMQ below _ _ _ _ _ _ = Q
  refine (?_ : XF p l e R s m args below meth c D 3 h0 Q 0 [(0, xR v0), (1, xI v1), (2, xI v2)] [] h0 (fM_readNumber v0 v1 v2 h0) (XEnd below s D h0 (fun v => .inl (some (xI v))) Q)) (a, h1) hF hQ.symm
  unfold fM_readNumber
  refine x_aload_n (pc' := 1) K 0 dX8_readNumber_0 rfl rfl ?_
  refine x_geti (pc' := 4) K fg_14_7 (Or.inl (K.2.2.2.2.1 _ q1319)) (fun _ h9 => h9) dX8_readNumber_1 rfl (fun x1 => ?_)
  refine x_iconst (pc' := 5) (v := 3) K dX8_readNumber_4 rfl rfl ?_
  refine x_icmp_eq (tgt := 14) (pc' := 8) K dX8_readNumber_5 rfl (by decide) ?_ ?_
  · refine x_aload_n (pc' := 15) K 0 dX8_readNumber_14 rfl rfl ?_
    refine x_geti (pc' := 18) K fg_14_8 (Or.inl (K.2.2.2.2.1 _ q1320)) (fun _ h9 => h9) dX8_readNumber_15 rfl (fun x2 => ?_)
    refine x_iload_n (pc' := 19) K 1 dX8_readNumber_18 rfl rfl ?_
    refine x_iload_n (pc' := 20) K 2 dX8_readNumber_19 rfl rfl ?_
    refine x_cSO (pc' := 23) (As := [xI x2, xI v1, xI v2]) (en := (fun v => some (xI v))) (rest := []) K (fun a hF => ct_X8_isIn hF) rfl q1552 q1553 q1554 q105 hy_X8_isIn (Nat.le_of_ble_eq_true rfl) (Nat.le_of_ble_eq_true rfl) (Nat.le_of_ble_eq_true rfl) dX8_readNumber_20 rfl (fun x3 => ?_)
    refine x_if_ne (tgt := 32) (pc' := 26) K dX8_readNumber_23 rfl (by decide) ?_ ?_
    · refine x_aload_n (pc' := 33) K 0 dX8_readNumber_32 rfl rfl ?_
      refine x_aload_n (pc' := 34) K 0 dX8_readNumber_33 rfl rfl ?_
      refine x_geti (pc' := 37) K fg_14_8 (Or.inl (K.2.2.2.2.1 _ q1320)) (fun _ h9 => h9) dX8_readNumber_34 rfl (fun x4 => ?_)
      refine x_puti (pc' := 40) K fp_14_13 (Or.inl (K.2.2.2.2.1 _ q1325)) (fun _ h9 => h9) (Or.inl rfl) dX8_readNumber_37 rfl (fun g5 => ?_)
      refine x_aload_n (pc' := 41) K 0 dX8_readNumber_40 rfl rfl ?_
      refine x_cV (pc' := 44) (As := []) (en := (fun _ => none)) (rest := []) K (fun a h1 hF => ct_X8_go hF) rfl (by decide) q1491 q1493 qs34 q1494 q105 hy_X8_go (Nat.le_of_ble_eq_true rfl) (Nat.le_of_ble_eq_true rfl) (Nat.le_of_ble_eq_true rfl) dX8_readNumber_41 rfl (fun x_ g6 => ?_)
      refine x_iconst (pc' := 45) (v := 1) K dX8_readNumber_44 rfl rfl ?_
      exact x_zret K (Or.inr rfl) rfl hr dX8_readNumber_45
    · refine x_aload_n (pc' := 27) K 0 dX8_readNumber_26 rfl rfl ?_
      refine x_iconst (pc' := 28) (v := 2) K dX8_readNumber_27 rfl rfl ?_
      refine x_cV (pc' := 31) (As := [xI (2 : Int32)]) (en := (fun v => some (xI v))) (rest := []) K (fun a h1 hF => ct_X8_bad hF) rfl (by decide) q1528 q1530 qs39 q1531 q105 hy_X8_bad (Nat.le_of_ble_eq_true rfl) (Nat.le_of_ble_eq_true rfl) (Nat.le_of_ble_eq_true rfl) dX8_readNumber_28 rfl (fun x7 g8 => ?_)
      refine x_check (fun qz => ?_)
      exact x_zret K qz rfl hr dX8_readNumber_31
  · refine x_aload_n (pc' := 9) K 0 dX8_readNumber_8 rfl rfl ?_
    refine x_iconst (pc' := 10) (v := 1) K dX8_readNumber_9 rfl rfl ?_
    refine x_cV (pc' := 13) (As := [xI (1 : Int32)]) (en := (fun v => some (xI v))) (rest := []) K (fun a h1 hF => ct_X8_bad hF) rfl (by decide) q1528 q1530 qs39 q1531 q105 hy_X8_bad (Nat.le_of_ble_eq_true rfl) (Nat.le_of_ble_eq_true rfl) (Nat.le_of_ble_eq_true rfl) dX8_readNumber_10 rfl (fun x9 g10 => ?_)
    refine x_check (fun qz => ?_)
    exact x_zret K qz rfl hr dX8_readNumber_13
/-! FaceCoinsModel.readMint()Z -/
noncomputable def fM_readMint (v0 : Nat) (h0 : AH) : Option (Int32 × AH) :=
  (xgr h0 v0 [14] 15).bind fun x1 =>
  (xai h0 x1 100 (1 : Int32)).bind fun x2 =>
  if x2 = (4 : Int32) then (
    xb2 (xck h0 v0 14 (fM_bad v0 (4 : Int32) h0)) fun x19 g20 =>
    if x19 = 0 ∨ x19 = 1 then (
      some ((x19, g20)))
    else none)
  else (
    xb2 (xck h0 v0 14 (fM_go v0 h0)) fun x_ g3 =>
    xb2 (xck g3 v0 14 (fM_readNew v0 ((8 : Int32) + x2) g3)) fun x4 g5 =>
    if x4 = 0 then (
      some (((0 : Int32), g5)))
    else (
      xb2 (xck g5 v0 14 (fM_readNumber v0 (1 : Int32) (50 : Int32) g5)) fun x6 g7 =>
      if x6 = 0 then (
        some (((0 : Int32), g7)))
      else (
        (xgr g7 v0 [14] 15).bind fun x8 =>
        (xgi g7 v0 [14] 13).bind fun x9 =>
        (xsi g7 x8 (((32 : Int32) + ((3 : Int32) * x2)) + (0 : Int32)) x9).bind fun g10 =>
        xb2 (xck g10 v0 14 (fM_readNumber v0 (1 : Int32) (9 : Int32) g10)) fun x11 g12 =>
        if x11 = 0 then (
          some (((0 : Int32), g12)))
        else (
          (xgr g12 v0 [14] 15).bind fun x13 =>
          (xgi g12 v0 [14] 13).bind fun x14 =>
          (xsi g12 x13 (((32 : Int32) + ((3 : Int32) * x2)) + (1 : Int32)) x14).bind fun g15 =>
          (xgr g15 v0 [14] 15).bind fun x16 =>
          (xai g15 x16 100 (1 : Int32)).bind fun x17 =>
          (xsi g15 x16 (1 : Int32) (x17 + (1 : Int32))).bind fun g18 =>
          some (((1 : Int32), g18))))))
set_option maxHeartbeats 4000000 in
theorem ct_X8_readMint {l : Launch} {D : XD} {v0 : Nat} {h0 : AH} {a : Int32} {h1 : AH} (hF : fM_readMint v0 h0 = some (a, h1)) : XCt l D yX8_readMint (ws_ yX8_readMint cX8_readMint 2 (some .boolean)) 4 87 [xR v0] h0 (.inl (some (xI a))) h1 := by
  refine x_method (by decide) (Nat.le_of_ble_eq_true rfl) fun p e R s m args below meth c K hr hnm hex => ?_
  have K : XO p R s m args meth c D 2 h0 cX8_readMint "FaceCoinsModel" 4 87 := K
  generalize hQ : XMQ below _ _ _ _ _ _ = Q
  refine (?_ : XF p l e R s m args below meth c D 2 h0 Q 0 [(0, xR v0)] [] h0 (fM_readMint v0 h0) (XEnd below s D h0 (fun v => .inl (some (xI v))) Q)) (a, h1) hF hQ.symm
  unfold fM_readMint
  refine x_aload_n (pc' := 1) K 0 dX8_readMint_0 rfl rfl ?_
  refine x_getr (pc' := 4) K fg_14_15 (Or.inl (K.2.2.2.2.1 _ q1327)) (fun _ h9 => h9) dX8_readMint_1 rfl (fun x1 => ?_)
  refine x_iconst (pc' := 5) (v := 1) K dX8_readMint_4 rfl rfl ?_
  refine x_iald (pc' := 6) K dX8_readMint_5 rfl (fun x2 => ?_)
  refine x_istore_n (pc' := 7) (lv' := [(1, xI x2), (0, xR v0)]) K dX8_readMint_6 rfl (by decide) rfl ?_
  refine x_iload_n (pc' := 8) K 0 dX8_readMint_7 rfl rfl ?_
  refine x_iconst (pc' := 9) (v := 4) K dX8_readMint_8 rfl rfl ?_
  refine x_icmp_ne (tgt := 18) (pc' := 12) K dX8_readMint_9 rfl (by decide) ?_ ?_
  · refine x_aload_n (pc' := 19) K 1 dX8_readMint_18 rfl rfl ?_
    refine x_cV (pc' := 22) (As := []) (en := (fun _ => none)) (rest := []) K (fun a h1 hF => ct_X8_go hF) rfl (by decide) q1491 q1493 qs34 q1494 q105 hy_X8_go (Nat.le_of_ble_eq_true rfl) (Nat.le_of_ble_eq_true rfl) (Nat.le_of_ble_eq_true rfl) dX8_readMint_19 rfl (fun x_ g3 => ?_)
    refine x_aload_n (pc' := 23) K 1 dX8_readMint_22 rfl rfl ?_
    refine x_bipush (pc' := 25) (v := 8) K dX8_readMint_23 rfl (by decide) ?_
    refine x_iload_n (pc' := 26) K 0 dX8_readMint_25 rfl rfl ?_
    refine x_iadd (pc' := 27) K dX8_readMint_26 rfl ?_
    refine x_cV (pc' := 30) (As := [xI ((8 : Int32) + x2)]) (en := (fun v => some (xI v))) (rest := []) K (fun a h1 hF => ct_X8_readNew hF) rfl (by decide) q1532 q1534 qs40 q1535 q105 hy_X8_readNew (Nat.le_of_ble_eq_true rfl) (Nat.le_of_ble_eq_true rfl) (Nat.le_of_ble_eq_true rfl) dX8_readMint_27 rfl (fun x4 g5 => ?_)
    refine x_if_eq (tgt := 43) (pc' := 33) K dX8_readMint_30 rfl (by decide) ?_ ?_
    · refine x_iconst (pc' := 44) (v := 0) K dX8_readMint_43 rfl rfl ?_
      exact x_zret K (Or.inl rfl) rfl hr dX8_readMint_44
    · refine x_aload_n (pc' := 34) K 1 dX8_readMint_33 rfl rfl ?_
      refine x_iconst (pc' := 35) (v := 1) K dX8_readMint_34 rfl rfl ?_
      refine x_bipush (pc' := 37) (v := 50) K dX8_readMint_35 rfl (by decide) ?_
      refine x_cV (pc' := 40) (As := [xI (1 : Int32), xI (50 : Int32)]) (en := (fun v => some (xI v))) (rest := []) K (fun a h1 hF => ct_X8_readNumber hF) rfl (by decide) q1548 q1550 qs44 q1551 q105 hy_X8_readNumber (Nat.le_of_ble_eq_true rfl) (Nat.le_of_ble_eq_true rfl) (Nat.le_of_ble_eq_true rfl) dX8_readMint_37 rfl (fun x6 g7 => ?_)
      refine x_if_ne (tgt := 45) (pc' := 43) K dX8_readMint_40 rfl (by decide) ?_ ?_
      · refine x_aload_n (pc' := 46) K 1 dX8_readMint_45 rfl rfl ?_
        refine x_getr (pc' := 49) K fg_14_15 (Or.inl (K.2.2.2.2.1 _ q1327)) (fun _ h9 => h9) dX8_readMint_46 rfl (fun x8 => ?_)
        refine x_bipush (pc' := 51) (v := 32) K dX8_readMint_49 rfl (by decide) ?_
        refine x_iconst (pc' := 52) (v := 3) K dX8_readMint_51 rfl rfl ?_
        refine x_iload_n (pc' := 53) K 0 dX8_readMint_52 rfl rfl ?_
        refine x_imul (pc' := 54) K dX8_readMint_53 rfl ?_
        refine x_iadd (pc' := 55) K dX8_readMint_54 rfl ?_
        refine x_iconst (pc' := 56) (v := 0) K dX8_readMint_55 rfl rfl ?_
        refine x_iadd (pc' := 57) K dX8_readMint_56 rfl ?_
        refine x_aload_n (pc' := 58) K 1 dX8_readMint_57 rfl rfl ?_
        refine x_geti (pc' := 61) K fg_14_13 (Or.inl (K.2.2.2.2.1 _ q1325)) (fun _ h9 => h9) dX8_readMint_58 rfl (fun x9 => ?_)
        refine x_iast (pc' := 62) K dX8_readMint_61 rfl (fun g10 => ?_)
        refine x_aload_n (pc' := 63) K 1 dX8_readMint_62 rfl rfl ?_
        refine x_iconst (pc' := 64) (v := 1) K dX8_readMint_63 rfl rfl ?_
        refine x_bipush (pc' := 66) (v := 9) K dX8_readMint_64 rfl (by decide) ?_
        refine x_cV (pc' := 69) (As := [xI (1 : Int32), xI (9 : Int32)]) (en := (fun v => some (xI v))) (rest := []) K (fun a h1 hF => ct_X8_readNumber hF) rfl (by decide) q1548 q1550 qs44 q1551 q105 hy_X8_readNumber (Nat.le_of_ble_eq_true rfl) (Nat.le_of_ble_eq_true rfl) (Nat.le_of_ble_eq_true rfl) dX8_readMint_66 rfl (fun x11 g12 => ?_)
        refine x_if_ne (tgt := 74) (pc' := 72) K dX8_readMint_69 rfl (by decide) ?_ ?_
        · refine x_aload_n (pc' := 75) K 1 dX8_readMint_74 rfl rfl ?_
          refine x_getr (pc' := 78) K fg_14_15 (Or.inl (K.2.2.2.2.1 _ q1327)) (fun _ h9 => h9) dX8_readMint_75 rfl (fun x13 => ?_)
          refine x_bipush (pc' := 80) (v := 32) K dX8_readMint_78 rfl (by decide) ?_
          refine x_iconst (pc' := 81) (v := 3) K dX8_readMint_80 rfl rfl ?_
          refine x_iload_n (pc' := 82) K 0 dX8_readMint_81 rfl rfl ?_
          refine x_imul (pc' := 83) K dX8_readMint_82 rfl ?_
          refine x_iadd (pc' := 84) K dX8_readMint_83 rfl ?_
          refine x_iconst (pc' := 85) (v := 1) K dX8_readMint_84 rfl rfl ?_
          refine x_iadd (pc' := 86) K dX8_readMint_85 rfl ?_
          refine x_aload_n (pc' := 87) K 1 dX8_readMint_86 rfl rfl ?_
          refine x_geti (pc' := 90) K fg_14_13 (Or.inl (K.2.2.2.2.1 _ q1325)) (fun _ h9 => h9) dX8_readMint_87 rfl (fun x14 => ?_)
          refine x_iast (pc' := 91) K dX8_readMint_90 rfl (fun g15 => ?_)
          refine x_aload_n (pc' := 92) K 1 dX8_readMint_91 rfl rfl ?_
          refine x_getr (pc' := 95) K fg_14_15 (Or.inl (K.2.2.2.2.1 _ q1327)) (fun _ h9 => h9) dX8_readMint_92 rfl (fun x16 => ?_)
          refine x_iconst (pc' := 96) (v := 1) K dX8_readMint_95 rfl rfl ?_
          refine x_dup2 (pc' := 97) K dX8_readMint_96 rfl rfl rfl ?_
          refine x_iald (pc' := 98) K dX8_readMint_97 rfl (fun x17 => ?_)
          refine x_iconst (pc' := 99) (v := 1) K dX8_readMint_98 rfl rfl ?_
          refine x_iadd (pc' := 100) K dX8_readMint_99 rfl ?_
          refine x_iast (pc' := 101) K dX8_readMint_100 rfl (fun g18 => ?_)
          refine x_iconst (pc' := 102) (v := 1) K dX8_readMint_101 rfl rfl ?_
          exact x_zret K (Or.inr rfl) rfl hr dX8_readMint_102
        · refine x_iconst (pc' := 73) (v := 0) K dX8_readMint_72 rfl rfl ?_
          exact x_zret K (Or.inl rfl) rfl hr dX8_readMint_73
      · refine x_iconst (pc' := 44) (v := 0) K dX8_readMint_43 rfl rfl ?_
        exact x_zret K (Or.inl rfl) rfl hr dX8_readMint_44
  · refine x_aload_n (pc' := 13) K 1 dX8_readMint_12 rfl rfl ?_
    refine x_iconst (pc' := 14) (v := 4) K dX8_readMint_13 rfl rfl ?_
    refine x_cV (pc' := 17) (As := [xI (4 : Int32)]) (en := (fun v => some (xI v))) (rest := []) K (fun a h1 hF => ct_X8_bad hF) rfl (by decide) q1528 q1530 qs39 q1531 q105 hy_X8_bad (Nat.le_of_ble_eq_true rfl) (Nat.le_of_ble_eq_true rfl) (Nat.le_of_ble_eq_true rfl) dX8_readMint_14 rfl (fun x19 g20 => ?_)
    refine x_check (fun qz => ?_)
    exact x_zret K qz rfl hr dX8_readMint_17
/-! FaceCoinsModel.has(II)Z -/
noncomputable def fM_has (v0 : Int32) (v1 : Int32) (h0 : AH) : Option Int32 :=
  if ((v0 >>> (v1 &&& 31)) &&& (1 : Int32)) = (1 : Int32) then (
    some ((1 : Int32)))
  else (
    some ((0 : Int32)))
set_option maxHeartbeats 4000000 in
theorem ct_X8_has {l : Launch} {D : XD} {v0 : Int32} {v1 : Int32} {h0 : AH} {a : Int32} (hF : fM_has v0 v1 h0 = some a) : XCt l D yX8_has (ws_ yX8_has cX8_has 2 (some .boolean)) 0 0 [xI v0, xI v1] h0 (.inl (some (xI a))) h0 := by
  refine x_method (by decide) (Nat.le_of_ble_eq_true rfl) fun p e R s m args below meth c K hr hnm hex => ?_
  have K : XO p R s m args meth c D 2 h0 cX8_has "FaceCoinsModel" 0 0 := K
  generalize hQ : XMQ below _ _ _ _ _ _ = Q
  refine (?_ : XF p l e R s m args below meth c D 2 h0 Q 0 [(0, xI v0), (1, xI v1)] [] h0 (fM_has v0 v1 h0) (fun z => XEnd below s D h0 (fun v => .inl (some (xI v))) Q (z, h0))) a hF hQ.symm
  unfold fM_has
  refine x_iload_n (pc' := 1) K 0 dX8_has_0 rfl rfl ?_
  refine x_iload_n (pc' := 2) K 1 dX8_has_1 rfl rfl ?_
  refine x_ishr (pc' := 3) K dX8_has_2 rfl ?_
  refine x_iconst (pc' := 4) (v := 1) K dX8_has_3 rfl rfl ?_
  refine x_iand (pc' := 5) K dX8_has_4 rfl ?_
  refine x_iconst (pc' := 6) (v := 1) K dX8_has_5 rfl rfl ?_
  refine x_icmp_ne (tgt := 13) (pc' := 9) K dX8_has_6 rfl (by decide) ?_ ?_
  · refine x_iconst (pc' := 14) (v := 0) K dX8_has_13 rfl rfl ?_
    exact x_ro (C9 := XEnd below s D h0 (fun v => .inl (some (xI v))) Q) (x_zret K (Or.inl rfl) rfl hr dX8_has_14)
  · refine x_iconst (pc' := 10) (v := 1) K dX8_has_9 rfl rfl ?_
    refine x_goto (tgt := 14) K dX8_has_10 (by decide) ?_
    exact x_ro (C9 := XEnd below s D h0 (fun v => .inl (some (xI v))) Q) (x_zret K (Or.inr rfl) rfl hr dX8_has_14)
/-! FaceCoinsModel.readOnce(IIII)Z -/
noncomputable def fM_readOnce (v0 : Nat) (v1 : Int32) (v2 : Int32) (v3 : Int32) (v4 : Int32) (h0 : AH) : Option (Int32 × AH) :=
  (xgi h0 v0 [14] 24).bind fun x1 =>
  (fM_has x1 v1 h0).bind fun x2 =>
  if x2 = 0 then (
    (xgi h0 v0 [14] 24).bind fun x3 =>
    (xpi h0 v0 [14] 24 (x3 ||| ((1 : Int32) <<< (v1 &&& 31)))).bind fun g4 =>
    xb2 (xck g4 v0 14 (fM_go v0 g4)) fun x_ g5 =>
    xb2 (xck g5 v0 14 (fM_readNumber v0 v3 v4 g5)) fun x6 g7 =>
    if x6 = 0 then (
      some (((0 : Int32), g7)))
    else (
      (xgr g7 v0 [14] 15).bind fun x8 =>
      (xgi g7 v0 [14] 13).bind fun x9 =>
      (xsi g7 x8 v2 x9).bind fun g10 =>
      some (((1 : Int32), g10))))
  else (
    xb2 (xck h0 v0 14 (fM_bad v0 (3 : Int32) h0)) fun x11 g12 =>
    if x11 = 0 ∨ x11 = 1 then (
      some ((x11, g12)))
    else none)
set_option maxHeartbeats 4000000 in
theorem ct_X8_readOnce {l : Launch} {D : XD} {v0 : Nat} {v1 : Int32} {v2 : Int32} {v3 : Int32} {v4 : Int32} {h0 : AH} {a : Int32} {h1 : AH} (hF : fM_readOnce v0 v1 v2 v3 v4 h0 = some (a, h1)) : XCt l D yX8_readOnce (ws_ yX8_readOnce cX8_readOnce 5 (some .boolean)) 3 67 [xR v0, xI v1, xI v2, xI v3, xI v4] h0 (.inl (some (xI a))) h1 := by
  refine x_method (by decide) (Nat.le_of_ble_eq_true rfl) fun p e R s m args below meth c K hr hnm hex => ?_
  have K : XO p R s m args meth c D 5 h0 cX8_readOnce "FaceCoinsModel" 3 67 := K
  generalize hQ : XMQ below _ _ _ _ _ _ = Q
  refine (?_ : XF p l e R s m args below meth c D 5 h0 Q 0 [(0, xR v0), (1, xI v1), (2, xI v2), (3, xI v3), (4, xI v4)] [] h0 (fM_readOnce v0 v1 v2 v3 v4 h0) (XEnd below s D h0 (fun v => .inl (some (xI v))) Q)) (a, h1) hF hQ.symm
  unfold fM_readOnce
  refine x_aload_n (pc' := 1) K 0 dX8_readOnce_0 rfl rfl ?_
  refine x_geti (pc' := 4) K fg_14_24 (Or.inl (K.2.2.2.2.1 _ q1336)) (fun _ h9 => h9) dX8_readOnce_1 rfl (fun x1 => ?_)
  refine x_iload_n (pc' := 5) K 1 dX8_readOnce_4 rfl rfl ?_
  refine x_cSO (pc' := 8) (As := [xI x1, xI v1]) (en := (fun v => some (xI v))) (rest := []) K (fun a hF => ct_X8_has hF) rfl q1567 q1568 q1569 q105 hy_X8_has (Nat.le_of_ble_eq_true rfl) (Nat.le_of_ble_eq_true rfl) (Nat.le_of_ble_eq_true rfl) dX8_readOnce_5 rfl (fun x2 => ?_)
  refine x_if_eq (tgt := 17) (pc' := 11) K dX8_readOnce_8 rfl (by decide) ?_ ?_
  · refine x_aload_n (pc' := 18) K 0 dX8_readOnce_17 rfl rfl ?_
    refine x_dup (pc' := 19) K dX8_readOnce_18 rfl rfl ?_
    refine x_geti (pc' := 22) K fg_14_24 (Or.inl (K.2.2.2.2.1 _ q1336)) (fun _ h9 => h9) dX8_readOnce_19 rfl (fun x3 => ?_)
    refine x_iconst (pc' := 23) (v := 1) K dX8_readOnce_22 rfl rfl ?_
    refine x_iload_n (pc' := 24) K 1 dX8_readOnce_23 rfl rfl ?_
    refine x_ishl (pc' := 25) K dX8_readOnce_24 rfl ?_
    refine x_ior (pc' := 26) K dX8_readOnce_25 rfl ?_
    refine x_puti (pc' := 29) K fp_14_24 (Or.inl (K.2.2.2.2.1 _ q1336)) (fun _ h9 => h9) (Or.inl rfl) dX8_readOnce_26 rfl (fun g4 => ?_)
    refine x_aload_n (pc' := 30) K 0 dX8_readOnce_29 rfl rfl ?_
    refine x_cV (pc' := 33) (As := []) (en := (fun _ => none)) (rest := []) K (fun a h1 hF => ct_X8_go hF) rfl (by decide) q1491 q1493 qs34 q1494 q105 hy_X8_go (Nat.le_of_ble_eq_true rfl) (Nat.le_of_ble_eq_true rfl) (Nat.le_of_ble_eq_true rfl) dX8_readOnce_30 rfl (fun x_ g5 => ?_)
    refine x_aload_n (pc' := 34) K 0 dX8_readOnce_33 rfl rfl ?_
    refine x_iload_n (pc' := 35) K 3 dX8_readOnce_34 rfl rfl ?_
    refine x_iload (pc' := 37) K 4 dX8_readOnce_35 rfl rfl ?_
    refine x_cV (pc' := 40) (As := [xI v3, xI v4]) (en := (fun v => some (xI v))) (rest := []) K (fun a h1 hF => ct_X8_readNumber hF) rfl (by decide) q1548 q1550 qs44 q1551 q105 hy_X8_readNumber (Nat.le_of_ble_eq_true rfl) (Nat.le_of_ble_eq_true rfl) (Nat.le_of_ble_eq_true rfl) dX8_readOnce_37 rfl (fun x6 g7 => ?_)
    refine x_if_ne (tgt := 45) (pc' := 43) K dX8_readOnce_40 rfl (by decide) ?_ ?_
    · refine x_aload_n (pc' := 46) K 0 dX8_readOnce_45 rfl rfl ?_
      refine x_getr (pc' := 49) K fg_14_15 (Or.inl (K.2.2.2.2.1 _ q1327)) (fun _ h9 => h9) dX8_readOnce_46 rfl (fun x8 => ?_)
      refine x_iload_n (pc' := 50) K 2 dX8_readOnce_49 rfl rfl ?_
      refine x_aload_n (pc' := 51) K 0 dX8_readOnce_50 rfl rfl ?_
      refine x_geti (pc' := 54) K fg_14_13 (Or.inl (K.2.2.2.2.1 _ q1325)) (fun _ h9 => h9) dX8_readOnce_51 rfl (fun x9 => ?_)
      refine x_iast (pc' := 55) K dX8_readOnce_54 rfl (fun g10 => ?_)
      refine x_iconst (pc' := 56) (v := 1) K dX8_readOnce_55 rfl rfl ?_
      exact x_zret K (Or.inr rfl) rfl hr dX8_readOnce_56
    · refine x_iconst (pc' := 44) (v := 0) K dX8_readOnce_43 rfl rfl ?_
      exact x_zret K (Or.inl rfl) rfl hr dX8_readOnce_44
  · refine x_aload_n (pc' := 12) K 0 dX8_readOnce_11 rfl rfl ?_
    refine x_iconst (pc' := 13) (v := 3) K dX8_readOnce_12 rfl rfl ?_
    refine x_cV (pc' := 16) (As := [xI (3 : Int32)]) (en := (fun v => some (xI v))) (rest := []) K (fun a h1 hF => ct_X8_bad hF) rfl (by decide) q1528 q1530 qs39 q1531 q105 hy_X8_bad (Nat.le_of_ble_eq_true rfl) (Nat.le_of_ble_eq_true rfl) (Nat.le_of_ble_eq_true rfl) dX8_readOnce_13 rfl (fun x11 g12 => ?_)
    refine x_check (fun qz => ?_)
    exact x_zret K qz rfl hr dX8_readOnce_16
/-! FaceCoinsModel.readWhoTold()Z -/
noncomputable def fM_readWhoTold (v0 : Nat) (h0 : AH) : Option (Int32 × AH) :=
  (xck h0 v0 14 (fM_isName v0 h0)).bind fun x1 =>
  if x1 = 0 then (
    xb2 (xck h0 v0 14 (fM_bad v0 (1 : Int32) h0)) fun x10 g11 =>
    if x10 = 0 ∨ x10 = 1 then (
      some ((x10, g11)))
    else none)
  else (
    (xgr h0 v0 [14] 19).bind fun x2 =>
    (xgr h0 v0 [14] 15).bind fun x3 =>
    (xai h0 x3 100 (0 : Int32)).bind fun x4 =>
    (xck h0 v0 14 (fM_findIn v0 x2 (0 : Int32) x4 h0)).bind fun x5 =>
    (xpi h0 v0 [14] 13 x5).bind fun g6 =>
    (xgi g6 v0 [14] 13).bind fun x7 =>
    if x7 = ((-1) : Int32) then (
      xb2 (xck g6 v0 14 (fM_bad v0 (3 : Int32) g6)) fun x8 g9 =>
      if x8 = 0 then (
        some (((0 : Int32), g9)))
      else (
        some (((1 : Int32), g9))))
    else (
      some (((1 : Int32), g6))))
set_option maxHeartbeats 4000000 in
theorem ct_X8_readWhoTold {l : Launch} {D : XD} {v0 : Nat} {h0 : AH} {a : Int32} {h1 : AH} (hF : fM_readWhoTold v0 h0 = some (a, h1)) : XCt l D yX8_readWhoTold (ws_ yX8_readWhoTold cX8_readWhoTold 1 (some .boolean)) 3 66 [xR v0] h0 (.inl (some (xI a))) h1 := by
  refine x_method (by decide) (Nat.le_of_ble_eq_true rfl) fun p e R s m args below meth c K hr hnm hex => ?_
  have K : XO p R s m args meth c D 1 h0 cX8_readWhoTold "FaceCoinsModel" 3 66 := K
  generalize hQ : XMQ below _ _ _ _ _ _ = Q
  refine (?_ : XF p l e R s m args below meth c D 1 h0 Q 0 [(0, xR v0)] [] h0 (fM_readWhoTold v0 h0) (XEnd below s D h0 (fun v => .inl (some (xI v))) Q)) (a, h1) hF hQ.symm
  unfold fM_readWhoTold
  refine x_aload_n (pc' := 1) K 0 dX8_readWhoTold_0 rfl rfl ?_
  refine x_cVO (pc' := 4) (As := []) (en := (fun v => some (xI v))) (rest := []) K (fun a hF => ct_X8_isName hF) rfl (by decide) q1536 q1538 qs41 q1539 q105 hy_X8_isName (Nat.le_of_ble_eq_true rfl) (Nat.le_of_ble_eq_true rfl) (Nat.le_of_ble_eq_true rfl) dX8_readWhoTold_1 rfl (fun x1 => ?_)
  refine x_if_ne (tgt := 13) (pc' := 7) K dX8_readWhoTold_4 rfl (by decide) ?_ ?_
  · refine x_aload_n (pc' := 14) K 0 dX8_readWhoTold_13 rfl rfl ?_
    refine x_aload_n (pc' := 15) K 0 dX8_readWhoTold_14 rfl rfl ?_
    refine x_aload_n (pc' := 16) K 0 dX8_readWhoTold_15 rfl rfl ?_
    refine x_getr (pc' := 19) K fg_14_19 (Or.inl (K.2.2.2.2.1 _ q1331)) (fun _ h9 => h9) dX8_readWhoTold_16 rfl (fun x2 => ?_)
    refine x_iconst (pc' := 20) (v := 0) K dX8_readWhoTold_19 rfl rfl ?_
    refine x_aload_n (pc' := 21) K 0 dX8_readWhoTold_20 rfl rfl ?_
    refine x_getr (pc' := 24) K fg_14_15 (Or.inl (K.2.2.2.2.1 _ q1327)) (fun _ h9 => h9) dX8_readWhoTold_21 rfl (fun x3 => ?_)
    refine x_iconst (pc' := 25) (v := 0) K dX8_readWhoTold_24 rfl rfl ?_
    refine x_iald (pc' := 26) K dX8_readWhoTold_25 rfl (fun x4 => ?_)
    refine x_cVO (pc' := 29) (As := [xR x2, xI (0 : Int32), xI x4]) (en := (fun v => some (xI v))) (rest := [xR v0]) K (fun a hF => ct_X8_findIn hF) rfl (by decide) q1540 q1542 qs42 q1543 q105 hy_X8_findIn (Nat.le_of_ble_eq_true rfl) (Nat.le_of_ble_eq_true rfl) (Nat.le_of_ble_eq_true rfl) dX8_readWhoTold_26 rfl (fun x5 => ?_)
    refine x_puti (pc' := 32) K fp_14_13 (Or.inl (K.2.2.2.2.1 _ q1325)) (fun _ h9 => h9) (Or.inl rfl) dX8_readWhoTold_29 rfl (fun g6 => ?_)
    refine x_aload_n (pc' := 33) K 0 dX8_readWhoTold_32 rfl rfl ?_
    refine x_geti (pc' := 36) K fg_14_13 (Or.inl (K.2.2.2.2.1 _ q1325)) (fun _ h9 => h9) dX8_readWhoTold_33 rfl (fun x7 => ?_)
    refine x_iconst (pc' := 37) (v := (-1)) K dX8_readWhoTold_36 rfl rfl ?_
    refine x_icmp_ne (tgt := 48) (pc' := 40) K dX8_readWhoTold_37 rfl (by decide) ?_ ?_
    · refine x_iconst (pc' := 49) (v := 1) K dX8_readWhoTold_48 rfl rfl ?_
      refine x_goto (tgt := 53) K dX8_readWhoTold_49 (by decide) ?_
      exact x_zret K (Or.inr rfl) rfl hr dX8_readWhoTold_53
    · refine x_aload_n (pc' := 41) K 0 dX8_readWhoTold_40 rfl rfl ?_
      refine x_iconst (pc' := 42) (v := 3) K dX8_readWhoTold_41 rfl rfl ?_
      refine x_cV (pc' := 45) (As := [xI (3 : Int32)]) (en := (fun v => some (xI v))) (rest := []) K (fun a h1 hF => ct_X8_bad hF) rfl (by decide) q1528 q1530 qs39 q1531 q105 hy_X8_bad (Nat.le_of_ble_eq_true rfl) (Nat.le_of_ble_eq_true rfl) (Nat.le_of_ble_eq_true rfl) dX8_readWhoTold_42 rfl (fun x8 g9 => ?_)
      refine x_if_eq (tgt := 52) (pc' := 48) K dX8_readWhoTold_45 rfl (by decide) ?_ ?_
      · refine x_iconst (pc' := 53) (v := 0) K dX8_readWhoTold_52 rfl rfl ?_
        exact x_zret K (Or.inl rfl) rfl hr dX8_readWhoTold_53
      · refine x_iconst (pc' := 49) (v := 1) K dX8_readWhoTold_48 rfl rfl ?_
        refine x_goto (tgt := 53) K dX8_readWhoTold_49 (by decide) ?_
        exact x_zret K (Or.inr rfl) rfl hr dX8_readWhoTold_53
  · refine x_aload_n (pc' := 8) K 0 dX8_readWhoTold_7 rfl rfl ?_
    refine x_iconst (pc' := 9) (v := 1) K dX8_readWhoTold_8 rfl rfl ?_
    refine x_cV (pc' := 12) (As := [xI (1 : Int32)]) (en := (fun v => some (xI v))) (rest := []) K (fun a h1 hF => ct_X8_bad hF) rfl (by decide) q1528 q1530 qs39 q1531 q105 hy_X8_bad (Nat.le_of_ble_eq_true rfl) (Nat.le_of_ble_eq_true rfl) (Nat.le_of_ble_eq_true rfl) dX8_readWhoTold_9 rfl (fun x10 g11 => ?_)
    refine x_check (fun qz => ?_)
    exact x_zret K qz rfl hr dX8_readWhoTold_12
/-! FaceCoinsModel.readTakes()Z -/
noncomputable def fM_readTakes (v0 : Nat) (h0 : AH) : Option (Int32 × AH) :=
  xb2 (xck h0 v0 14 (fM_go v0 h0)) fun x_ g1 =>
  xb2 (xck g1 v0 14 (fM_readWhoTold v0 g1)) fun x2 g3 =>
  if x2 = 0 then (
    some (((0 : Int32), g3)))
  else (
    (xgi g3 v0 [14] 13).bind fun x4 =>
    xb2 (xck g3 v0 14 (fM_go v0 g3)) fun x_ g5 =>
    xb2 (xck g5 v0 14 (fM_readWhoTold v0 g5)) fun x6 g7 =>
    if x6 = 0 then (
      some (((0 : Int32), g7)))
    else (
      (xgi g7 v0 [14] 13).bind fun x8 =>
      (xgr g7 v0 [14] 15).bind fun x9 =>
      (xai g7 x9 100 (((44 : Int32) + ((8 : Int32) * x4)) + x8)).bind fun x10 =>
      if x10 ≤ 0 then (
        xb2 (xck g7 v0 14 (fM_go v0 g7)) fun x_ g11 =>
        xb2 (xck g11 v0 14 (fM_readNumber v0 (0 : Int32) (200 : Int32) g11)) fun x12 g13 =>
        if x12 = 0 then (
          some (((0 : Int32), g13)))
        else (
          (xgr g13 v0 [14] 15).bind fun x14 =>
          (xgi g13 v0 [14] 13).bind fun x15 =>
          (xsi g13 x14 (((44 : Int32) + ((8 : Int32) * x4)) + x8) (x15 + (1 : Int32))).bind fun g16 =>
          (xgr g16 v0 [14] 15).bind fun x17 =>
          (xai g16 x17 100 (2 : Int32)).bind fun x18 =>
          (xsi g16 x17 (2 : Int32) (x18 + (1 : Int32))).bind fun g19 =>
          some (((1 : Int32), g19))))
      else (
        xb2 (xck g7 v0 14 (fM_bad v0 (3 : Int32) g7)) fun x20 g21 =>
        if x20 = 0 ∨ x20 = 1 then (
          some ((x20, g21)))
        else none)))
set_option maxHeartbeats 4000000 in
theorem ct_X8_readTakes {l : Launch} {D : XD} {v0 : Nat} {h0 : AH} {a : Int32} {h1 : AH} (hF : fM_readTakes v0 h0 = some (a, h1)) : XCt l D yX8_readTakes (ws_ yX8_readTakes cX8_readTakes 3 (some .boolean)) 4 86 [xR v0] h0 (.inl (some (xI a))) h1 := by
  refine x_method (by decide) (Nat.le_of_ble_eq_true rfl) fun p e R s m args below meth c K hr hnm hex => ?_
  have K : XO p R s m args meth c D 3 h0 cX8_readTakes "FaceCoinsModel" 4 86 := K
  generalize hQ : XMQ below _ _ _ _ _ _ = Q
  refine (?_ : XF p l e R s m args below meth c D 3 h0 Q 0 [(0, xR v0)] [] h0 (fM_readTakes v0 h0) (XEnd below s D h0 (fun v => .inl (some (xI v))) Q)) (a, h1) hF hQ.symm
  unfold fM_readTakes
  refine x_aload_n (pc' := 1) K 0 dX8_readTakes_0 rfl rfl ?_
  refine x_cV (pc' := 4) (As := []) (en := (fun _ => none)) (rest := []) K (fun a h1 hF => ct_X8_go hF) rfl (by decide) q1491 q1493 qs34 q1494 q105 hy_X8_go (Nat.le_of_ble_eq_true rfl) (Nat.le_of_ble_eq_true rfl) (Nat.le_of_ble_eq_true rfl) dX8_readTakes_1 rfl (fun x_ g1 => ?_)
  refine x_aload_n (pc' := 5) K 0 dX8_readTakes_4 rfl rfl ?_
  refine x_cV (pc' := 8) (As := []) (en := (fun v => some (xI v))) (rest := []) K (fun a h1 hF => ct_X8_readWhoTold hF) rfl (by decide) q1559 q1561 qs46 q1562 q105 hy_X8_readWhoTold (Nat.le_of_ble_eq_true rfl) (Nat.le_of_ble_eq_true rfl) (Nat.le_of_ble_eq_true rfl) dX8_readTakes_5 rfl (fun x2 g3 => ?_)
  refine x_if_ne (tgt := 13) (pc' := 11) K dX8_readTakes_8 rfl (by decide) ?_ ?_
  · refine x_aload_n (pc' := 14) K 0 dX8_readTakes_13 rfl rfl ?_
    refine x_geti (pc' := 17) K fg_14_13 (Or.inl (K.2.2.2.2.1 _ q1325)) (fun _ h9 => h9) dX8_readTakes_14 rfl (fun x4 => ?_)
    refine x_istore_n (pc' := 18) (lv' := [(1, xI x4), (0, xR v0)]) K dX8_readTakes_17 rfl (by decide) rfl ?_
    refine x_aload_n (pc' := 19) K 1 dX8_readTakes_18 rfl rfl ?_
    refine x_cV (pc' := 22) (As := []) (en := (fun _ => none)) (rest := []) K (fun a h1 hF => ct_X8_go hF) rfl (by decide) q1491 q1493 qs34 q1494 q105 hy_X8_go (Nat.le_of_ble_eq_true rfl) (Nat.le_of_ble_eq_true rfl) (Nat.le_of_ble_eq_true rfl) dX8_readTakes_19 rfl (fun x_ g5 => ?_)
    refine x_aload_n (pc' := 23) K 1 dX8_readTakes_22 rfl rfl ?_
    refine x_cV (pc' := 26) (As := []) (en := (fun v => some (xI v))) (rest := []) K (fun a h1 hF => ct_X8_readWhoTold hF) rfl (by decide) q1559 q1561 qs46 q1562 q105 hy_X8_readWhoTold (Nat.le_of_ble_eq_true rfl) (Nat.le_of_ble_eq_true rfl) (Nat.le_of_ble_eq_true rfl) dX8_readTakes_23 rfl (fun x6 g7 => ?_)
    refine x_if_ne (tgt := 31) (pc' := 29) K dX8_readTakes_26 rfl (by decide) ?_ ?_
    · refine x_bipush (pc' := 33) (v := 44) K dX8_readTakes_31 rfl (by decide) ?_
      refine x_bipush (pc' := 35) (v := 8) K dX8_readTakes_33 rfl (by decide) ?_
      refine x_iload_n (pc' := 36) K 0 dX8_readTakes_35 rfl rfl ?_
      refine x_imul (pc' := 37) K dX8_readTakes_36 rfl ?_
      refine x_iadd (pc' := 38) K dX8_readTakes_37 rfl ?_
      refine x_aload_n (pc' := 39) K 1 dX8_readTakes_38 rfl rfl ?_
      refine x_geti (pc' := 42) K fg_14_13 (Or.inl (K.2.2.2.2.1 _ q1325)) (fun _ h9 => h9) dX8_readTakes_39 rfl (fun x8 => ?_)
      refine x_iadd (pc' := 43) K dX8_readTakes_42 rfl ?_
      refine x_istore_n (pc' := 44) (lv' := [(2, xI (((44 : Int32) + ((8 : Int32) * x4)) + x8)), (1, xI x4), (0, xR v0)]) K dX8_readTakes_43 rfl (by decide) rfl ?_
      refine x_aload_n (pc' := 45) K 2 dX8_readTakes_44 rfl rfl ?_
      refine x_getr (pc' := 48) K fg_14_15 (Or.inl (K.2.2.2.2.1 _ q1327)) (fun _ h9 => h9) dX8_readTakes_45 rfl (fun x9 => ?_)
      refine x_iload_n (pc' := 49) K 0 dX8_readTakes_48 rfl rfl ?_
      refine x_iald (pc' := 50) K dX8_readTakes_49 rfl (fun x10 => ?_)
      refine x_if_le (tgt := 59) (pc' := 53) K dX8_readTakes_50 rfl (by decide) ?_ ?_
      · refine x_aload_n (pc' := 60) K 2 dX8_readTakes_59 rfl rfl ?_
        refine x_cV (pc' := 63) (As := []) (en := (fun _ => none)) (rest := []) K (fun a h1 hF => ct_X8_go hF) rfl (by decide) q1491 q1493 qs34 q1494 q105 hy_X8_go (Nat.le_of_ble_eq_true rfl) (Nat.le_of_ble_eq_true rfl) (Nat.le_of_ble_eq_true rfl) dX8_readTakes_60 rfl (fun x_ g11 => ?_)
        refine x_aload_n (pc' := 64) K 2 dX8_readTakes_63 rfl rfl ?_
        refine x_iconst (pc' := 65) (v := 0) K dX8_readTakes_64 rfl rfl ?_
        refine x_sipush (pc' := 68) (v := 200) K dX8_readTakes_65 rfl (by decide) ?_
        refine x_cV (pc' := 71) (As := [xI (0 : Int32), xI (200 : Int32)]) (en := (fun v => some (xI v))) (rest := []) K (fun a h1 hF => ct_X8_readNumber hF) rfl (by decide) q1548 q1550 qs44 q1551 q105 hy_X8_readNumber (Nat.le_of_ble_eq_true rfl) (Nat.le_of_ble_eq_true rfl) (Nat.le_of_ble_eq_true rfl) dX8_readTakes_68 rfl (fun x12 g13 => ?_)
        refine x_if_ne (tgt := 76) (pc' := 74) K dX8_readTakes_71 rfl (by decide) ?_ ?_
        · refine x_aload_n (pc' := 77) K 2 dX8_readTakes_76 rfl rfl ?_
          refine x_getr (pc' := 80) K fg_14_15 (Or.inl (K.2.2.2.2.1 _ q1327)) (fun _ h9 => h9) dX8_readTakes_77 rfl (fun x14 => ?_)
          refine x_iload_n (pc' := 81) K 0 dX8_readTakes_80 rfl rfl ?_
          refine x_aload_n (pc' := 82) K 2 dX8_readTakes_81 rfl rfl ?_
          refine x_geti (pc' := 85) K fg_14_13 (Or.inl (K.2.2.2.2.1 _ q1325)) (fun _ h9 => h9) dX8_readTakes_82 rfl (fun x15 => ?_)
          refine x_iconst (pc' := 86) (v := 1) K dX8_readTakes_85 rfl rfl ?_
          refine x_iadd (pc' := 87) K dX8_readTakes_86 rfl ?_
          refine x_iast (pc' := 88) K dX8_readTakes_87 rfl (fun g16 => ?_)
          refine x_aload_n (pc' := 89) K 2 dX8_readTakes_88 rfl rfl ?_
          refine x_getr (pc' := 92) K fg_14_15 (Or.inl (K.2.2.2.2.1 _ q1327)) (fun _ h9 => h9) dX8_readTakes_89 rfl (fun x17 => ?_)
          refine x_iconst (pc' := 93) (v := 2) K dX8_readTakes_92 rfl rfl ?_
          refine x_dup2 (pc' := 94) K dX8_readTakes_93 rfl rfl rfl ?_
          refine x_iald (pc' := 95) K dX8_readTakes_94 rfl (fun x18 => ?_)
          refine x_iconst (pc' := 96) (v := 1) K dX8_readTakes_95 rfl rfl ?_
          refine x_iadd (pc' := 97) K dX8_readTakes_96 rfl ?_
          refine x_iast (pc' := 98) K dX8_readTakes_97 rfl (fun g19 => ?_)
          refine x_iconst (pc' := 99) (v := 1) K dX8_readTakes_98 rfl rfl ?_
          exact x_zret K (Or.inr rfl) rfl hr dX8_readTakes_99
        · refine x_iconst (pc' := 75) (v := 0) K dX8_readTakes_74 rfl rfl ?_
          exact x_zret K (Or.inl rfl) rfl hr dX8_readTakes_75
      · refine x_aload_n (pc' := 54) K 2 dX8_readTakes_53 rfl rfl ?_
        refine x_iconst (pc' := 55) (v := 3) K dX8_readTakes_54 rfl rfl ?_
        refine x_cV (pc' := 58) (As := [xI (3 : Int32)]) (en := (fun v => some (xI v))) (rest := []) K (fun a h1 hF => ct_X8_bad hF) rfl (by decide) q1528 q1530 qs39 q1531 q105 hy_X8_bad (Nat.le_of_ble_eq_true rfl) (Nat.le_of_ble_eq_true rfl) (Nat.le_of_ble_eq_true rfl) dX8_readTakes_55 rfl (fun x20 g21 => ?_)
        refine x_check (fun qz => ?_)
        exact x_zret K qz rfl hr dX8_readTakes_58
    · refine x_iconst (pc' := 30) (v := 0) K dX8_readTakes_29 rfl rfl ?_
      exact x_zret K (Or.inl rfl) rfl hr dX8_readTakes_30
  · refine x_iconst (pc' := 12) (v := 0) K dX8_readTakes_11 rfl rfl ?_
    exact x_zret K (Or.inl rfl) rfl hr dX8_readTakes_12
/-! FaceCoinsModel.readWho()Z -/
noncomputable def fM_readWho_b96 (v0 : Nat) (t0 : Nat) (t1 : Int32) (t2 : Int32) (g : AH) : Option (Int32 × AH) :=
  (xsi g t0 t1 t2).bind fun g12 =>
  (xck g12 v0 14 (fM_isWord v0 (2 : Int32) g12)).bind fun x13 =>
  if x13 = 0 then (
    (xgr g12 v0 [14] 15).bind fun x14 =>
    (xai g12 x14 100 (0 : Int32)).bind fun x15 =>
    (xsi g12 x14 (0 : Int32) (x15 + (1 : Int32))).bind fun g16 =>
    some (((1 : Int32), g16)))
  else (
    xb2 (xck g12 v0 14 (fM_go v0 g12)) fun x_ g17 =>
    (xgr g17 v0 [14] 15).bind fun x18 =>
    (xai g17 x18 100 (0 : Int32)).bind fun x19 =>
    (xsi g17 x18 (0 : Int32) (x19 + (1 : Int32))).bind fun g20 =>
    some (((1 : Int32), g20)))
noncomputable def fM_readWho_b71 (v0 : Nat) (v1 : Int32)  (g : AH) : Option (Int32 × AH) :=
  (xgr g v0 [14] 15).bind fun x10 =>
  (xck g v0 14 (fM_isWord v0 (2 : Int32) g)).bind fun x11 =>
  if x11 = 0 then (
    fM_readWho_b96 v0 x10 (((8 : Int32) + ((3 : Int32) * v1)) + (1 : Int32)) (0 : Int32) g)
  else (
    fM_readWho_b96 v0 x10 (((8 : Int32) + ((3 : Int32) * v1)) + (1 : Int32)) (1 : Int32) g)
noncomputable def fM_readWho_b58 (v0 : Nat) (v1 : Int32) (t0 : Nat) (t1 : Int32) (t2 : Int32) (g : AH) : Option (Int32 × AH) :=
  (xsi g t0 t1 t2).bind fun g8 =>
  (xck g8 v0 14 (fM_isWord v0 (1 : Int32) g8)).bind fun x9 =>
  if x9 = 0 then (
    fM_readWho_b71 v0 v1 g8)
  else (
    xb2 (xck g8 v0 14 (fM_go v0 g8)) fun x_ g21 =>
    fM_readWho_b71 v0 v1 g21)
noncomputable def fM_readWho (v0 : Nat) (h0 : AH) : Option (Int32 × AH) :=
  (xgr h0 v0 [14] 15).bind fun x1 =>
  (xai h0 x1 100 (0 : Int32)).bind fun x2 =>
  if x2 = (8 : Int32) then (
    xb2 (xck h0 v0 14 (fM_bad v0 (4 : Int32) h0)) fun x22 g23 =>
    if x22 = 0 ∨ x22 = 1 then (
      some ((x22, g23)))
    else none)
  else (
    xb2 (xck h0 v0 14 (fM_go v0 h0)) fun x_ g3 =>
    xb2 (xck g3 v0 14 (fM_readNew v0 x2 g3)) fun x4 g5 =>
    if x4 = 0 then (
      some (((0 : Int32), g5)))
    else (
      (xgr g5 v0 [14] 15).bind fun x6 =>
      (xck g5 v0 14 (fM_isWord v0 (1 : Int32) g5)).bind fun x7 =>
      if x7 = 0 then (
        fM_readWho_b58 v0 x2 x6 (((8 : Int32) + ((3 : Int32) * x2)) + (0 : Int32)) (0 : Int32) g5)
      else (
        fM_readWho_b58 v0 x2 x6 (((8 : Int32) + ((3 : Int32) * x2)) + (0 : Int32)) (1 : Int32) g5)))
set_option maxHeartbeats 4000000 in
theorem ct_X8_readWho {l : Launch} {D : XD} {v0 : Nat} {h0 : AH} {a : Int32} {h1 : AH} (hF : fM_readWho v0 h0 = some (a, h1)) : XCt l D yX8_readWho (ws_ yX8_readWho cX8_readWho 2 (some .boolean)) 4 87 [xR v0] h0 (.inl (some (xI a))) h1 := by
  refine x_method (by decide) (Nat.le_of_ble_eq_true rfl) fun p e R s m args below meth c K hr hnm hex => ?_
  have K : XO p R s m args meth c D 2 h0 cX8_readWho "FaceCoinsModel" 4 87 := K
  generalize hQ : XMQ below _ _ _ _ _ _ = Q
  have hB96 : ∀ (v0 : Nat) (t0 : Nat) (t1 : Int32) (t2 : Int32) (g : AH), XF p l e R s m args below meth c D 2 h0 Q 96 [(0, xR v0)] [xI t2, xI t1, xR t0] g (fM_readWho_b96 v0 t0 t1 t2 g) (XEnd below s D h0 (fun v => .inl (some (xI v))) Q) := by
    intro v0 t0 t1 t2 g
    unfold fM_readWho_b96
    refine x_iast (pc' := 97) K dX8_readWho_96 rfl (fun g12 => ?_)
    refine x_aload_n (pc' := 98) K 0 dX8_readWho_97 rfl rfl ?_
    refine x_iconst (pc' := 99) (v := 2) K dX8_readWho_98 rfl rfl ?_
    refine x_cVO (pc' := 102) (As := [xI (2 : Int32)]) (en := (fun v => some (xI v))) (rest := []) K (fun a hF => ct_X8_isWord hF) rfl (by decide) q1511 q1513 qs37 q1514 q105 hy_X8_isWord (Nat.le_of_ble_eq_true rfl) (Nat.le_of_ble_eq_true rfl) (Nat.le_of_ble_eq_true rfl) dX8_readWho_99 rfl (fun x13 => ?_)
    refine x_if_eq (tgt := 109) (pc' := 105) K dX8_readWho_102 rfl (by decide) ?_ ?_
    · refine x_aload_n (pc' := 110) K 0 dX8_readWho_109 rfl rfl ?_
      refine x_getr (pc' := 113) K fg_14_15 (Or.inl (K.2.2.2.2.1 _ q1327)) (fun _ h9 => h9) dX8_readWho_110 rfl (fun x14 => ?_)
      refine x_iconst (pc' := 114) (v := 0) K dX8_readWho_113 rfl rfl ?_
      refine x_dup2 (pc' := 115) K dX8_readWho_114 rfl rfl rfl ?_
      refine x_iald (pc' := 116) K dX8_readWho_115 rfl (fun x15 => ?_)
      refine x_iconst (pc' := 117) (v := 1) K dX8_readWho_116 rfl rfl ?_
      refine x_iadd (pc' := 118) K dX8_readWho_117 rfl ?_
      refine x_iast (pc' := 119) K dX8_readWho_118 rfl (fun g16 => ?_)
      refine x_iconst (pc' := 120) (v := 1) K dX8_readWho_119 rfl rfl ?_
      exact x_zret K (Or.inr rfl) rfl hr dX8_readWho_120
    · refine x_aload_n (pc' := 106) K 0 dX8_readWho_105 rfl rfl ?_
      refine x_cV (pc' := 109) (As := []) (en := (fun _ => none)) (rest := []) K (fun a h1 hF => ct_X8_go hF) rfl (by decide) q1491 q1493 qs34 q1494 q105 hy_X8_go (Nat.le_of_ble_eq_true rfl) (Nat.le_of_ble_eq_true rfl) (Nat.le_of_ble_eq_true rfl) dX8_readWho_106 rfl (fun x_ g17 => ?_)
      refine x_aload_n (pc' := 110) K 0 dX8_readWho_109 rfl rfl ?_
      refine x_getr (pc' := 113) K fg_14_15 (Or.inl (K.2.2.2.2.1 _ q1327)) (fun _ h9 => h9) dX8_readWho_110 rfl (fun x18 => ?_)
      refine x_iconst (pc' := 114) (v := 0) K dX8_readWho_113 rfl rfl ?_
      refine x_dup2 (pc' := 115) K dX8_readWho_114 rfl rfl rfl ?_
      refine x_iald (pc' := 116) K dX8_readWho_115 rfl (fun x19 => ?_)
      refine x_iconst (pc' := 117) (v := 1) K dX8_readWho_116 rfl rfl ?_
      refine x_iadd (pc' := 118) K dX8_readWho_117 rfl ?_
      refine x_iast (pc' := 119) K dX8_readWho_118 rfl (fun g20 => ?_)
      refine x_iconst (pc' := 120) (v := 1) K dX8_readWho_119 rfl rfl ?_
      exact x_zret K (Or.inr rfl) rfl hr dX8_readWho_120
  have hB71 : ∀ (v0 : Nat) (v1 : Int32)  (g : AH), XF p l e R s m args below meth c D 2 h0 Q 71 [(0, xR v0), (1, xI v1)] [] g (fM_readWho_b71 v0 v1 g) (XEnd below s D h0 (fun v => .inl (some (xI v))) Q) := by
    intro v0 v1 g
    unfold fM_readWho_b71
    refine x_aload_n (pc' := 72) K 0 dX8_readWho_71 rfl rfl ?_
    refine x_getr (pc' := 75) K fg_14_15 (Or.inl (K.2.2.2.2.1 _ q1327)) (fun _ h9 => h9) dX8_readWho_72 rfl (fun x10 => ?_)
    refine x_bipush (pc' := 77) (v := 8) K dX8_readWho_75 rfl (by decide) ?_
    refine x_iconst (pc' := 78) (v := 3) K dX8_readWho_77 rfl rfl ?_
    refine x_iload_n (pc' := 79) K 1 dX8_readWho_78 rfl rfl ?_
    refine x_imul (pc' := 80) K dX8_readWho_79 rfl ?_
    refine x_iadd (pc' := 81) K dX8_readWho_80 rfl ?_
    refine x_iconst (pc' := 82) (v := 1) K dX8_readWho_81 rfl rfl ?_
    refine x_iadd (pc' := 83) K dX8_readWho_82 rfl ?_
    refine x_aload_n (pc' := 84) K 0 dX8_readWho_83 rfl rfl ?_
    refine x_iconst (pc' := 85) (v := 2) K dX8_readWho_84 rfl rfl ?_
    refine x_cVO (pc' := 88) (As := [xI (2 : Int32)]) (en := (fun v => some (xI v))) (rest := [xI (((8 : Int32) + ((3 : Int32) * v1)) + (1 : Int32)), xR x10]) K (fun a hF => ct_X8_isWord hF) rfl (by decide) q1511 q1513 qs37 q1514 q105 hy_X8_isWord (Nat.le_of_ble_eq_true rfl) (Nat.le_of_ble_eq_true rfl) (Nat.le_of_ble_eq_true rfl) dX8_readWho_85 rfl (fun x11 => ?_)
    refine x_if_eq (tgt := 95) (pc' := 91) K dX8_readWho_88 rfl (by decide) ?_ ?_
    · refine x_iconst (pc' := 96) (v := 0) K dX8_readWho_95 rfl rfl ?_
      refine x_sub (lv' := [(0, xR v0)]) [0] rfl ?_
      exact hB96 _ _ _ _ g
    · refine x_iconst (pc' := 92) (v := 1) K dX8_readWho_91 rfl rfl ?_
      refine x_goto (tgt := 96) K dX8_readWho_92 (by decide) ?_
      refine x_sub (lv' := [(0, xR v0)]) [0] rfl ?_
      exact hB96 _ _ _ _ g
  have hB58 : ∀ (v0 : Nat) (v1 : Int32) (t0 : Nat) (t1 : Int32) (t2 : Int32) (g : AH), XF p l e R s m args below meth c D 2 h0 Q 58 [(0, xR v0), (1, xI v1)] [xI t2, xI t1, xR t0] g (fM_readWho_b58 v0 v1 t0 t1 t2 g) (XEnd below s D h0 (fun v => .inl (some (xI v))) Q) := by
    intro v0 v1 t0 t1 t2 g
    unfold fM_readWho_b58
    refine x_iast (pc' := 59) K dX8_readWho_58 rfl (fun g8 => ?_)
    refine x_aload_n (pc' := 60) K 0 dX8_readWho_59 rfl rfl ?_
    refine x_iconst (pc' := 61) (v := 1) K dX8_readWho_60 rfl rfl ?_
    refine x_cVO (pc' := 64) (As := [xI (1 : Int32)]) (en := (fun v => some (xI v))) (rest := []) K (fun a hF => ct_X8_isWord hF) rfl (by decide) q1511 q1513 qs37 q1514 q105 hy_X8_isWord (Nat.le_of_ble_eq_true rfl) (Nat.le_of_ble_eq_true rfl) (Nat.le_of_ble_eq_true rfl) dX8_readWho_61 rfl (fun x9 => ?_)
    refine x_if_eq (tgt := 71) (pc' := 67) K dX8_readWho_64 rfl (by decide) ?_ ?_
    · exact hB71 _ _ g8
    · refine x_aload_n (pc' := 68) K 0 dX8_readWho_67 rfl rfl ?_
      refine x_cV (pc' := 71) (As := []) (en := (fun _ => none)) (rest := []) K (fun a h1 hF => ct_X8_go hF) rfl (by decide) q1491 q1493 qs34 q1494 q105 hy_X8_go (Nat.le_of_ble_eq_true rfl) (Nat.le_of_ble_eq_true rfl) (Nat.le_of_ble_eq_true rfl) dX8_readWho_68 rfl (fun x_ g21 => ?_)
      exact hB71 _ _ g21
  refine (?_ : XF p l e R s m args below meth c D 2 h0 Q 0 [(0, xR v0)] [] h0 (fM_readWho v0 h0) (XEnd below s D h0 (fun v => .inl (some (xI v))) Q)) (a, h1) hF hQ.symm
  unfold fM_readWho
  refine x_aload_n (pc' := 1) K 0 dX8_readWho_0 rfl rfl ?_
  refine x_getr (pc' := 4) K fg_14_15 (Or.inl (K.2.2.2.2.1 _ q1327)) (fun _ h9 => h9) dX8_readWho_1 rfl (fun x1 => ?_)
  refine x_iconst (pc' := 5) (v := 0) K dX8_readWho_4 rfl rfl ?_
  refine x_iald (pc' := 6) K dX8_readWho_5 rfl (fun x2 => ?_)
  refine x_istore_n (pc' := 7) (lv' := [(1, xI x2), (0, xR v0)]) K dX8_readWho_6 rfl (by decide) rfl ?_
  refine x_iload_n (pc' := 8) K 0 dX8_readWho_7 rfl rfl ?_
  refine x_bipush (pc' := 10) (v := 8) K dX8_readWho_8 rfl (by decide) ?_
  refine x_icmp_ne (tgt := 19) (pc' := 13) K dX8_readWho_10 rfl (by decide) ?_ ?_
  · refine x_aload_n (pc' := 20) K 1 dX8_readWho_19 rfl rfl ?_
    refine x_cV (pc' := 23) (As := []) (en := (fun _ => none)) (rest := []) K (fun a h1 hF => ct_X8_go hF) rfl (by decide) q1491 q1493 qs34 q1494 q105 hy_X8_go (Nat.le_of_ble_eq_true rfl) (Nat.le_of_ble_eq_true rfl) (Nat.le_of_ble_eq_true rfl) dX8_readWho_20 rfl (fun x_ g3 => ?_)
    refine x_aload_n (pc' := 24) K 1 dX8_readWho_23 rfl rfl ?_
    refine x_iload_n (pc' := 25) K 0 dX8_readWho_24 rfl rfl ?_
    refine x_cV (pc' := 28) (As := [xI x2]) (en := (fun v => some (xI v))) (rest := []) K (fun a h1 hF => ct_X8_readNew hF) rfl (by decide) q1532 q1534 qs40 q1535 q105 hy_X8_readNew (Nat.le_of_ble_eq_true rfl) (Nat.le_of_ble_eq_true rfl) (Nat.le_of_ble_eq_true rfl) dX8_readWho_25 rfl (fun x4 g5 => ?_)
    refine x_if_ne (tgt := 33) (pc' := 31) K dX8_readWho_28 rfl (by decide) ?_ ?_
    · refine x_aload_n (pc' := 34) K 1 dX8_readWho_33 rfl rfl ?_
      refine x_getr (pc' := 37) K fg_14_15 (Or.inl (K.2.2.2.2.1 _ q1327)) (fun _ h9 => h9) dX8_readWho_34 rfl (fun x6 => ?_)
      refine x_bipush (pc' := 39) (v := 8) K dX8_readWho_37 rfl (by decide) ?_
      refine x_iconst (pc' := 40) (v := 3) K dX8_readWho_39 rfl rfl ?_
      refine x_iload_n (pc' := 41) K 0 dX8_readWho_40 rfl rfl ?_
      refine x_imul (pc' := 42) K dX8_readWho_41 rfl ?_
      refine x_iadd (pc' := 43) K dX8_readWho_42 rfl ?_
      refine x_iconst (pc' := 44) (v := 0) K dX8_readWho_43 rfl rfl ?_
      refine x_iadd (pc' := 45) K dX8_readWho_44 rfl ?_
      refine x_aload_n (pc' := 46) K 1 dX8_readWho_45 rfl rfl ?_
      refine x_iconst (pc' := 47) (v := 1) K dX8_readWho_46 rfl rfl ?_
      refine x_cVO (pc' := 50) (As := [xI (1 : Int32)]) (en := (fun v => some (xI v))) (rest := [xI (((8 : Int32) + ((3 : Int32) * x2)) + (0 : Int32)), xR x6]) K (fun a hF => ct_X8_isWord hF) rfl (by decide) q1511 q1513 qs37 q1514 q105 hy_X8_isWord (Nat.le_of_ble_eq_true rfl) (Nat.le_of_ble_eq_true rfl) (Nat.le_of_ble_eq_true rfl) dX8_readWho_47 rfl (fun x7 => ?_)
      refine x_if_eq (tgt := 57) (pc' := 53) K dX8_readWho_50 rfl (by decide) ?_ ?_
      · refine x_iconst (pc' := 58) (v := 0) K dX8_readWho_57 rfl rfl ?_
        refine x_sub (lv' := [(0, xR v0), (1, xI x2)]) [1, 0] rfl ?_
        exact hB58 _ _ _ _ _ g5
      · refine x_iconst (pc' := 54) (v := 1) K dX8_readWho_53 rfl rfl ?_
        refine x_goto (tgt := 58) K dX8_readWho_54 (by decide) ?_
        refine x_sub (lv' := [(0, xR v0), (1, xI x2)]) [1, 0] rfl ?_
        exact hB58 _ _ _ _ _ g5
    · refine x_iconst (pc' := 32) (v := 0) K dX8_readWho_31 rfl rfl ?_
      exact x_zret K (Or.inl rfl) rfl hr dX8_readWho_32
  · refine x_aload_n (pc' := 14) K 1 dX8_readWho_13 rfl rfl ?_
    refine x_iconst (pc' := 15) (v := 4) K dX8_readWho_14 rfl rfl ?_
    refine x_cV (pc' := 18) (As := [xI (4 : Int32)]) (en := (fun v => some (xI v))) (rest := []) K (fun a h1 hF => ct_X8_bad hF) rfl (by decide) q1528 q1530 qs39 q1531 q105 hy_X8_bad (Nat.le_of_ble_eq_true rfl) (Nat.le_of_ble_eq_true rfl) (Nat.le_of_ble_eq_true rfl) dX8_readWho_15 rfl (fun x22 g23 => ?_)
    refine x_check (fun qz => ?_)
    exact x_zret K qz rfl hr dX8_readWho_18
/-! FaceCoinsModel.readLine()Z -/
noncomputable def fM_readLine_b143 (v0 : Nat) (v1 : Int32)  (g : AH) : Option (Int32 × AH) :=
  if v1 = 0 then (
    some (((0 : Int32), g)))
  else (
    xb2 (xck g v0 14 (fM_readEnd v0 g)) fun x10 g11 =>
    if x10 = 0 then (
      some (((0 : Int32), g11)))
    else (
      some (((1 : Int32), g11))))
noncomputable def fM_readLine (v0 : Nat) (h0 : AH) : Option (Int32 × AH) :=
  (xck h0 v0 14 (fM_isWord v0 (0 : Int32) h0)).bind fun x1 =>
  if x1 = 0 then (
    (xck h0 v0 14 (fM_isWord v0 (3 : Int32) h0)).bind fun x2 =>
    if x2 = 0 then (
      (xck h0 v0 14 (fM_isWord v0 (4 : Int32) h0)).bind fun x3 =>
      if x3 = 0 then (
        (xck h0 v0 14 (fM_isWord v0 (5 : Int32) h0)).bind fun x4 =>
        if x4 = 0 then (
          (xck h0 v0 14 (fM_isWord v0 (6 : Int32) h0)).bind fun x5 =>
          if x5 = 0 then (
            (xck h0 v0 14 (fM_isWord v0 (7 : Int32) h0)).bind fun x6 =>
            if x6 = 0 then (
              (xck h0 v0 14 (fM_isWord v0 (8 : Int32) h0)).bind fun x7 =>
              if x7 = 0 then (
                xb2 (xck h0 v0 14 (fM_bad v0 (1 : Int32) h0)) fun x8 g9 =>
                fM_readLine_b143 v0 x8 g9)
              else (
                xb2 (xck h0 v0 14 (fM_readOnce v0 (3 : Int32) (6 : Int32) (1 : Int32) (9 : Int32) h0)) fun x12 g13 =>
                fM_readLine_b143 v0 x12 g13))
            else (
              xb2 (xck h0 v0 14 (fM_readOnce v0 (2 : Int32) (5 : Int32) (1 : Int32) (999 : Int32) h0)) fun x14 g15 =>
              fM_readLine_b143 v0 x14 g15))
          else (
            xb2 (xck h0 v0 14 (fM_readOnce v0 (1 : Int32) (4 : Int32) (0 : Int32) (200 : Int32) h0)) fun x16 g17 =>
            fM_readLine_b143 v0 x16 g17))
        else (
          xb2 (xck h0 v0 14 (fM_readOnce v0 (0 : Int32) (3 : Int32) (0 : Int32) (100 : Int32) h0)) fun x18 g19 =>
          fM_readLine_b143 v0 x18 g19))
      else (
        xb2 (xck h0 v0 14 (fM_readTakes v0 h0)) fun x20 g21 =>
        fM_readLine_b143 v0 x20 g21))
    else (
      xb2 (xck h0 v0 14 (fM_readMint v0 h0)) fun x22 g23 =>
      fM_readLine_b143 v0 x22 g23))
  else (
    xb2 (xck h0 v0 14 (fM_readWho v0 h0)) fun x24 g25 =>
    fM_readLine_b143 v0 x24 g25)
set_option maxHeartbeats 4000000 in
theorem ct_X8_readLine {l : Launch} {D : XD} {v0 : Nat} {h0 : AH} {a : Int32} {h1 : AH} (hF : fM_readLine v0 h0 = some (a, h1)) : XCt l D yX8_readLine (ws_ yX8_readLine cX8_readLine 2 (some .boolean)) 5 108 [xR v0] h0 (.inl (some (xI a))) h1 := by
  refine x_method (by decide) (Nat.le_of_ble_eq_true rfl) fun p e R s m args below meth c K hr hnm hex => ?_
  have K : XO p R s m args meth c D 2 h0 cX8_readLine "FaceCoinsModel" 5 108 := K
  generalize hQ : XMQ below _ _ _ _ _ _ = Q
  have hB143 : ∀ (v0 : Nat) (v1 : Int32)  (g : AH), XF p l e R s m args below meth c D 2 h0 Q 143 [(0, xR v0), (1, xI v1)] [] g (fM_readLine_b143 v0 v1 g) (XEnd below s D h0 (fun v => .inl (some (xI v))) Q) := by
    intro v0 v1 g
    unfold fM_readLine_b143
    refine x_iload_n (pc' := 144) K 1 dX8_readLine_143 rfl rfl ?_
    refine x_if_eq (tgt := 158) (pc' := 147) K dX8_readLine_144 rfl (by decide) ?_ ?_
    · refine x_iconst (pc' := 159) (v := 0) K dX8_readLine_158 rfl rfl ?_
      exact x_zret K (Or.inl rfl) rfl hr dX8_readLine_159
    · refine x_aload_n (pc' := 148) K 0 dX8_readLine_147 rfl rfl ?_
      refine x_cV (pc' := 151) (As := []) (en := (fun v => some (xI v))) (rest := []) K (fun a h1 hF => ct_X8_readEnd hF) rfl (by decide) q1570 q1572 qs48 q1573 q105 hy_X8_readEnd (Nat.le_of_ble_eq_true rfl) (Nat.le_of_ble_eq_true rfl) (Nat.le_of_ble_eq_true rfl) dX8_readLine_148 rfl (fun x10 g11 => ?_)
      refine x_if_eq (tgt := 158) (pc' := 154) K dX8_readLine_151 rfl (by decide) ?_ ?_
      · refine x_iconst (pc' := 159) (v := 0) K dX8_readLine_158 rfl rfl ?_
        exact x_zret K (Or.inl rfl) rfl hr dX8_readLine_159
      · refine x_iconst (pc' := 155) (v := 1) K dX8_readLine_154 rfl rfl ?_
        refine x_goto (tgt := 159) K dX8_readLine_155 (by decide) ?_
        exact x_zret K (Or.inr rfl) rfl hr dX8_readLine_159
  refine (?_ : XF p l e R s m args below meth c D 2 h0 Q 0 [(0, xR v0)] [] h0 (fM_readLine v0 h0) (XEnd below s D h0 (fun v => .inl (some (xI v))) Q)) (a, h1) hF hQ.symm
  unfold fM_readLine
  refine x_aload_n (pc' := 1) K 0 dX8_readLine_0 rfl rfl ?_
  refine x_iconst (pc' := 2) (v := 0) K dX8_readLine_1 rfl rfl ?_
  refine x_cVO (pc' := 5) (As := [xI (0 : Int32)]) (en := (fun v => some (xI v))) (rest := []) K (fun a hF => ct_X8_isWord hF) rfl (by decide) q1511 q1513 qs37 q1514 q105 hy_X8_isWord (Nat.le_of_ble_eq_true rfl) (Nat.le_of_ble_eq_true rfl) (Nat.le_of_ble_eq_true rfl) dX8_readLine_2 rfl (fun x1 => ?_)
  refine x_if_eq (tgt := 16) (pc' := 8) K dX8_readLine_5 rfl (by decide) ?_ ?_
  · refine x_aload_n (pc' := 17) K 0 dX8_readLine_16 rfl rfl ?_
    refine x_iconst (pc' := 18) (v := 3) K dX8_readLine_17 rfl rfl ?_
    refine x_cVO (pc' := 21) (As := [xI (3 : Int32)]) (en := (fun v => some (xI v))) (rest := []) K (fun a hF => ct_X8_isWord hF) rfl (by decide) q1511 q1513 qs37 q1514 q105 hy_X8_isWord (Nat.le_of_ble_eq_true rfl) (Nat.le_of_ble_eq_true rfl) (Nat.le_of_ble_eq_true rfl) dX8_readLine_18 rfl (fun x2 => ?_)
    refine x_if_eq (tgt := 32) (pc' := 24) K dX8_readLine_21 rfl (by decide) ?_ ?_
    · refine x_aload_n (pc' := 33) K 0 dX8_readLine_32 rfl rfl ?_
      refine x_iconst (pc' := 34) (v := 4) K dX8_readLine_33 rfl rfl ?_
      refine x_cVO (pc' := 37) (As := [xI (4 : Int32)]) (en := (fun v => some (xI v))) (rest := []) K (fun a hF => ct_X8_isWord hF) rfl (by decide) q1511 q1513 qs37 q1514 q105 hy_X8_isWord (Nat.le_of_ble_eq_true rfl) (Nat.le_of_ble_eq_true rfl) (Nat.le_of_ble_eq_true rfl) dX8_readLine_34 rfl (fun x3 => ?_)
      refine x_if_eq (tgt := 48) (pc' := 40) K dX8_readLine_37 rfl (by decide) ?_ ?_
      · refine x_aload_n (pc' := 49) K 0 dX8_readLine_48 rfl rfl ?_
        refine x_iconst (pc' := 50) (v := 5) K dX8_readLine_49 rfl rfl ?_
        refine x_cVO (pc' := 53) (As := [xI (5 : Int32)]) (en := (fun v => some (xI v))) (rest := []) K (fun a hF => ct_X8_isWord hF) rfl (by decide) q1511 q1513 qs37 q1514 q105 hy_X8_isWord (Nat.le_of_ble_eq_true rfl) (Nat.le_of_ble_eq_true rfl) (Nat.le_of_ble_eq_true rfl) dX8_readLine_50 rfl (fun x4 => ?_)
        refine x_if_eq (tgt := 69) (pc' := 56) K dX8_readLine_53 rfl (by decide) ?_ ?_
        · refine x_aload_n (pc' := 70) K 0 dX8_readLine_69 rfl rfl ?_
          refine x_bipush (pc' := 72) (v := 6) K dX8_readLine_70 rfl (by decide) ?_
          refine x_cVO (pc' := 75) (As := [xI (6 : Int32)]) (en := (fun v => some (xI v))) (rest := []) K (fun a hF => ct_X8_isWord hF) rfl (by decide) q1511 q1513 qs37 q1514 q105 hy_X8_isWord (Nat.le_of_ble_eq_true rfl) (Nat.le_of_ble_eq_true rfl) (Nat.le_of_ble_eq_true rfl) dX8_readLine_72 rfl (fun x5 => ?_)
          refine x_if_eq (tgt := 92) (pc' := 78) K dX8_readLine_75 rfl (by decide) ?_ ?_
          · refine x_aload_n (pc' := 93) K 0 dX8_readLine_92 rfl rfl ?_
            refine x_bipush (pc' := 95) (v := 7) K dX8_readLine_93 rfl (by decide) ?_
            refine x_cVO (pc' := 98) (As := [xI (7 : Int32)]) (en := (fun v => some (xI v))) (rest := []) K (fun a hF => ct_X8_isWord hF) rfl (by decide) q1511 q1513 qs37 q1514 q105 hy_X8_isWord (Nat.le_of_ble_eq_true rfl) (Nat.le_of_ble_eq_true rfl) (Nat.le_of_ble_eq_true rfl) dX8_readLine_95 rfl (fun x6 => ?_)
            refine x_if_eq (tgt := 115) (pc' := 101) K dX8_readLine_98 rfl (by decide) ?_ ?_
            · refine x_aload_n (pc' := 116) K 0 dX8_readLine_115 rfl rfl ?_
              refine x_bipush (pc' := 118) (v := 8) K dX8_readLine_116 rfl (by decide) ?_
              refine x_cVO (pc' := 121) (As := [xI (8 : Int32)]) (en := (fun v => some (xI v))) (rest := []) K (fun a hF => ct_X8_isWord hF) rfl (by decide) q1511 q1513 qs37 q1514 q105 hy_X8_isWord (Nat.le_of_ble_eq_true rfl) (Nat.le_of_ble_eq_true rfl) (Nat.le_of_ble_eq_true rfl) dX8_readLine_118 rfl (fun x7 => ?_)
              refine x_if_eq (tgt := 137) (pc' := 124) K dX8_readLine_121 rfl (by decide) ?_ ?_
              · refine x_aload_n (pc' := 138) K 0 dX8_readLine_137 rfl rfl ?_
                refine x_iconst (pc' := 139) (v := 1) K dX8_readLine_138 rfl rfl ?_
                refine x_cV (pc' := 142) (As := [xI (1 : Int32)]) (en := (fun v => some (xI v))) (rest := []) K (fun a h1 hF => ct_X8_bad hF) rfl (by decide) q1528 q1530 qs39 q1531 q105 hy_X8_bad (Nat.le_of_ble_eq_true rfl) (Nat.le_of_ble_eq_true rfl) (Nat.le_of_ble_eq_true rfl) dX8_readLine_139 rfl (fun x8 g9 => ?_)
                refine x_istore_n (pc' := 143) (lv' := [(1, xI x8), (0, xR v0)]) K dX8_readLine_142 rfl (by decide) rfl ?_
                refine x_sub (lv' := [(0, xR v0), (1, xI x8)]) [1, 0] rfl ?_
                exact hB143 _ _ g9
              · refine x_aload_n (pc' := 125) K 0 dX8_readLine_124 rfl rfl ?_
                refine x_iconst (pc' := 126) (v := 3) K dX8_readLine_125 rfl rfl ?_
                refine x_bipush (pc' := 128) (v := 6) K dX8_readLine_126 rfl (by decide) ?_
                refine x_iconst (pc' := 129) (v := 1) K dX8_readLine_128 rfl rfl ?_
                refine x_bipush (pc' := 131) (v := 9) K dX8_readLine_129 rfl (by decide) ?_
                refine x_cV (pc' := 134) (As := [xI (3 : Int32), xI (6 : Int32), xI (1 : Int32), xI (9 : Int32)]) (en := (fun v => some (xI v))) (rest := []) K (fun a h1 hF => ct_X8_readOnce hF) rfl (by decide) q1563 q1565 qs47 q1566 q105 hy_X8_readOnce (Nat.le_of_ble_eq_true rfl) (Nat.le_of_ble_eq_true rfl) (Nat.le_of_ble_eq_true rfl) dX8_readLine_131 rfl (fun x12 g13 => ?_)
                refine x_goto (tgt := 142) K dX8_readLine_134 (by decide) ?_
                refine x_istore_n (pc' := 143) (lv' := [(1, xI x12), (0, xR v0)]) K dX8_readLine_142 rfl (by decide) rfl ?_
                refine x_sub (lv' := [(0, xR v0), (1, xI x12)]) [1, 0] rfl ?_
                exact hB143 _ _ g13
            · refine x_aload_n (pc' := 102) K 0 dX8_readLine_101 rfl rfl ?_
              refine x_iconst (pc' := 103) (v := 2) K dX8_readLine_102 rfl rfl ?_
              refine x_iconst (pc' := 104) (v := 5) K dX8_readLine_103 rfl rfl ?_
              refine x_iconst (pc' := 105) (v := 1) K dX8_readLine_104 rfl rfl ?_
              refine x_sipush (pc' := 108) (v := 999) K dX8_readLine_105 rfl (by decide) ?_
              refine x_cV (pc' := 111) (As := [xI (2 : Int32), xI (5 : Int32), xI (1 : Int32), xI (999 : Int32)]) (en := (fun v => some (xI v))) (rest := []) K (fun a h1 hF => ct_X8_readOnce hF) rfl (by decide) q1563 q1565 qs47 q1566 q105 hy_X8_readOnce (Nat.le_of_ble_eq_true rfl) (Nat.le_of_ble_eq_true rfl) (Nat.le_of_ble_eq_true rfl) dX8_readLine_108 rfl (fun x14 g15 => ?_)
              refine x_istore_n (pc' := 112) (lv' := [(1, xI x14), (0, xR v0)]) K dX8_readLine_111 rfl (by decide) rfl ?_
              refine x_goto (tgt := 143) K dX8_readLine_112 (by decide) ?_
              refine x_sub (lv' := [(0, xR v0), (1, xI x14)]) [1, 0] rfl ?_
              exact hB143 _ _ g15
          · refine x_aload_n (pc' := 79) K 0 dX8_readLine_78 rfl rfl ?_
            refine x_iconst (pc' := 80) (v := 1) K dX8_readLine_79 rfl rfl ?_
            refine x_iconst (pc' := 81) (v := 4) K dX8_readLine_80 rfl rfl ?_
            refine x_iconst (pc' := 82) (v := 0) K dX8_readLine_81 rfl rfl ?_
            refine x_sipush (pc' := 85) (v := 200) K dX8_readLine_82 rfl (by decide) ?_
            refine x_cV (pc' := 88) (As := [xI (1 : Int32), xI (4 : Int32), xI (0 : Int32), xI (200 : Int32)]) (en := (fun v => some (xI v))) (rest := []) K (fun a h1 hF => ct_X8_readOnce hF) rfl (by decide) q1563 q1565 qs47 q1566 q105 hy_X8_readOnce (Nat.le_of_ble_eq_true rfl) (Nat.le_of_ble_eq_true rfl) (Nat.le_of_ble_eq_true rfl) dX8_readLine_85 rfl (fun x16 g17 => ?_)
            refine x_istore_n (pc' := 89) (lv' := [(1, xI x16), (0, xR v0)]) K dX8_readLine_88 rfl (by decide) rfl ?_
            refine x_goto (tgt := 143) K dX8_readLine_89 (by decide) ?_
            refine x_sub (lv' := [(0, xR v0), (1, xI x16)]) [1, 0] rfl ?_
            exact hB143 _ _ g17
        · refine x_aload_n (pc' := 57) K 0 dX8_readLine_56 rfl rfl ?_
          refine x_iconst (pc' := 58) (v := 0) K dX8_readLine_57 rfl rfl ?_
          refine x_iconst (pc' := 59) (v := 3) K dX8_readLine_58 rfl rfl ?_
          refine x_iconst (pc' := 60) (v := 0) K dX8_readLine_59 rfl rfl ?_
          refine x_bipush (pc' := 62) (v := 100) K dX8_readLine_60 rfl (by decide) ?_
          refine x_cV (pc' := 65) (As := [xI (0 : Int32), xI (3 : Int32), xI (0 : Int32), xI (100 : Int32)]) (en := (fun v => some (xI v))) (rest := []) K (fun a h1 hF => ct_X8_readOnce hF) rfl (by decide) q1563 q1565 qs47 q1566 q105 hy_X8_readOnce (Nat.le_of_ble_eq_true rfl) (Nat.le_of_ble_eq_true rfl) (Nat.le_of_ble_eq_true rfl) dX8_readLine_62 rfl (fun x18 g19 => ?_)
          refine x_istore_n (pc' := 66) (lv' := [(1, xI x18), (0, xR v0)]) K dX8_readLine_65 rfl (by decide) rfl ?_
          refine x_goto (tgt := 143) K dX8_readLine_66 (by decide) ?_
          refine x_sub (lv' := [(0, xR v0), (1, xI x18)]) [1, 0] rfl ?_
          exact hB143 _ _ g19
      · refine x_aload_n (pc' := 41) K 0 dX8_readLine_40 rfl rfl ?_
        refine x_cV (pc' := 44) (As := []) (en := (fun v => some (xI v))) (rest := []) K (fun a h1 hF => ct_X8_readTakes hF) rfl (by decide) q1555 q1557 qs45 q1558 q105 hy_X8_readTakes (Nat.le_of_ble_eq_true rfl) (Nat.le_of_ble_eq_true rfl) (Nat.le_of_ble_eq_true rfl) dX8_readLine_41 rfl (fun x20 g21 => ?_)
        refine x_istore_n (pc' := 45) (lv' := [(1, xI x20), (0, xR v0)]) K dX8_readLine_44 rfl (by decide) rfl ?_
        refine x_goto (tgt := 143) K dX8_readLine_45 (by decide) ?_
        refine x_sub (lv' := [(0, xR v0), (1, xI x20)]) [1, 0] rfl ?_
        exact hB143 _ _ g21
    · refine x_aload_n (pc' := 25) K 0 dX8_readLine_24 rfl rfl ?_
      refine x_cV (pc' := 28) (As := []) (en := (fun v => some (xI v))) (rest := []) K (fun a h1 hF => ct_X8_readMint hF) rfl (by decide) q1544 q1546 qs43 q1547 q105 hy_X8_readMint (Nat.le_of_ble_eq_true rfl) (Nat.le_of_ble_eq_true rfl) (Nat.le_of_ble_eq_true rfl) dX8_readLine_25 rfl (fun x22 g23 => ?_)
      refine x_istore_n (pc' := 29) (lv' := [(1, xI x22), (0, xR v0)]) K dX8_readLine_28 rfl (by decide) rfl ?_
      refine x_goto (tgt := 143) K dX8_readLine_29 (by decide) ?_
      refine x_sub (lv' := [(0, xR v0), (1, xI x22)]) [1, 0] rfl ?_
      exact hB143 _ _ g23
  · refine x_aload_n (pc' := 9) K 0 dX8_readLine_8 rfl rfl ?_
    refine x_cV (pc' := 12) (As := []) (en := (fun v => some (xI v))) (rest := []) K (fun a h1 hF => ct_X8_readWho hF) rfl (by decide) q1524 q1526 qs38 q1527 q105 hy_X8_readWho (Nat.le_of_ble_eq_true rfl) (Nat.le_of_ble_eq_true rfl) (Nat.le_of_ble_eq_true rfl) dX8_readLine_9 rfl (fun x24 g25 => ?_)
    refine x_istore_n (pc' := 13) (lv' := [(1, xI x24), (0, xR v0)]) K dX8_readLine_12 rfl (by decide) rfl ?_
    refine x_goto (tgt := 143) K dX8_readLine_13 (by decide) ?_
    refine x_sub (lv' := [(0, xR v0), (1, xI x24)]) [1, 0] rfl ?_
    exact hB143 _ _ g25
/-! FaceCoinsModel.law()I -/
noncomputable def fM_law_l9 (v0 : Nat) (v1 : Int32) (g : AH) : Option ((Nat × Int32 × AH) ⊕ (Nat × AH)) :=
  if (108 : Int32) ≤ v1 then (
    some (Sum.inr (v0, g)))
  else (
    (xgr g v0 [14] 15).bind fun x2 =>
    (xsi g x2 v1 (0 : Int32)).bind fun g3 =>
    some (Sum.inl (v0, (v1 + 1), g3)))
noncomputable def fM_law_l43 (v0 : Nat) (v1 : Int32) (g : AH) : Option ((Nat × Int32 × AH) ⊕ ((Nat × Int32 × AH) ⊕ (Int32 × AH))) :=
  (xgi g v0 [14] 7).bind fun x7 =>
  if x7 = 0 then (
    some (Sum.inr (Sum.inl (v0, v1, g))))
  else (
    xb2 (xck g v0 14 (fM_readLine v0 g)) fun x8 g9 =>
    if x8 = 0 then (
      (xgi g9 v0 [14] 11).bind fun x10 =>
      some (Sum.inr (Sum.inr (((((-1) : Int32) - x10), g9)))))
    else (
      some (Sum.inl (v0, (v1 + 1), g9))))
noncomputable def fM_law_l72 (v0 : Nat) (v1 : Int32) (v2 : Int32) (g : AH) : Option ((Nat × Int32 × Int32 × AH) ⊕ (Nat × Int32 × AH)) :=
  if (108 : Int32) ≤ v2 then (
    some (Sum.inr (v0, v1, g)))
  else (
    (xgr g v0 [14] 14).bind fun x11 =>
    (xgr g v0 [14] 15).bind fun x12 =>
    (xai g x12 100 v2).bind fun x13 =>
    (xsi g x11 v2 x13).bind fun g14 =>
    some (Sum.inl (v0, v1, (v2 + 1), g14)))
noncomputable def fM_law_l99 (v0 : Nat) (v1 : Int32) (v2 : Int32) (g : AH) : Option ((Nat × Int32 × Int32 × AH) ⊕ (Nat × Int32 × AH)) :=
  if (120 : Int32) ≤ v2 then (
    some (Sum.inr (v0, v1, g)))
  else (
    (xgr g v0 [14] 14).bind fun x15 =>
    (xsi g x15 v2 (0 : Int32)).bind fun g16 =>
    some (Sum.inl (v0, v1, (v2 + 1), g16)))
noncomputable def fM_law_l136 (v0 : Nat) (v1 : Int32) (v2 : Int32) (g : AH) : Option ((Nat × Int32 × Int32 × AH) ⊕ (Nat × Int32 × AH)) :=
  if (12 : Int32) ≤ v2 then (
    some (Sum.inr (v0, v1, g)))
  else (
    (xgr g v0 [14] 18).bind fun x21 =>
    (xgr g v0 [14] 19).bind fun x22 =>
    (xaj g x22 v2).bind fun x23 =>
    (xsj g x21 v2 x23).bind fun g24 =>
    some (Sum.inl (v0, v1, (v2 + 1), g24)))
noncomputable def fM_law_a160 (v0 : Nat) (v1 : Int32) (g : AH) : Option (Int32 × AH) :=
  (xpi g v0 [14] 23 (0 : Int32)).bind fun g25 =>
  some ((v1, g25))
noncomputable def fM_law_a118 (v0 : Nat) (v1 : Int32) (g : AH) : Option (Int32 × AH) :=
  (xgr g v0 [14] 14).bind fun x17 =>
  (xsi g x17 (110 : Int32) ((-1) : Int32)).bind fun g18 =>
  (xgr g18 v0 [14] 14).bind fun x19 =>
  (xsi g18 x19 (111 : Int32) ((-1) : Int32)).bind fun g20 =>
  (xloop (fun s9 : (Nat × Int32 × Int32 × AH) => fM_law_l136 s9.1 s9.2.1 s9.2.2.1 s9.2.2.2) (v0, v1, (0 : Int32), g20)).bind (fun r9 : (Nat × Int32 × AH) => fM_law_a160 r9.1 r9.2.1 r9.2.2)
noncomputable def fM_law_a96 (v0 : Nat) (v1 : Int32) (g : AH) : Option (Int32 × AH) :=
  (xloop (fun s9 : (Nat × Int32 × Int32 × AH) => fM_law_l99 s9.1 s9.2.1 s9.2.2.1 s9.2.2.2) (v0, v1, (108 : Int32), g)).bind (fun r9 : (Nat × Int32 × AH) => fM_law_a118 r9.1 r9.2.1 r9.2.2)
noncomputable def fM_law_a70 (v0 : Nat) (v1 : Int32) (g : AH) : Option (Int32 × AH) :=
  (xloop (fun s9 : (Nat × Int32 × Int32 × AH) => fM_law_l72 s9.1 s9.2.1 s9.2.2.1 s9.2.2.2) (v0, v1, (0 : Int32), g)).bind (fun r9 : (Nat × Int32 × AH) => fM_law_a96 r9.1 r9.2.1 r9.2.2)
noncomputable def fM_law_a28 (v0 : Nat) (g : AH) : Option (Int32 × AH) :=
  (xgr g v0 [14] 15).bind fun x4 =>
  xb2 (xck g v0 14 (fM_plain v0 x4 g)) fun x_ g5 =>
  (xpi g5 v0 [14] 24 (0 : Int32)).bind fun g6 =>
  (xloop (fun s9 : (Nat × Int32 × AH) => fM_law_l43 s9.1 s9.2.1 s9.2.2) (v0, (0 : Int32), g6)).bind (Sum.elim (fun r9 : (Nat × Int32 × AH) => fM_law_a70 r9.1 r9.2.1 r9.2.2) some)
noncomputable def fM_law (v0 : Nat) (h0 : AH) : Option (Int32 × AH) :=
  xb2 (xck h0 v0 14 (fM_begin v0 (700 : Int32) h0)) fun x_ g1 =>
  (xloop (fun s9 : (Nat × Int32 × AH) => fM_law_l9 s9.1 s9.2.1 s9.2.2) (v0, (0 : Int32), g1)).bind (fun r9 : (Nat × AH) => fM_law_a28 r9.1 r9.2)
set_option maxHeartbeats 4000000 in
theorem ct_X8_law {l : Launch} {D : XD} {v0 : Nat} {h0 : AH} {a : Int32} {h1 : AH} (hF : fM_law v0 h0 = some (a, h1)) : XCt l D yX8_law (ws_ yX8_law cX8_law 3 (some .int)) 6 129 [xR v0] h0 (.inl (some (xI a))) h1 := by
  refine x_method (by decide) (Nat.le_of_ble_eq_true rfl) fun p e R s m args below meth c K hr hnm hex => ?_
  have K : XO p R s m args meth c D 3 h0 cX8_law "FaceCoinsModel" 6 129 := K
  generalize hQ : XMQ below _ _ _ _ _ _ = Q
  have hL9 : ∀ (C1 : ((Nat × Int32 × AH) ⊕ (Nat × AH)) → Prop) (hj1 : ∀ s9 : (Nat × Int32 × AH), C1 (Sum.inl s9) → XG p l e R s m args below meth c D 3 h0 Q 9 [(0, xR s9.1), (1, xI s9.2.1)] [] s9.2.2) (he1 : ∀ r9 : (Nat × AH), C1 (Sum.inr r9) → XG p l e R s m args below meth c D 3 h0 Q 28 [(0, xR r9.1)] [] r9.2) (v0 : Nat) (v1 : Int32) (g : AH), XF p l e R s m args below meth c D 3 h0 Q 9 [(0, xR v0), (1, xI v1)] [] g (fM_law_l9 v0 v1 g) C1 := by
    intro C1 hj1 he1
    intro v0 v1 g
    unfold fM_law_l9
    refine x_iload_n (pc' := 10) K 1 dX8_law_9 rfl rfl ?_
    refine x_bipush (pc' := 12) (v := 108) K dX8_law_10 rfl (by decide) ?_
    refine x_icmp_ge (tgt := 28) (pc' := 15) K dX8_law_12 rfl (by decide) ?_ ?_
    · refine x_sub (lv' := [(0, xR v0)]) [0] rfl ?_
      exact x_jump (fun hz => he1 (v0, g) hz)
    · refine x_aload_n (pc' := 16) K 0 dX8_law_15 rfl rfl ?_
      refine x_getr (pc' := 19) K fg_14_15 (Or.inl (K.2.2.2.2.1 _ q1327)) (fun _ h9 => h9) dX8_law_16 rfl (fun x2 => ?_)
      refine x_iload_n (pc' := 20) K 1 dX8_law_19 rfl rfl ?_
      refine x_iconst (pc' := 21) (v := 0) K dX8_law_20 rfl rfl ?_
      refine x_iast (pc' := 22) K dX8_law_21 rfl (fun g3 => ?_)
      refine x_iinc (pc' := 25) (y := 1) (lv' := [(1, xI (v1 + 1)), (0, xR v0)]) K 1 dX8_law_22 rfl rfl (by decide) (by decide) rfl ?_
      refine x_goto (tgt := 9) K dX8_law_25 (by decide) ?_
      refine x_sub (lv' := [(0, xR v0), (1, xI (v1 + 1))]) [1, 0] rfl ?_
      exact x_jump (fun hz => hj1 (v0, (v1 + 1), g3) hz)
  have hL43 : ∀ (C1 : ((Nat × Int32 × AH) ⊕ ((Nat × Int32 × AH) ⊕ (Int32 × AH))) → Prop) (hj1 : ∀ s9 : (Nat × Int32 × AH), C1 (Sum.inl s9) → XG p l e R s m args below meth c D 3 h0 Q 43 [(0, xR s9.1), (1, xI s9.2.1)] [] s9.2.2) (he1 : ∀ r9 : (Nat × Int32 × AH), C1 (Sum.inr (Sum.inl r9)) → XG p l e R s m args below meth c D 3 h0 Q 70 [(0, xR r9.1), (1, xI r9.2.1)] [] r9.2.2) (hd1 : ∀ y9 : (Int32 × AH), C1 (Sum.inr (Sum.inr y9)) → (XEnd below s D h0 (fun v => .inl (some (xI v))) Q) y9) (v0 : Nat) (v1 : Int32) (g : AH), XF p l e R s m args below meth c D 3 h0 Q 43 [(0, xR v0), (1, xI v1)] [] g (fM_law_l43 v0 v1 g) C1 := by
    intro C1 hj1 he1 hd1
    intro v0 v1 g
    unfold fM_law_l43
    refine x_aload_n (pc' := 44) K 0 dX8_law_43 rfl rfl ?_
    refine x_geti (pc' := 47) K fg_14_7 (Or.inl (K.2.2.2.2.1 _ q1319)) (fun _ h9 => h9) dX8_law_44 rfl (fun x7 => ?_)
    refine x_if_eq (tgt := 70) (pc' := 50) K dX8_law_47 rfl (by decide) ?_ ?_
    · exact x_jump (fun hz => he1 (v0, v1, g) hz)
    · refine x_aload_n (pc' := 51) K 0 dX8_law_50 rfl rfl ?_
      refine x_cV (pc' := 54) (As := []) (en := (fun v => some (xI v))) (rest := []) K (fun a h1 hF => ct_X8_readLine hF) rfl (by decide) q1507 q1509 qs36 q1510 q105 hy_X8_readLine (Nat.le_of_ble_eq_true rfl) (Nat.le_of_ble_eq_true rfl) (Nat.le_of_ble_eq_true rfl) dX8_law_51 rfl (fun x8 g9 => ?_)
      refine x_if_ne (tgt := 64) (pc' := 57) K dX8_law_54 rfl (by decide) ?_ ?_
      · refine x_iinc (pc' := 67) (y := 1) (lv' := [(1, xI (v1 + 1)), (0, xR v0)]) K 1 dX8_law_64 rfl rfl (by decide) (by decide) rfl ?_
        refine x_goto (tgt := 43) K dX8_law_67 (by decide) ?_
        refine x_sub (lv' := [(0, xR v0), (1, xI (v1 + 1))]) [1, 0] rfl ?_
        exact x_jump (fun hz => hj1 (v0, (v1 + 1), g9) hz)
      · refine x_iconst (pc' := 58) (v := (-1)) K dX8_law_57 rfl rfl ?_
        refine x_aload_n (pc' := 59) K 0 dX8_law_58 rfl rfl ?_
        refine x_geti (pc' := 62) K fg_14_11 (Or.inl (K.2.2.2.2.1 _ q1323)) (fun _ h9 => h9) dX8_law_59 rfl (fun x10 => ?_)
        refine x_isub (pc' := 63) K dX8_law_62 rfl ?_
        refine x_g (fun z => Sum.inr (Sum.inr z)) (x_C (C8 := (XEnd below s D h0 (fun v => .inl (some (xI v))) Q)) (fun z hz => hd1 z hz) ?_)
        exact x_iret K rfl hr dX8_law_63
  have hL72 : ∀ (C1 : ((Nat × Int32 × Int32 × AH) ⊕ (Nat × Int32 × AH)) → Prop) (hj1 : ∀ s9 : (Nat × Int32 × Int32 × AH), C1 (Sum.inl s9) → XG p l e R s m args below meth c D 3 h0 Q 72 [(0, xR s9.1), (1, xI s9.2.1), (2, xI s9.2.2.1)] [] s9.2.2.2) (he1 : ∀ r9 : (Nat × Int32 × AH), C1 (Sum.inr r9) → XG p l e R s m args below meth c D 3 h0 Q 96 [(0, xR r9.1), (1, xI r9.2.1)] [] r9.2.2) (v0 : Nat) (v1 : Int32) (v2 : Int32) (g : AH), XF p l e R s m args below meth c D 3 h0 Q 72 [(0, xR v0), (1, xI v1), (2, xI v2)] [] g (fM_law_l72 v0 v1 v2 g) C1 := by
    intro C1 hj1 he1
    intro v0 v1 v2 g
    unfold fM_law_l72
    refine x_iload_n (pc' := 73) K 2 dX8_law_72 rfl rfl ?_
    refine x_bipush (pc' := 75) (v := 108) K dX8_law_73 rfl (by decide) ?_
    refine x_icmp_ge (tgt := 96) (pc' := 78) K dX8_law_75 rfl (by decide) ?_ ?_
    · refine x_sub (lv' := [(0, xR v0), (1, xI v1)]) [0, 1] rfl ?_
      exact x_jump (fun hz => he1 (v0, v1, g) hz)
    · refine x_aload_n (pc' := 79) K 0 dX8_law_78 rfl rfl ?_
      refine x_getr (pc' := 82) K fg_14_14 (Or.inl (K.2.2.2.2.1 _ q1326)) (fun _ h9 => h9) dX8_law_79 rfl (fun x11 => ?_)
      refine x_iload_n (pc' := 83) K 2 dX8_law_82 rfl rfl ?_
      refine x_aload_n (pc' := 84) K 0 dX8_law_83 rfl rfl ?_
      refine x_getr (pc' := 87) K fg_14_15 (Or.inl (K.2.2.2.2.1 _ q1327)) (fun _ h9 => h9) dX8_law_84 rfl (fun x12 => ?_)
      refine x_iload_n (pc' := 88) K 2 dX8_law_87 rfl rfl ?_
      refine x_iald (pc' := 89) K dX8_law_88 rfl (fun x13 => ?_)
      refine x_iast (pc' := 90) K dX8_law_89 rfl (fun g14 => ?_)
      refine x_iinc (pc' := 93) (y := 1) (lv' := [(2, xI (v2 + 1)), (0, xR v0), (1, xI v1)]) K 2 dX8_law_90 rfl rfl (by decide) (by decide) rfl ?_
      refine x_goto (tgt := 72) K dX8_law_93 (by decide) ?_
      refine x_sub (lv' := [(0, xR v0), (1, xI v1), (2, xI (v2 + 1))]) [1, 2, 0] rfl ?_
      exact x_jump (fun hz => hj1 (v0, v1, (v2 + 1), g14) hz)
  have hL99 : ∀ (C1 : ((Nat × Int32 × Int32 × AH) ⊕ (Nat × Int32 × AH)) → Prop) (hj1 : ∀ s9 : (Nat × Int32 × Int32 × AH), C1 (Sum.inl s9) → XG p l e R s m args below meth c D 3 h0 Q 99 [(0, xR s9.1), (1, xI s9.2.1), (2, xI s9.2.2.1)] [] s9.2.2.2) (he1 : ∀ r9 : (Nat × Int32 × AH), C1 (Sum.inr r9) → XG p l e R s m args below meth c D 3 h0 Q 118 [(0, xR r9.1), (1, xI r9.2.1)] [] r9.2.2) (v0 : Nat) (v1 : Int32) (v2 : Int32) (g : AH), XF p l e R s m args below meth c D 3 h0 Q 99 [(0, xR v0), (1, xI v1), (2, xI v2)] [] g (fM_law_l99 v0 v1 v2 g) C1 := by
    intro C1 hj1 he1
    intro v0 v1 v2 g
    unfold fM_law_l99
    refine x_iload_n (pc' := 100) K 2 dX8_law_99 rfl rfl ?_
    refine x_bipush (pc' := 102) (v := 120) K dX8_law_100 rfl (by decide) ?_
    refine x_icmp_ge (tgt := 118) (pc' := 105) K dX8_law_102 rfl (by decide) ?_ ?_
    · refine x_sub (lv' := [(0, xR v0), (1, xI v1)]) [0, 1] rfl ?_
      exact x_jump (fun hz => he1 (v0, v1, g) hz)
    · refine x_aload_n (pc' := 106) K 0 dX8_law_105 rfl rfl ?_
      refine x_getr (pc' := 109) K fg_14_14 (Or.inl (K.2.2.2.2.1 _ q1326)) (fun _ h9 => h9) dX8_law_106 rfl (fun x15 => ?_)
      refine x_iload_n (pc' := 110) K 2 dX8_law_109 rfl rfl ?_
      refine x_iconst (pc' := 111) (v := 0) K dX8_law_110 rfl rfl ?_
      refine x_iast (pc' := 112) K dX8_law_111 rfl (fun g16 => ?_)
      refine x_iinc (pc' := 115) (y := 1) (lv' := [(2, xI (v2 + 1)), (0, xR v0), (1, xI v1)]) K 2 dX8_law_112 rfl rfl (by decide) (by decide) rfl ?_
      refine x_goto (tgt := 99) K dX8_law_115 (by decide) ?_
      refine x_sub (lv' := [(0, xR v0), (1, xI v1), (2, xI (v2 + 1))]) [1, 2, 0] rfl ?_
      exact x_jump (fun hz => hj1 (v0, v1, (v2 + 1), g16) hz)
  have hL136 : ∀ (C1 : ((Nat × Int32 × Int32 × AH) ⊕ (Nat × Int32 × AH)) → Prop) (hj1 : ∀ s9 : (Nat × Int32 × Int32 × AH), C1 (Sum.inl s9) → XG p l e R s m args below meth c D 3 h0 Q 136 [(0, xR s9.1), (1, xI s9.2.1), (2, xI s9.2.2.1)] [] s9.2.2.2) (he1 : ∀ r9 : (Nat × Int32 × AH), C1 (Sum.inr r9) → XG p l e R s m args below meth c D 3 h0 Q 160 [(0, xR r9.1), (1, xI r9.2.1)] [] r9.2.2) (v0 : Nat) (v1 : Int32) (v2 : Int32) (g : AH), XF p l e R s m args below meth c D 3 h0 Q 136 [(0, xR v0), (1, xI v1), (2, xI v2)] [] g (fM_law_l136 v0 v1 v2 g) C1 := by
    intro C1 hj1 he1
    intro v0 v1 v2 g
    unfold fM_law_l136
    refine x_iload_n (pc' := 137) K 2 dX8_law_136 rfl rfl ?_
    refine x_bipush (pc' := 139) (v := 12) K dX8_law_137 rfl (by decide) ?_
    refine x_icmp_ge (tgt := 160) (pc' := 142) K dX8_law_139 rfl (by decide) ?_ ?_
    · refine x_sub (lv' := [(0, xR v0), (1, xI v1)]) [0, 1] rfl ?_
      exact x_jump (fun hz => he1 (v0, v1, g) hz)
    · refine x_aload_n (pc' := 143) K 0 dX8_law_142 rfl rfl ?_
      refine x_getr (pc' := 146) K fg_14_18 (Or.inl (K.2.2.2.2.1 _ q1330)) (fun _ h9 => h9) dX8_law_143 rfl (fun x21 => ?_)
      refine x_iload_n (pc' := 147) K 2 dX8_law_146 rfl rfl ?_
      refine x_aload_n (pc' := 148) K 0 dX8_law_147 rfl rfl ?_
      refine x_getr (pc' := 151) K fg_14_19 (Or.inl (K.2.2.2.2.1 _ q1331)) (fun _ h9 => h9) dX8_law_148 rfl (fun x22 => ?_)
      refine x_iload_n (pc' := 152) K 2 dX8_law_151 rfl rfl ?_
      refine x_lald (pc' := 153) K dX8_law_152 rfl (fun x23 => ?_)
      refine x_last (pc' := 154) K dX8_law_153 rfl (fun g24 => ?_)
      refine x_iinc (pc' := 157) (y := 1) (lv' := [(2, xI (v2 + 1)), (0, xR v0), (1, xI v1)]) K 2 dX8_law_154 rfl rfl (by decide) (by decide) rfl ?_
      refine x_goto (tgt := 136) K dX8_law_157 (by decide) ?_
      refine x_sub (lv' := [(0, xR v0), (1, xI v1), (2, xI (v2 + 1))]) [1, 2, 0] rfl ?_
      exact x_jump (fun hz => hj1 (v0, v1, (v2 + 1), g24) hz)
  have hA160_0 : ∀ (v0 : Nat) (v1 : Int32) (g : AH), XF p l e R s m args below meth c D 3 h0 Q 160 [(0, xR v0), (1, xI v1)] [] g (fM_law_a160 v0 v1 g) (XEnd below s D h0 (fun v => .inl (some (xI v))) Q) := by
    intro v0 v1 g
    unfold fM_law_a160
    refine x_aload_n (pc' := 161) K 0 dX8_law_160 rfl rfl ?_
    refine x_iconst (pc' := 162) (v := 0) K dX8_law_161 rfl rfl ?_
    refine x_puti (pc' := 165) K fp_14_23 (Or.inl (K.2.2.2.2.1 _ q1335)) (fun _ h9 => h9) (Or.inl rfl) dX8_law_162 rfl (fun g25 => ?_)
    refine x_iload_n (pc' := 166) K 1 dX8_law_165 rfl rfl ?_
    exact x_iret K rfl hr dX8_law_166
  have hA118_0 : ∀ (v0 : Nat) (v1 : Int32) (g : AH), XF p l e R s m args below meth c D 3 h0 Q 118 [(0, xR v0), (1, xI v1)] [] g (fM_law_a118 v0 v1 g) (XEnd below s D h0 (fun v => .inl (some (xI v))) Q) := by
    intro v0 v1 g
    unfold fM_law_a118
    refine x_aload_n (pc' := 119) K 0 dX8_law_118 rfl rfl ?_
    refine x_getr (pc' := 122) K fg_14_14 (Or.inl (K.2.2.2.2.1 _ q1326)) (fun _ h9 => h9) dX8_law_119 rfl (fun x17 => ?_)
    refine x_bipush (pc' := 124) (v := 110) K dX8_law_122 rfl (by decide) ?_
    refine x_iconst (pc' := 125) (v := (-1)) K dX8_law_124 rfl rfl ?_
    refine x_iast (pc' := 126) K dX8_law_125 rfl (fun g18 => ?_)
    refine x_aload_n (pc' := 127) K 0 dX8_law_126 rfl rfl ?_
    refine x_getr (pc' := 130) K fg_14_14 (Or.inl (K.2.2.2.2.1 _ q1326)) (fun _ h9 => h9) dX8_law_127 rfl (fun x19 => ?_)
    refine x_bipush (pc' := 132) (v := 111) K dX8_law_130 rfl (by decide) ?_
    refine x_iconst (pc' := 133) (v := (-1)) K dX8_law_132 rfl rfl ?_
    refine x_iast (pc' := 134) K dX8_law_133 rfl (fun g20 => ?_)
    refine x_iconst (pc' := 135) (v := 0) K dX8_law_134 rfl rfl ?_
    refine x_istore_n (pc' := 136) (lv' := [(2, xI (0 : Int32)), (0, xR v0), (1, xI v1)]) K dX8_law_135 rfl (by decide) rfl ?_
    refine x_sub (lv' := [(0, xR v0), (1, xI v1), (2, xI (0 : Int32))]) [1, 2, 0] rfl ?_
    exact x_loop (pl := (fun s9 : (Nat × Int32 × Int32 × AH) => [(0, xR s9.1), (1, xI s9.2.1), (2, xI s9.2.2.1)])) (ph := (fun s9 : (Nat × Int32 × Int32 × AH) => s9.2.2.2)) (fun r9 : (Nat × Int32 × AH) => XG p l e R s m args below meth c D 3 h0 Q 160 [(0, xR r9.1), (1, xI r9.2.1)] [] r9.2.2) (fun s9 => hL136 _ (fun _ hz => hz) (fun _ hz => hz) s9.1 s9.2.1 s9.2.2.1 s9.2.2.2) (fun r9 x hx hc => hA160_0 r9.1 r9.2.1 r9.2.2 x hx hc) (v0, v1, (0 : Int32), g20)
  have hA96_0 : ∀ (v0 : Nat) (v1 : Int32) (g : AH), XF p l e R s m args below meth c D 3 h0 Q 96 [(0, xR v0), (1, xI v1)] [] g (fM_law_a96 v0 v1 g) (XEnd below s D h0 (fun v => .inl (some (xI v))) Q) := by
    intro v0 v1 g
    unfold fM_law_a96
    refine x_bipush (pc' := 98) (v := 108) K dX8_law_96 rfl (by decide) ?_
    refine x_istore_n (pc' := 99) (lv' := [(2, xI (108 : Int32)), (0, xR v0), (1, xI v1)]) K dX8_law_98 rfl (by decide) rfl ?_
    refine x_sub (lv' := [(0, xR v0), (1, xI v1), (2, xI (108 : Int32))]) [1, 2, 0] rfl ?_
    exact x_loop (pl := (fun s9 : (Nat × Int32 × Int32 × AH) => [(0, xR s9.1), (1, xI s9.2.1), (2, xI s9.2.2.1)])) (ph := (fun s9 : (Nat × Int32 × Int32 × AH) => s9.2.2.2)) (fun r9 : (Nat × Int32 × AH) => XG p l e R s m args below meth c D 3 h0 Q 118 [(0, xR r9.1), (1, xI r9.2.1)] [] r9.2.2) (fun s9 => hL99 _ (fun _ hz => hz) (fun _ hz => hz) s9.1 s9.2.1 s9.2.2.1 s9.2.2.2) (fun r9 x hx hc => hA118_0 r9.1 r9.2.1 r9.2.2 x hx hc) (v0, v1, (108 : Int32), g)
  have hA70_0 : ∀ (v0 : Nat) (v1 : Int32) (g : AH), XF p l e R s m args below meth c D 3 h0 Q 70 [(0, xR v0), (1, xI v1)] [] g (fM_law_a70 v0 v1 g) (XEnd below s D h0 (fun v => .inl (some (xI v))) Q) := by
    intro v0 v1 g
    unfold fM_law_a70
    refine x_iconst (pc' := 71) (v := 0) K dX8_law_70 rfl rfl ?_
    refine x_istore_n (pc' := 72) (lv' := [(2, xI (0 : Int32)), (0, xR v0), (1, xI v1)]) K dX8_law_71 rfl (by decide) rfl ?_
    refine x_sub (lv' := [(0, xR v0), (1, xI v1), (2, xI (0 : Int32))]) [1, 2, 0] rfl ?_
    exact x_loop (pl := (fun s9 : (Nat × Int32 × Int32 × AH) => [(0, xR s9.1), (1, xI s9.2.1), (2, xI s9.2.2.1)])) (ph := (fun s9 : (Nat × Int32 × Int32 × AH) => s9.2.2.2)) (fun r9 : (Nat × Int32 × AH) => XG p l e R s m args below meth c D 3 h0 Q 96 [(0, xR r9.1), (1, xI r9.2.1)] [] r9.2.2) (fun s9 => hL72 _ (fun _ hz => hz) (fun _ hz => hz) s9.1 s9.2.1 s9.2.2.1 s9.2.2.2) (fun r9 x hx hc => hA96_0 r9.1 r9.2.1 r9.2.2 x hx hc) (v0, v1, (0 : Int32), g)
  have hA28_0 : ∀ (v0 : Nat) (g : AH), XF p l e R s m args below meth c D 3 h0 Q 28 [(0, xR v0)] [] g (fM_law_a28 v0 g) (XEnd below s D h0 (fun v => .inl (some (xI v))) Q) := by
    intro v0 g
    unfold fM_law_a28
    refine x_aload_n (pc' := 29) K 0 dX8_law_28 rfl rfl ?_
    refine x_aload_n (pc' := 30) K 0 dX8_law_29 rfl rfl ?_
    refine x_getr (pc' := 33) K fg_14_15 (Or.inl (K.2.2.2.2.1 _ q1327)) (fun _ h9 => h9) dX8_law_30 rfl (fun x4 => ?_)
    refine x_cV (pc' := 36) (As := [xR x4]) (en := (fun _ => none)) (rest := []) K (fun a h1 hF => ct_X8_plain hF) rfl (by decide) q1483 q1485 qs32 q1486 q105 hy_X8_plain (Nat.le_of_ble_eq_true rfl) (Nat.le_of_ble_eq_true rfl) (Nat.le_of_ble_eq_true rfl) dX8_law_33 rfl (fun x_ g5 => ?_)
    refine x_aload_n (pc' := 37) K 0 dX8_law_36 rfl rfl ?_
    refine x_iconst (pc' := 38) (v := 0) K dX8_law_37 rfl rfl ?_
    refine x_puti (pc' := 41) K fp_14_24 (Or.inl (K.2.2.2.2.1 _ q1336)) (fun _ h9 => h9) (Or.inl rfl) dX8_law_38 rfl (fun g6 => ?_)
    refine x_iconst (pc' := 42) (v := 0) K dX8_law_41 rfl rfl ?_
    refine x_istore_n (pc' := 43) (lv' := [(1, xI (0 : Int32)), (0, xR v0)]) K dX8_law_42 rfl (by decide) rfl ?_
    refine x_sub (lv' := [(0, xR v0), (1, xI (0 : Int32))]) [1, 0] rfl ?_
    exact x_loop (pl := (fun s9 : (Nat × Int32 × AH) => [(0, xR s9.1), (1, xI s9.2.1)])) (ph := (fun s9 : (Nat × Int32 × AH) => s9.2.2)) (Sum.elim (fun r9 : (Nat × Int32 × AH) => XG p l e R s m args below meth c D 3 h0 Q 70 [(0, xR r9.1), (1, xI r9.2.1)] [] r9.2.2) (XEnd below s D h0 (fun v => .inl (some (xI v))) Q)) (fun s9 => hL43 _ (fun _ hz => hz) (fun _ hz => hz) (fun _ hz => hz) s9.1 s9.2.1 s9.2.2) (x_ex2 (fun r9 x hx hc => hA70_0 r9.1 r9.2.1 r9.2.2 x hx hc)) (v0, (0 : Int32), g6)
  refine (?_ : XF p l e R s m args below meth c D 3 h0 Q 0 [(0, xR v0)] [] h0 (fM_law v0 h0) (XEnd below s D h0 (fun v => .inl (some (xI v))) Q)) (a, h1) hF hQ.symm
  unfold fM_law
  refine x_aload_n (pc' := 1) K 0 dX8_law_0 rfl rfl ?_
  refine x_sipush (pc' := 4) (v := 700) K dX8_law_1 rfl (by decide) ?_
  refine x_cV (pc' := 7) (As := [xI (700 : Int32)]) (en := (fun _ => none)) (rest := []) K (fun a h1 hF => ct_X8_begin hF) rfl (by decide) q1475 q1477 qs30 q1478 q105 hy_X8_begin (Nat.le_of_ble_eq_true rfl) (Nat.le_of_ble_eq_true rfl) (Nat.le_of_ble_eq_true rfl) dX8_law_4 rfl (fun x_ g1 => ?_)
  refine x_iconst (pc' := 8) (v := 0) K dX8_law_7 rfl rfl ?_
  refine x_istore_n (pc' := 9) (lv' := [(1, xI (0 : Int32)), (0, xR v0)]) K dX8_law_8 rfl (by decide) rfl ?_
  refine x_sub (lv' := [(0, xR v0), (1, xI (0 : Int32))]) [1, 0] rfl ?_
  exact x_loop (pl := (fun s9 : (Nat × Int32 × AH) => [(0, xR s9.1), (1, xI s9.2.1)])) (ph := (fun s9 : (Nat × Int32 × AH) => s9.2.2)) (fun r9 : (Nat × AH) => XG p l e R s m args below meth c D 3 h0 Q 28 [(0, xR r9.1)] [] r9.2) (fun s9 => hL9 _ (fun _ hz => hz) (fun _ hz => hz) s9.1 s9.2.1 s9.2.2) (fun r9 x hx hc => hA28_0 r9.1 r9.2 x hx hc) (v0, (0 : Int32), g1)
/-! FaceCoinsModel.fault()I -/
noncomputable def fM_fault (v0 : Nat) (h0 : AH) : Option (Int32 × AH) :=
  (xpi h0 v0 [14] 0 (0 : Int32)).bind fun g1 =>
  (xgi g1 v0 [14] 10).bind fun x2 =>
  some ((x2, g1))
set_option maxHeartbeats 4000000 in
theorem ct_X8_fault {l : Launch} {D : XD} {v0 : Nat} {h0 : AH} {a : Int32} {h1 : AH} (hF : fM_fault v0 h0 = some (a, h1)) : XCt l D yX8_fault (ws_ yX8_fault cX8_fault 1 (some .int)) 0 0 [xR v0] h0 (.inl (some (xI a))) h1 := by
  refine x_method (by decide) (Nat.le_of_ble_eq_true rfl) fun p e R s m args below meth c K hr hnm hex => ?_
  have K : XO p R s m args meth c D 1 h0 cX8_fault "FaceCoinsModel" 0 0 := K
  generalize hQ : XMQ below _ _ _ _ _ _ = Q
  refine (?_ : XF p l e R s m args below meth c D 1 h0 Q 0 [(0, xR v0)] [] h0 (fM_fault v0 h0) (XEnd below s D h0 (fun v => .inl (some (xI v))) Q)) (a, h1) hF hQ.symm
  unfold fM_fault
  refine x_aload_n (pc' := 1) K 0 dX8_fault_0 rfl rfl ?_
  refine x_iconst (pc' := 2) (v := 0) K dX8_fault_1 rfl rfl ?_
  refine x_puti (pc' := 5) K fp_14_0 (Or.inl (K.2.2.2.2.1 _ q1312)) (fun _ h9 => h9) (Or.inl rfl) dX8_fault_2 rfl (fun g1 => ?_)
  refine x_aload_n (pc' := 6) K 0 dX8_fault_5 rfl rfl ?_
  refine x_geti (pc' := 9) K fg_14_10 (Or.inl (K.2.2.2.2.1 _ q1322)) (fun _ h9 => h9) dX8_fault_6 rfl (fun x2 => ?_)
  exact x_iret K rfl hr dX8_fault_9
/-! FaceCoinsModel.coins()I -/
noncomputable def fM_coins (v0 : Nat) (h0 : AH) : Option Int32 :=
  (xgr h0 v0 [14] 14).bind fun x1 =>
  (xai h0 x1 100 (108 : Int32)).bind fun x2 =>
  some (x2)
set_option maxHeartbeats 4000000 in
theorem ct_X8_coins {l : Launch} {D : XD} {v0 : Nat} {h0 : AH} {a : Int32} (hF : fM_coins v0 h0 = some a) : XCt l D yX8_coins (ws_ yX8_coins cX8_coins 1 (some .int)) 0 0 [xR v0] h0 (.inl (some (xI a))) h0 := by
  refine x_method (by decide) (Nat.le_of_ble_eq_true rfl) fun p e R s m args below meth c K hr hnm hex => ?_
  have K : XO p R s m args meth c D 1 h0 cX8_coins "FaceCoinsModel" 0 0 := K
  generalize hQ : XMQ below _ _ _ _ _ _ = Q
  refine (?_ : XF p l e R s m args below meth c D 1 h0 Q 0 [(0, xR v0)] [] h0 (fM_coins v0 h0) (fun z => XEnd below s D h0 (fun v => .inl (some (xI v))) Q (z, h0))) a hF hQ.symm
  unfold fM_coins
  refine x_aload_n (pc' := 1) K 0 dX8_coins_0 rfl rfl ?_
  refine x_getr (pc' := 4) K fg_14_14 (Or.inl (K.2.2.2.2.1 _ q1326)) (fun _ h9 => h9) dX8_coins_1 rfl (fun x1 => ?_)
  refine x_bipush (pc' := 6) (v := 108) K dX8_coins_4 rfl (by decide) ?_
  refine x_iald (pc' := 7) K dX8_coins_6 rfl (fun x2 => ?_)
  exact x_ro (C9 := XEnd below s D h0 (fun v => .inl (some (xI v))) Q) (x_iret K rfl hr dX8_coins_7)
/-! FaceCoinsModel.people()I -/
noncomputable def fM_people (v0 : Nat) (h0 : AH) : Option Int32 :=
  (xgr h0 v0 [14] 14).bind fun x1 =>
  (xai h0 x1 100 (0 : Int32)).bind fun x2 =>
  some (x2)
set_option maxHeartbeats 4000000 in
theorem ct_X8_people {l : Launch} {D : XD} {v0 : Nat} {h0 : AH} {a : Int32} (hF : fM_people v0 h0 = some a) : XCt l D yX8_people (ws_ yX8_people cX8_people 1 (some .int)) 0 0 [xR v0] h0 (.inl (some (xI a))) h0 := by
  refine x_method (by decide) (Nat.le_of_ble_eq_true rfl) fun p e R s m args below meth c K hr hnm hex => ?_
  have K : XO p R s m args meth c D 1 h0 cX8_people "FaceCoinsModel" 0 0 := K
  generalize hQ : XMQ below _ _ _ _ _ _ = Q
  refine (?_ : XF p l e R s m args below meth c D 1 h0 Q 0 [(0, xR v0)] [] h0 (fM_people v0 h0) (fun z => XEnd below s D h0 (fun v => .inl (some (xI v))) Q (z, h0))) a hF hQ.symm
  unfold fM_people
  refine x_aload_n (pc' := 1) K 0 dX8_people_0 rfl rfl ?_
  refine x_getr (pc' := 4) K fg_14_14 (Or.inl (K.2.2.2.2.1 _ q1326)) (fun _ h9 => h9) dX8_people_1 rfl (fun x1 => ?_)
  refine x_iconst (pc' := 5) (v := 0) K dX8_people_4 rfl rfl ?_
  refine x_iald (pc' := 6) K dX8_people_5 rfl (fun x2 => ?_)
  exact x_ro (C9 := XEnd below s D h0 (fun v => .inl (some (xI v))) Q) (x_iret K rfl hr dX8_people_6)
/-! FaceCoinsModel.isWho(I)Z -/
noncomputable def fM_isWho (v0 : Nat) (v1 : Int32) (h0 : AH) : Option Int32 :=
  if v1 < 0 then (
    some ((0 : Int32)))
  else (
    (xck h0 v0 14 (fM_people v0 h0)).bind fun x1 =>
    if x1 ≤ v1 then (
      some ((0 : Int32)))
    else (
      some ((1 : Int32))))
set_option maxHeartbeats 4000000 in
theorem ct_X8_isWho {l : Launch} {D : XD} {v0 : Nat} {v1 : Int32} {h0 : AH} {a : Int32} (hF : fM_isWho v0 v1 h0 = some a) : XCt l D yX8_isWho (ws_ yX8_isWho cX8_isWho 2 (some .boolean)) 1 20 [xR v0, xI v1] h0 (.inl (some (xI a))) h0 := by
  refine x_method (by decide) (Nat.le_of_ble_eq_true rfl) fun p e R s m args below meth c K hr hnm hex => ?_
  have K : XO p R s m args meth c D 2 h0 cX8_isWho "FaceCoinsModel" 1 20 := K
  generalize hQ : XMQ below _ _ _ _ _ _ = Q
  refine (?_ : XF p l e R s m args below meth c D 2 h0 Q 0 [(0, xR v0), (1, xI v1)] [] h0 (fM_isWho v0 v1 h0) (fun z => XEnd below s D h0 (fun v => .inl (some (xI v))) Q (z, h0))) a hF hQ.symm
  unfold fM_isWho
  refine x_iload_n (pc' := 1) K 1 dX8_isWho_0 rfl rfl ?_
  refine x_if_lt (tgt := 16) (pc' := 4) K dX8_isWho_1 rfl (by decide) ?_ ?_
  · refine x_iconst (pc' := 17) (v := 0) K dX8_isWho_16 rfl rfl ?_
    exact x_ro (C9 := XEnd below s D h0 (fun v => .inl (some (xI v))) Q) (x_zret K (Or.inl rfl) rfl hr dX8_isWho_17)
  · refine x_iload_n (pc' := 5) K 1 dX8_isWho_4 rfl rfl ?_
    refine x_aload_n (pc' := 6) K 0 dX8_isWho_5 rfl rfl ?_
    refine x_cVO (pc' := 9) (As := []) (en := (fun v => some (xI v))) (rest := [xI v1]) K (fun a hF => ct_X8_people hF) rfl (by decide) q1590 q1592 qs51 q1593 q105 hy_X8_people (Nat.le_of_ble_eq_true rfl) (Nat.le_of_ble_eq_true rfl) (Nat.le_of_ble_eq_true rfl) dX8_isWho_6 rfl (fun x1 => ?_)
    refine x_icmp_ge (tgt := 16) (pc' := 12) K dX8_isWho_9 rfl (by decide) ?_ ?_
    · refine x_iconst (pc' := 17) (v := 0) K dX8_isWho_16 rfl rfl ?_
      exact x_ro (C9 := XEnd below s D h0 (fun v => .inl (some (xI v))) Q) (x_zret K (Or.inl rfl) rfl hr dX8_isWho_17)
    · refine x_iconst (pc' := 13) (v := 1) K dX8_isWho_12 rfl rfl ?_
      refine x_goto (tgt := 17) K dX8_isWho_13 (by decide) ?_
      exact x_ro (C9 := XEnd below s D h0 (fun v => .inl (some (xI v))) Q) (x_zret K (Or.inr rfl) rfl hr dX8_isWho_17)
/-! FaceCoinsModel.ofCoin(II)I -/
noncomputable def fM_ofCoin (v0 : Nat) (v1 : Int32) (v2 : Int32) (h0 : AH) : Option Int32 :=
  (xgr h0 v0 [14] 14).bind fun x1 =>
  (xai h0 x1 100 (((120 : Int32) + ((32 : Int32) * v1)) + v2)).bind fun x2 =>
  some (x2)
set_option maxHeartbeats 4000000 in
theorem ct_X8_ofCoin {l : Launch} {D : XD} {v0 : Nat} {v1 : Int32} {v2 : Int32} {h0 : AH} {a : Int32} (hF : fM_ofCoin v0 v1 v2 h0 = some a) : XCt l D yX8_ofCoin (ws_ yX8_ofCoin cX8_ofCoin 3 (some .int)) 0 0 [xR v0, xI v1, xI v2] h0 (.inl (some (xI a))) h0 := by
  refine x_method (by decide) (Nat.le_of_ble_eq_true rfl) fun p e R s m args below meth c K hr hnm hex => ?_
  have K : XO p R s m args meth c D 3 h0 cX8_ofCoin "FaceCoinsModel" 0 0 := K
  generalize hQ : XMQ below _ _ _ _ _ _ = Q
  refine (?_ : XF p l e R s m args below meth c D 3 h0 Q 0 [(0, xR v0), (1, xI v1), (2, xI v2)] [] h0 (fM_ofCoin v0 v1 v2 h0) (fun z => XEnd below s D h0 (fun v => .inl (some (xI v))) Q (z, h0))) a hF hQ.symm
  unfold fM_ofCoin
  refine x_aload_n (pc' := 1) K 0 dX8_ofCoin_0 rfl rfl ?_
  refine x_getr (pc' := 4) K fg_14_14 (Or.inl (K.2.2.2.2.1 _ q1326)) (fun _ h9 => h9) dX8_ofCoin_1 rfl (fun x1 => ?_)
  refine x_bipush (pc' := 6) (v := 120) K dX8_ofCoin_4 rfl (by decide) ?_
  refine x_bipush (pc' := 8) (v := 32) K dX8_ofCoin_6 rfl (by decide) ?_
  refine x_iload_n (pc' := 9) K 1 dX8_ofCoin_8 rfl rfl ?_
  refine x_imul (pc' := 10) K dX8_ofCoin_9 rfl ?_
  refine x_iadd (pc' := 11) K dX8_ofCoin_10 rfl ?_
  refine x_iload_n (pc' := 12) K 2 dX8_ofCoin_11 rfl rfl ?_
  refine x_iadd (pc' := 13) K dX8_ofCoin_12 rfl ?_
  refine x_iald (pc' := 14) K dX8_ofCoin_13 rfl (fun x2 => ?_)
  exact x_ro (C9 := XEnd below s D h0 (fun v => .inl (some (xI v))) Q) (x_iret K rfl hr dX8_ofCoin_14)
/-! FaceCoinsModel.ofWho(II)I -/
noncomputable def fM_ofWho (v0 : Nat) (v1 : Int32) (v2 : Int32) (h0 : AH) : Option Int32 :=
  (xgr h0 v0 [14] 14).bind fun x1 =>
  (xai h0 x1 100 (((8 : Int32) + ((3 : Int32) * v1)) + v2)).bind fun x2 =>
  some (x2)
set_option maxHeartbeats 4000000 in
theorem ct_X8_ofWho {l : Launch} {D : XD} {v0 : Nat} {v1 : Int32} {v2 : Int32} {h0 : AH} {a : Int32} (hF : fM_ofWho v0 v1 v2 h0 = some a) : XCt l D yX8_ofWho (ws_ yX8_ofWho cX8_ofWho 3 (some .int)) 0 0 [xR v0, xI v1, xI v2] h0 (.inl (some (xI a))) h0 := by
  refine x_method (by decide) (Nat.le_of_ble_eq_true rfl) fun p e R s m args below meth c K hr hnm hex => ?_
  have K : XO p R s m args meth c D 3 h0 cX8_ofWho "FaceCoinsModel" 0 0 := K
  generalize hQ : XMQ below _ _ _ _ _ _ = Q
  refine (?_ : XF p l e R s m args below meth c D 3 h0 Q 0 [(0, xR v0), (1, xI v1), (2, xI v2)] [] h0 (fM_ofWho v0 v1 v2 h0) (fun z => XEnd below s D h0 (fun v => .inl (some (xI v))) Q (z, h0))) a hF hQ.symm
  unfold fM_ofWho
  refine x_aload_n (pc' := 1) K 0 dX8_ofWho_0 rfl rfl ?_
  refine x_getr (pc' := 4) K fg_14_14 (Or.inl (K.2.2.2.2.1 _ q1326)) (fun _ h9 => h9) dX8_ofWho_1 rfl (fun x1 => ?_)
  refine x_bipush (pc' := 6) (v := 8) K dX8_ofWho_4 rfl (by decide) ?_
  refine x_iconst (pc' := 7) (v := 3) K dX8_ofWho_6 rfl rfl ?_
  refine x_iload_n (pc' := 8) K 1 dX8_ofWho_7 rfl rfl ?_
  refine x_imul (pc' := 9) K dX8_ofWho_8 rfl ?_
  refine x_iadd (pc' := 10) K dX8_ofWho_9 rfl ?_
  refine x_iload_n (pc' := 11) K 2 dX8_ofWho_10 rfl rfl ?_
  refine x_iadd (pc' := 12) K dX8_ofWho_11 rfl ?_
  refine x_iald (pc' := 13) K dX8_ofWho_12 rfl (fun x2 => ?_)
  exact x_ro (C9 := XEnd below s D h0 (fun v => .inl (some (xI v))) Q) (x_iret K rfl hr dX8_ofWho_13)
/-! FaceCoinsModel.refuse()I -/
noncomputable def fM_refuse (v0 : Nat) (h0 : AH) : Option (Int32 × AH) :=
  (xpi h0 v0 [14] 0 (1 : Int32)).bind fun g1 =>
  some (((0 : Int32), g1))
set_option maxHeartbeats 4000000 in
theorem ct_X8_refuse {l : Launch} {D : XD} {v0 : Nat} {h0 : AH} {a : Int32} {h1 : AH} (hF : fM_refuse v0 h0 = some (a, h1)) : XCt l D yX8_refuse (ws_ yX8_refuse cX8_refuse 1 (some .int)) 0 0 [xR v0] h0 (.inl (some (xI a))) h1 := by
  refine x_method (by decide) (Nat.le_of_ble_eq_true rfl) fun p e R s m args below meth c K hr hnm hex => ?_
  have K : XO p R s m args meth c D 1 h0 cX8_refuse "FaceCoinsModel" 0 0 := K
  generalize hQ : XMQ below _ _ _ _ _ _ = Q
  refine (?_ : XF p l e R s m args below meth c D 1 h0 Q 0 [(0, xR v0)] [] h0 (fM_refuse v0 h0) (XEnd below s D h0 (fun v => .inl (some (xI v))) Q)) (a, h1) hF hQ.symm
  unfold fM_refuse
  refine x_aload_n (pc' := 1) K 0 dX8_refuse_0 rfl rfl ?_
  refine x_iconst (pc' := 2) (v := 1) K dX8_refuse_1 rfl rfl ?_
  refine x_puti (pc' := 5) K fp_14_0 (Or.inl (K.2.2.2.2.1 _ q1312)) (fun _ h9 => h9) (Or.inl rfl) dX8_refuse_2 rfl (fun g1 => ?_)
  refine x_iconst (pc' := 6) (v := 0) K dX8_refuse_5 rfl rfl ?_
  exact x_iret K rfl hr dX8_refuse_6
/-! FaceCoinsModel.topOf(I)I -/
noncomputable def fM_topOf (v0 : Nat) (v1 : Int32) (h0 : AH) : Option Int32 :=
  (xck h0 v0 14 (fM_ofCoin v0 v1 (4 : Int32) h0)).bind fun x1 =>
  some (x1)
set_option maxHeartbeats 4000000 in
theorem ct_X8_topOf {l : Launch} {D : XD} {v0 : Nat} {v1 : Int32} {h0 : AH} {a : Int32} (hF : fM_topOf v0 v1 h0 = some a) : XCt l D yX8_topOf (ws_ yX8_topOf cX8_topOf 2 (some .int)) 1 22 [xR v0, xI v1] h0 (.inl (some (xI a))) h0 := by
  refine x_method (by decide) (Nat.le_of_ble_eq_true rfl) fun p e R s m args below meth c K hr hnm hex => ?_
  have K : XO p R s m args meth c D 2 h0 cX8_topOf "FaceCoinsModel" 1 22 := K
  generalize hQ : XMQ below _ _ _ _ _ _ = Q
  refine (?_ : XF p l e R s m args below meth c D 2 h0 Q 0 [(0, xR v0), (1, xI v1)] [] h0 (fM_topOf v0 v1 h0) (fun z => XEnd below s D h0 (fun v => .inl (some (xI v))) Q (z, h0))) a hF hQ.symm
  unfold fM_topOf
  refine x_aload_n (pc' := 1) K 0 dX8_topOf_0 rfl rfl ?_
  refine x_iload_n (pc' := 2) K 1 dX8_topOf_1 rfl rfl ?_
  refine x_iconst (pc' := 3) (v := 4) K dX8_topOf_2 rfl rfl ?_
  refine x_cVO (pc' := 6) (As := [xI v1, xI (4 : Int32)]) (en := (fun v => some (xI v))) (rest := []) K (fun a hF => ct_X8_ofCoin hF) rfl (by decide) q1610 q1612 qs56 q1613 q105 hy_X8_ofCoin (Nat.le_of_ble_eq_true rfl) (Nat.le_of_ble_eq_true rfl) (Nat.le_of_ble_eq_true rfl) dX8_topOf_3 rfl (fun x1 => ?_)
  exact x_ro (C9 := XEnd below s D h0 (fun v => .inl (some (xI v))) Q) (x_iret K rfl hr dX8_topOf_6)
/-! FaceCoinsModel.who(II)I -/
noncomputable def fM_who_l48 (v0 : Nat) (v1 : Int32) (v2 : Int32) (v3 : Int32) (v4 : Int32) (g : AH) : Option ((Nat × Int32 × Int32 × Int32 × Int32) ⊕ Int32) :=
  (xck g v0 14 (fM_coins v0 g)).bind fun x7 =>
  if x7 ≤ v4 then (
    some (Sum.inr v3))
  else (
    if v2 = (5 : Int32) then (
      (xck g v0 14 (fM_topOf v0 v4 g)).bind fun x10 =>
      if x10 = v1 then (
        some (Sum.inl (v0, v1, v2, (v3 + (1 : Int32)), (v4 + 1))))
      else (
        some (Sum.inl (v0, v1, v2, (v3 + (0 : Int32)), (v4 + 1)))))
    else (
      (xck g v0 14 (fM_ofCoin v0 v4 (1 : Int32) g)).bind fun x8 =>
      if x8 = v1 then (
        if v2 = (3 : Int32) then (
          some (Sum.inl (v0, v1, v2, (v3 + (1 : Int32)), (v4 + 1))))
        else (
          (xck g v0 14 (fM_ofCoin v0 v4 (0 : Int32) g)).bind fun x9 =>
          some (Sum.inl (v0, v1, v2, (v3 + x9), (v4 + 1)))))
      else (
        some (Sum.inl (v0, v1, v2, v3, (v4 + 1))))))
noncomputable def fM_who_a119 (v3 : Int32) (g : AH) : Option (Int32 × AH) :=
  some ((v3, g))
noncomputable def fM_who (v0 : Nat) (v1 : Int32) (v2 : Int32) (h0 : AH) : Option (Int32 × AH) :=
  xb2 (xck h0 v0 14 (fM_lay v0 h0)) fun x_ g1 =>
  (xck g1 v0 14 (fM_isWho v0 v1 g1)).bind fun x2 =>
  if x2 = 0 then (
    xb2 (xck g1 v0 14 (fM_refuse v0 g1)) fun x3 g4 =>
    some ((x3, g4)))
  else (
    (fM_isIn v2 (0 : Int32) (5 : Int32) g1).bind fun x5 =>
    if x5 = 0 then (
      xb2 (xck g1 v0 14 (fM_refuse v0 g1)) fun x12 g13 =>
      some ((x12, g13)))
    else (
      (xpi g1 v0 [14] 0 (0 : Int32)).bind fun g6 =>
      if (3 : Int32) ≤ v2 then (
        (xloop (fun s9 : (Nat × Int32 × Int32 × Int32 × Int32) => fM_who_l48 s9.1 s9.2.1 s9.2.2.1 s9.2.2.2.1 s9.2.2.2.2 g6) (v0, v1, v2, (0 : Int32), (0 : Int32))).bind (fun r9 : Int32 => fM_who_a119 r9 g6))
      else (
        (xck g6 v0 14 (fM_ofWho v0 v1 v2 g6)).bind fun x11 =>
        some ((x11, g6)))))
set_option maxHeartbeats 4000000 in
theorem ct_X8_who {l : Launch} {D : XD} {v0 : Nat} {v1 : Int32} {v2 : Int32} {h0 : AH} {a : Int32} {h1 : AH} (hF : fM_who v0 v1 v2 h0 = some (a, h1)) : XCt l D yX8_who (ws_ yX8_who cX8_who 5 (some .int)) 2 43 [xR v0, xI v1, xI v2] h0 (.inl (some (xI a))) h1 := by
  refine x_method (by decide) (Nat.le_of_ble_eq_true rfl) fun p e R s m args below meth c K hr hnm hex => ?_
  have K : XO p R s m args meth c D 5 h0 cX8_who "FaceCoinsModel" 2 43 := K
  generalize hQ : XMQ below _ _ _ _ _ _ = Q
  have hL48 : ∀ (g : AH) (C1 : ((Nat × Int32 × Int32 × Int32 × Int32) ⊕ Int32) → Prop) (hj1 : ∀ s9 : (Nat × Int32 × Int32 × Int32 × Int32), C1 (Sum.inl s9) → XG p l e R s m args below meth c D 5 h0 Q 48 [(0, xR s9.1), (1, xI s9.2.1), (2, xI s9.2.2.1), (3, xI s9.2.2.2.1), (4, xI s9.2.2.2.2)] [] g) (he1 : ∀ r9 : Int32, C1 (Sum.inr r9) → XG p l e R s m args below meth c D 5 h0 Q 119 [(3, xI r9)] [] g) (v0 : Nat) (v1 : Int32) (v2 : Int32) (v3 : Int32) (v4 : Int32), XF p l e R s m args below meth c D 5 h0 Q 48 [(0, xR v0), (1, xI v1), (2, xI v2), (3, xI v3), (4, xI v4)] [] g (fM_who_l48 v0 v1 v2 v3 v4 g) C1 := by
    intro g C1 hj1 he1
    intro v0 v1 v2 v3 v4
    unfold fM_who_l48
    refine x_iload (pc' := 50) K 4 dX8_who_48 rfl rfl ?_
    refine x_aload_n (pc' := 51) K 0 dX8_who_50 rfl rfl ?_
    refine x_cVO (pc' := 54) (As := []) (en := (fun v => some (xI v))) (rest := [xI v4]) K (fun a hF => ct_X8_coins hF) rfl (by decide) q1602 q1604 qs54 q1605 q105 hy_X8_coins (Nat.le_of_ble_eq_true rfl) (Nat.le_of_ble_eq_true rfl) (Nat.le_of_ble_eq_true rfl) dX8_who_51 rfl (fun x7 => ?_)
    refine x_icmp_ge (tgt := 119) (pc' := 57) K dX8_who_54 rfl (by decide) ?_ ?_
    · refine x_sub (lv' := [(3, xI v3)]) [3] rfl ?_
      exact x_jump (fun hz => he1 v3 hz)
    · refine x_iload_n (pc' := 58) K 2 dX8_who_57 rfl rfl ?_
      refine x_iconst (pc' := 59) (v := 5) K dX8_who_58 rfl rfl ?_
      refine x_icmp_ne (tgt := 83) (pc' := 62) K dX8_who_59 rfl (by decide) ?_ ?_
      · refine x_aload_n (pc' := 84) K 0 dX8_who_83 rfl rfl ?_
        refine x_iload (pc' := 86) K 4 dX8_who_84 rfl rfl ?_
        refine x_iconst (pc' := 87) (v := 1) K dX8_who_86 rfl rfl ?_
        refine x_cVO (pc' := 90) (As := [xI v4, xI (1 : Int32)]) (en := (fun v => some (xI v))) (rest := []) K (fun a hF => ct_X8_ofCoin hF) rfl (by decide) q1610 q1612 qs56 q1613 q105 hy_X8_ofCoin (Nat.le_of_ble_eq_true rfl) (Nat.le_of_ble_eq_true rfl) (Nat.le_of_ble_eq_true rfl) dX8_who_87 rfl (fun x8 => ?_)
        refine x_iload_n (pc' := 91) K 1 dX8_who_90 rfl rfl ?_
        refine x_icmp_ne (tgt := 113) (pc' := 94) K dX8_who_91 rfl (by decide) ?_ ?_
        · refine x_iinc (pc' := 116) (y := 1) (lv' := [(4, xI (v4 + 1)), (0, xR v0), (1, xI v1), (2, xI v2), (3, xI v3)]) K 4 dX8_who_113 rfl rfl (by decide) (by decide) rfl ?_
          refine x_goto (tgt := 48) K dX8_who_116 (by decide) ?_
          refine x_sub (lv' := [(0, xR v0), (1, xI v1), (2, xI v2), (3, xI v3), (4, xI (v4 + 1))]) [1, 2, 3, 4, 0] rfl ?_
          exact x_jump (fun hz => hj1 (v0, v1, v2, v3, (v4 + 1)) hz)
        · refine x_iload_n (pc' := 95) K 3 dX8_who_94 rfl rfl ?_
          refine x_iload_n (pc' := 96) K 2 dX8_who_95 rfl rfl ?_
          refine x_iconst (pc' := 97) (v := 3) K dX8_who_96 rfl rfl ?_
          refine x_icmp_ne (tgt := 104) (pc' := 100) K dX8_who_97 rfl (by decide) ?_ ?_
          · refine x_aload_n (pc' := 105) K 0 dX8_who_104 rfl rfl ?_
            refine x_iload (pc' := 107) K 4 dX8_who_105 rfl rfl ?_
            refine x_iconst (pc' := 108) (v := 0) K dX8_who_107 rfl rfl ?_
            refine x_cVO (pc' := 111) (As := [xI v4, xI (0 : Int32)]) (en := (fun v => some (xI v))) (rest := [xI v3]) K (fun a hF => ct_X8_ofCoin hF) rfl (by decide) q1610 q1612 qs56 q1613 q105 hy_X8_ofCoin (Nat.le_of_ble_eq_true rfl) (Nat.le_of_ble_eq_true rfl) (Nat.le_of_ble_eq_true rfl) dX8_who_108 rfl (fun x9 => ?_)
            refine x_iadd (pc' := 112) K dX8_who_111 rfl ?_
            refine x_istore_n (pc' := 113) (lv' := [(3, xI (v3 + x9)), (0, xR v0), (1, xI v1), (2, xI v2), (4, xI v4)]) K dX8_who_112 rfl (by decide) rfl ?_
            refine x_iinc (pc' := 116) (y := 1) (lv' := [(4, xI (v4 + 1)), (3, xI (v3 + x9)), (0, xR v0), (1, xI v1), (2, xI v2)]) K 4 dX8_who_113 rfl rfl (by decide) (by decide) rfl ?_
            refine x_goto (tgt := 48) K dX8_who_116 (by decide) ?_
            refine x_sub (lv' := [(0, xR v0), (1, xI v1), (2, xI v2), (3, xI (v3 + x9)), (4, xI (v4 + 1))]) [2, 3, 4, 1, 0] rfl ?_
            exact x_jump (fun hz => hj1 (v0, v1, v2, (v3 + x9), (v4 + 1)) hz)
          · refine x_iconst (pc' := 101) (v := 1) K dX8_who_100 rfl rfl ?_
            refine x_goto (tgt := 111) K dX8_who_101 (by decide) ?_
            refine x_iadd (pc' := 112) K dX8_who_111 rfl ?_
            refine x_istore_n (pc' := 113) (lv' := [(3, xI (v3 + (1 : Int32))), (0, xR v0), (1, xI v1), (2, xI v2), (4, xI v4)]) K dX8_who_112 rfl (by decide) rfl ?_
            refine x_iinc (pc' := 116) (y := 1) (lv' := [(4, xI (v4 + 1)), (3, xI (v3 + (1 : Int32))), (0, xR v0), (1, xI v1), (2, xI v2)]) K 4 dX8_who_113 rfl rfl (by decide) (by decide) rfl ?_
            refine x_goto (tgt := 48) K dX8_who_116 (by decide) ?_
            refine x_sub (lv' := [(0, xR v0), (1, xI v1), (2, xI v2), (3, xI (v3 + (1 : Int32))), (4, xI (v4 + 1))]) [2, 3, 4, 1, 0] rfl ?_
            exact x_jump (fun hz => hj1 (v0, v1, v2, (v3 + (1 : Int32)), (v4 + 1)) hz)
      · refine x_iload_n (pc' := 63) K 3 dX8_who_62 rfl rfl ?_
        refine x_aload_n (pc' := 64) K 0 dX8_who_63 rfl rfl ?_
        refine x_iload (pc' := 66) K 4 dX8_who_64 rfl rfl ?_
        refine x_cVO (pc' := 69) (As := [xI v4]) (en := (fun v => some (xI v))) (rest := [xI v3]) K (fun a hF => ct_X8_topOf hF) rfl (by decide) q1606 q1608 qs55 q1609 q105 hy_X8_topOf (Nat.le_of_ble_eq_true rfl) (Nat.le_of_ble_eq_true rfl) (Nat.le_of_ble_eq_true rfl) dX8_who_66 rfl (fun x10 => ?_)
        refine x_iload_n (pc' := 70) K 1 dX8_who_69 rfl rfl ?_
        refine x_icmp_ne (tgt := 77) (pc' := 73) K dX8_who_70 rfl (by decide) ?_ ?_
        · refine x_iconst (pc' := 78) (v := 0) K dX8_who_77 rfl rfl ?_
          refine x_iadd (pc' := 79) K dX8_who_78 rfl ?_
          refine x_istore_n (pc' := 80) (lv' := [(3, xI (v3 + (0 : Int32))), (0, xR v0), (1, xI v1), (2, xI v2), (4, xI v4)]) K dX8_who_79 rfl (by decide) rfl ?_
          refine x_goto (tgt := 113) K dX8_who_80 (by decide) ?_
          refine x_iinc (pc' := 116) (y := 1) (lv' := [(4, xI (v4 + 1)), (3, xI (v3 + (0 : Int32))), (0, xR v0), (1, xI v1), (2, xI v2)]) K 4 dX8_who_113 rfl rfl (by decide) (by decide) rfl ?_
          refine x_goto (tgt := 48) K dX8_who_116 (by decide) ?_
          refine x_sub (lv' := [(0, xR v0), (1, xI v1), (2, xI v2), (3, xI (v3 + (0 : Int32))), (4, xI (v4 + 1))]) [2, 3, 4, 1, 0] rfl ?_
          exact x_jump (fun hz => hj1 (v0, v1, v2, (v3 + (0 : Int32)), (v4 + 1)) hz)
        · refine x_iconst (pc' := 74) (v := 1) K dX8_who_73 rfl rfl ?_
          refine x_goto (tgt := 78) K dX8_who_74 (by decide) ?_
          refine x_iadd (pc' := 79) K dX8_who_78 rfl ?_
          refine x_istore_n (pc' := 80) (lv' := [(3, xI (v3 + (1 : Int32))), (0, xR v0), (1, xI v1), (2, xI v2), (4, xI v4)]) K dX8_who_79 rfl (by decide) rfl ?_
          refine x_goto (tgt := 113) K dX8_who_80 (by decide) ?_
          refine x_iinc (pc' := 116) (y := 1) (lv' := [(4, xI (v4 + 1)), (3, xI (v3 + (1 : Int32))), (0, xR v0), (1, xI v1), (2, xI v2)]) K 4 dX8_who_113 rfl rfl (by decide) (by decide) rfl ?_
          refine x_goto (tgt := 48) K dX8_who_116 (by decide) ?_
          refine x_sub (lv' := [(0, xR v0), (1, xI v1), (2, xI v2), (3, xI (v3 + (1 : Int32))), (4, xI (v4 + 1))]) [2, 3, 4, 1, 0] rfl ?_
          exact x_jump (fun hz => hj1 (v0, v1, v2, (v3 + (1 : Int32)), (v4 + 1)) hz)
  have hA119_0 : ∀ (v3 : Int32) (g : AH), XF p l e R s m args below meth c D 5 h0 Q 119 [(3, xI v3)] [] g (fM_who_a119 v3 g) (XEnd below s D h0 (fun v => .inl (some (xI v))) Q) := by
    intro v3 g
    unfold fM_who_a119
    refine x_iload_n (pc' := 120) K 0 dX8_who_119 rfl rfl ?_
    exact x_iret K rfl hr dX8_who_120
  refine (?_ : XF p l e R s m args below meth c D 5 h0 Q 0 [(0, xR v0), (1, xI v1), (2, xI v2)] [] h0 (fM_who v0 v1 v2 h0) (XEnd below s D h0 (fun v => .inl (some (xI v))) Q)) (a, h1) hF hQ.symm
  unfold fM_who
  refine x_aload_n (pc' := 1) K 0 dX8_who_0 rfl rfl ?_
  refine x_cV (pc' := 4) (As := []) (en := (fun _ => none)) (rest := []) K (fun a h1 hF => ct_X8_lay hF) rfl (by decide) q1479 q1481 qs31 q1482 q105 hy_X8_lay (Nat.le_of_ble_eq_true rfl) (Nat.le_of_ble_eq_true rfl) (Nat.le_of_ble_eq_true rfl) dX8_who_1 rfl (fun x_ g1 => ?_)
  refine x_aload_n (pc' := 5) K 0 dX8_who_4 rfl rfl ?_
  refine x_iload_n (pc' := 6) K 1 dX8_who_5 rfl rfl ?_
  refine x_cVO (pc' := 9) (As := [xI v1]) (en := (fun v => some (xI v))) (rest := []) K (fun a hF => ct_X8_isWho hF) rfl (by decide) q1586 q1588 qs50 q1589 q105 hy_X8_isWho (Nat.le_of_ble_eq_true rfl) (Nat.le_of_ble_eq_true rfl) (Nat.le_of_ble_eq_true rfl) dX8_who_6 rfl (fun x2 => ?_)
  refine x_if_eq (tgt := 21) (pc' := 12) K dX8_who_9 rfl (by decide) ?_ ?_
  · refine x_aload_n (pc' := 22) K 0 dX8_who_21 rfl rfl ?_
    refine x_cV (pc' := 25) (As := []) (en := (fun v => some (xI v))) (rest := []) K (fun a h1 hF => ct_X8_refuse hF) rfl (by decide) q1594 q1596 qs52 q1597 q105 hy_X8_refuse (Nat.le_of_ble_eq_true rfl) (Nat.le_of_ble_eq_true rfl) (Nat.le_of_ble_eq_true rfl) dX8_who_22 rfl (fun x3 g4 => ?_)
    exact x_iret K rfl hr dX8_who_25
  · refine x_iload_n (pc' := 13) K 2 dX8_who_12 rfl rfl ?_
    refine x_iconst (pc' := 14) (v := 0) K dX8_who_13 rfl rfl ?_
    refine x_iconst (pc' := 15) (v := 5) K dX8_who_14 rfl rfl ?_
    refine x_cSO (pc' := 18) (As := [xI v2, xI (0 : Int32), xI (5 : Int32)]) (en := (fun v => some (xI v))) (rest := []) K (fun a hF => ct_X8_isIn hF) rfl q1552 q1553 q1554 q105 hy_X8_isIn (Nat.le_of_ble_eq_true rfl) (Nat.le_of_ble_eq_true rfl) (Nat.le_of_ble_eq_true rfl) dX8_who_15 rfl (fun x5 => ?_)
    refine x_if_ne (tgt := 26) (pc' := 21) K dX8_who_18 rfl (by decide) ?_ ?_
    · refine x_aload_n (pc' := 27) K 0 dX8_who_26 rfl rfl ?_
      refine x_iconst (pc' := 28) (v := 0) K dX8_who_27 rfl rfl ?_
      refine x_puti (pc' := 31) K fp_14_0 (Or.inl (K.2.2.2.2.1 _ q1312)) (fun _ h9 => h9) (Or.inl rfl) dX8_who_28 rfl (fun g6 => ?_)
      refine x_iload_n (pc' := 32) K 2 dX8_who_31 rfl rfl ?_
      refine x_iconst (pc' := 33) (v := 3) K dX8_who_32 rfl rfl ?_
      refine x_icmp_ge (tgt := 43) (pc' := 36) K dX8_who_33 rfl (by decide) ?_ ?_
      · refine x_iconst (pc' := 44) (v := 0) K dX8_who_43 rfl rfl ?_
        refine x_istore_n (pc' := 45) (lv' := [(3, xI (0 : Int32)), (0, xR v0), (1, xI v1), (2, xI v2)]) K dX8_who_44 rfl (by decide) rfl ?_
        refine x_iconst (pc' := 46) (v := 0) K dX8_who_45 rfl rfl ?_
        refine x_istore (pc' := 48) (lv' := [(4, xI (0 : Int32)), (3, xI (0 : Int32)), (0, xR v0), (1, xI v1), (2, xI v2)]) K dX8_who_46 rfl (by decide) rfl ?_
        refine x_sub (lv' := [(0, xR v0), (1, xI v1), (2, xI v2), (3, xI (0 : Int32)), (4, xI (0 : Int32))]) [2, 3, 4, 1, 0] rfl ?_
        exact x_loop (pl := (fun s9 : (Nat × Int32 × Int32 × Int32 × Int32) => [(0, xR s9.1), (1, xI s9.2.1), (2, xI s9.2.2.1), (3, xI s9.2.2.2.1), (4, xI s9.2.2.2.2)])) (ph := (fun s9 : (Nat × Int32 × Int32 × Int32 × Int32) => g6)) (fun r9 : Int32 => XG p l e R s m args below meth c D 5 h0 Q 119 [(3, xI r9)] [] g6) (fun s9 => hL48 g6 _ (fun _ hz => hz) (fun _ hz => hz) s9.1 s9.2.1 s9.2.2.1 s9.2.2.2.1 s9.2.2.2.2) (fun r9 x hx hc => hA119_0 r9 g6 x hx hc) (v0, v1, v2, (0 : Int32), (0 : Int32))
      · refine x_aload_n (pc' := 37) K 0 dX8_who_36 rfl rfl ?_
        refine x_iload_n (pc' := 38) K 1 dX8_who_37 rfl rfl ?_
        refine x_iload_n (pc' := 39) K 2 dX8_who_38 rfl rfl ?_
        refine x_cVO (pc' := 42) (As := [xI v1, xI v2]) (en := (fun v => some (xI v))) (rest := []) K (fun a hF => ct_X8_ofWho hF) rfl (by decide) q1598 q1600 qs53 q1601 q105 hy_X8_ofWho (Nat.le_of_ble_eq_true rfl) (Nat.le_of_ble_eq_true rfl) (Nat.le_of_ble_eq_true rfl) dX8_who_39 rfl (fun x11 => ?_)
        exact x_iret K rfl hr dX8_who_42
    · refine x_aload_n (pc' := 22) K 0 dX8_who_21 rfl rfl ?_
      refine x_cV (pc' := 25) (As := []) (en := (fun v => some (xI v))) (rest := []) K (fun a h1 hF => ct_X8_refuse hF) rfl (by decide) q1594 q1596 qs52 q1597 q105 hy_X8_refuse (Nat.le_of_ble_eq_true rfl) (Nat.le_of_ble_eq_true rfl) (Nat.le_of_ble_eq_true rfl) dX8_who_22 rfl (fun x12 g13 => ?_)
      exact x_iret K rfl hr dX8_who_25
/-! FaceCoinsModel.mints()I -/
noncomputable def fM_mints (v0 : Nat) (h0 : AH) : Option Int32 :=
  (xgr h0 v0 [14] 14).bind fun x1 =>
  (xai h0 x1 100 (1 : Int32)).bind fun x2 =>
  some (x2)
set_option maxHeartbeats 4000000 in
theorem ct_X8_mints {l : Launch} {D : XD} {v0 : Nat} {h0 : AH} {a : Int32} (hF : fM_mints v0 h0 = some a) : XCt l D yX8_mints (ws_ yX8_mints cX8_mints 1 (some .int)) 0 0 [xR v0] h0 (.inl (some (xI a))) h0 := by
  refine x_method (by decide) (Nat.le_of_ble_eq_true rfl) fun p e R s m args below meth c K hr hnm hex => ?_
  have K : XO p R s m args meth c D 1 h0 cX8_mints "FaceCoinsModel" 0 0 := K
  generalize hQ : XMQ below _ _ _ _ _ _ = Q
  refine (?_ : XF p l e R s m args below meth c D 1 h0 Q 0 [(0, xR v0)] [] h0 (fM_mints v0 h0) (fun z => XEnd below s D h0 (fun v => .inl (some (xI v))) Q (z, h0))) a hF hQ.symm
  unfold fM_mints
  refine x_aload_n (pc' := 1) K 0 dX8_mints_0 rfl rfl ?_
  refine x_getr (pc' := 4) K fg_14_14 (Or.inl (K.2.2.2.2.1 _ q1326)) (fun _ h9 => h9) dX8_mints_1 rfl (fun x1 => ?_)
  refine x_iconst (pc' := 5) (v := 1) K dX8_mints_4 rfl rfl ?_
  refine x_iald (pc' := 6) K dX8_mints_5 rfl (fun x2 => ?_)
  exact x_ro (C9 := XEnd below s D h0 (fun v => .inl (some (xI v))) Q) (x_iret K rfl hr dX8_mints_6)
/-! FaceCoinsModel.isMint(I)Z -/
noncomputable def fM_isMint (v0 : Nat) (v1 : Int32) (h0 : AH) : Option Int32 :=
  if v1 < 0 then (
    some ((0 : Int32)))
  else (
    (xck h0 v0 14 (fM_mints v0 h0)).bind fun x1 =>
    if x1 ≤ v1 then (
      some ((0 : Int32)))
    else (
      some ((1 : Int32))))
set_option maxHeartbeats 4000000 in
theorem ct_X8_isMint {l : Launch} {D : XD} {v0 : Nat} {v1 : Int32} {h0 : AH} {a : Int32} (hF : fM_isMint v0 v1 h0 = some a) : XCt l D yX8_isMint (ws_ yX8_isMint cX8_isMint 2 (some .boolean)) 1 20 [xR v0, xI v1] h0 (.inl (some (xI a))) h0 := by
  refine x_method (by decide) (Nat.le_of_ble_eq_true rfl) fun p e R s m args below meth c K hr hnm hex => ?_
  have K : XO p R s m args meth c D 2 h0 cX8_isMint "FaceCoinsModel" 1 20 := K
  generalize hQ : XMQ below _ _ _ _ _ _ = Q
  refine (?_ : XF p l e R s m args below meth c D 2 h0 Q 0 [(0, xR v0), (1, xI v1)] [] h0 (fM_isMint v0 v1 h0) (fun z => XEnd below s D h0 (fun v => .inl (some (xI v))) Q (z, h0))) a hF hQ.symm
  unfold fM_isMint
  refine x_iload_n (pc' := 1) K 1 dX8_isMint_0 rfl rfl ?_
  refine x_if_lt (tgt := 16) (pc' := 4) K dX8_isMint_1 rfl (by decide) ?_ ?_
  · refine x_iconst (pc' := 17) (v := 0) K dX8_isMint_16 rfl rfl ?_
    exact x_ro (C9 := XEnd below s D h0 (fun v => .inl (some (xI v))) Q) (x_zret K (Or.inl rfl) rfl hr dX8_isMint_17)
  · refine x_iload_n (pc' := 5) K 1 dX8_isMint_4 rfl rfl ?_
    refine x_aload_n (pc' := 6) K 0 dX8_isMint_5 rfl rfl ?_
    refine x_cVO (pc' := 9) (As := []) (en := (fun v => some (xI v))) (rest := [xI v1]) K (fun a hF => ct_X8_mints hF) rfl (by decide) q1622 q1624 qs58 q1625 q105 hy_X8_mints (Nat.le_of_ble_eq_true rfl) (Nat.le_of_ble_eq_true rfl) (Nat.le_of_ble_eq_true rfl) dX8_isMint_6 rfl (fun x1 => ?_)
    refine x_icmp_ge (tgt := 16) (pc' := 12) K dX8_isMint_9 rfl (by decide) ?_ ?_
    · refine x_iconst (pc' := 17) (v := 0) K dX8_isMint_16 rfl rfl ?_
      exact x_ro (C9 := XEnd below s D h0 (fun v => .inl (some (xI v))) Q) (x_zret K (Or.inl rfl) rfl hr dX8_isMint_17)
    · refine x_iconst (pc' := 13) (v := 1) K dX8_isMint_12 rfl rfl ?_
      refine x_goto (tgt := 17) K dX8_isMint_13 (by decide) ?_
      exact x_ro (C9 := XEnd below s D h0 (fun v => .inl (some (xI v))) Q) (x_zret K (Or.inr rfl) rfl hr dX8_isMint_17)
/-! FaceCoinsModel.ofMint(II)I -/
noncomputable def fM_ofMint (v0 : Nat) (v1 : Int32) (v2 : Int32) (h0 : AH) : Option Int32 :=
  (xgr h0 v0 [14] 14).bind fun x1 =>
  (xai h0 x1 100 (((32 : Int32) + ((3 : Int32) * v1)) + v2)).bind fun x2 =>
  some (x2)
set_option maxHeartbeats 4000000 in
theorem ct_X8_ofMint {l : Launch} {D : XD} {v0 : Nat} {v1 : Int32} {v2 : Int32} {h0 : AH} {a : Int32} (hF : fM_ofMint v0 v1 v2 h0 = some a) : XCt l D yX8_ofMint (ws_ yX8_ofMint cX8_ofMint 3 (some .int)) 0 0 [xR v0, xI v1, xI v2] h0 (.inl (some (xI a))) h0 := by
  refine x_method (by decide) (Nat.le_of_ble_eq_true rfl) fun p e R s m args below meth c K hr hnm hex => ?_
  have K : XO p R s m args meth c D 3 h0 cX8_ofMint "FaceCoinsModel" 0 0 := K
  generalize hQ : XMQ below _ _ _ _ _ _ = Q
  refine (?_ : XF p l e R s m args below meth c D 3 h0 Q 0 [(0, xR v0), (1, xI v1), (2, xI v2)] [] h0 (fM_ofMint v0 v1 v2 h0) (fun z => XEnd below s D h0 (fun v => .inl (some (xI v))) Q (z, h0))) a hF hQ.symm
  unfold fM_ofMint
  refine x_aload_n (pc' := 1) K 0 dX8_ofMint_0 rfl rfl ?_
  refine x_getr (pc' := 4) K fg_14_14 (Or.inl (K.2.2.2.2.1 _ q1326)) (fun _ h9 => h9) dX8_ofMint_1 rfl (fun x1 => ?_)
  refine x_bipush (pc' := 6) (v := 32) K dX8_ofMint_4 rfl (by decide) ?_
  refine x_iconst (pc' := 7) (v := 3) K dX8_ofMint_6 rfl rfl ?_
  refine x_iload_n (pc' := 8) K 1 dX8_ofMint_7 rfl rfl ?_
  refine x_imul (pc' := 9) K dX8_ofMint_8 rfl ?_
  refine x_iadd (pc' := 10) K dX8_ofMint_9 rfl ?_
  refine x_iload_n (pc' := 11) K 2 dX8_ofMint_10 rfl rfl ?_
  refine x_iadd (pc' := 12) K dX8_ofMint_11 rfl ?_
  refine x_iald (pc' := 13) K dX8_ofMint_12 rfl (fun x2 => ?_)
  exact x_ro (C9 := XEnd below s D h0 (fun v => .inl (some (xI v))) Q) (x_iret K rfl hr dX8_ofMint_13)
/-! FaceCoinsModel.mint(II)I -/
noncomputable def fM_mint_l48 (v0 : Nat) (v1 : Int32) (v3 : Int32) (v4 : Int32) (g : AH) : Option ((Nat × Int32 × Int32 × Int32) ⊕ Int32) :=
  (xgr g v0 [14] 14).bind fun x7 =>
  (xai g x7 100 (112 : Int32)).bind fun x8 =>
  if x8 ≤ v4 then (
    some (Sum.inr v3))
  else (
    (xgr g v0 [14] 14).bind fun x9 =>
    (xai g x9 100 (((1400 : Int32) + ((6 : Int32) * v4)) + (2 : Int32))).bind fun x10 =>
    if x10 = v1 then (
      some (Sum.inl (v0, v1, (v3 + 1), (v4 + 1))))
    else (
      some (Sum.inl (v0, v1, v3, (v4 + 1)))))
noncomputable def fM_mint_a89 (v3 : Int32) (g : AH) : Option (Int32 × AH) :=
  some ((v3, g))
noncomputable def fM_mint (v0 : Nat) (v1 : Int32) (v2 : Int32) (h0 : AH) : Option (Int32 × AH) :=
  xb2 (xck h0 v0 14 (fM_lay v0 h0)) fun x_ g1 =>
  (xck g1 v0 14 (fM_isMint v0 v1 g1)).bind fun x2 =>
  if x2 = 0 then (
    xb2 (xck g1 v0 14 (fM_refuse v0 g1)) fun x3 g4 =>
    some ((x3, g4)))
  else (
    (fM_isIn v2 (0 : Int32) (3 : Int32) g1).bind fun x5 =>
    if x5 = 0 then (
      xb2 (xck g1 v0 14 (fM_refuse v0 g1)) fun x12 g13 =>
      some ((x12, g13)))
    else (
      (xpi g1 v0 [14] 0 (0 : Int32)).bind fun g6 =>
      if (3 : Int32) ≤ v2 then (
        (xloop (fun s9 : (Nat × Int32 × Int32 × Int32) => fM_mint_l48 s9.1 s9.2.1 s9.2.2.1 s9.2.2.2 g6) (v0, v1, (0 : Int32), (0 : Int32))).bind (fun r9 : Int32 => fM_mint_a89 r9 g6))
      else (
        (xck g6 v0 14 (fM_ofMint v0 v1 v2 g6)).bind fun x11 =>
        some ((x11, g6)))))
set_option maxHeartbeats 4000000 in
theorem ct_X8_mint {l : Launch} {D : XD} {v0 : Nat} {v1 : Int32} {v2 : Int32} {h0 : AH} {a : Int32} {h1 : AH} (hF : fM_mint v0 v1 v2 h0 = some (a, h1)) : XCt l D yX8_mint (ws_ yX8_mint cX8_mint 5 (some .int)) 2 41 [xR v0, xI v1, xI v2] h0 (.inl (some (xI a))) h1 := by
  refine x_method (by decide) (Nat.le_of_ble_eq_true rfl) fun p e R s m args below meth c K hr hnm hex => ?_
  have K : XO p R s m args meth c D 5 h0 cX8_mint "FaceCoinsModel" 2 41 := K
  generalize hQ : XMQ below _ _ _ _ _ _ = Q
  have hL48 : ∀ (g : AH) (C1 : ((Nat × Int32 × Int32 × Int32) ⊕ Int32) → Prop) (hj1 : ∀ s9 : (Nat × Int32 × Int32 × Int32), C1 (Sum.inl s9) → XG p l e R s m args below meth c D 5 h0 Q 48 [(0, xR s9.1), (1, xI s9.2.1), (3, xI s9.2.2.1), (4, xI s9.2.2.2)] [] g) (he1 : ∀ r9 : Int32, C1 (Sum.inr r9) → XG p l e R s m args below meth c D 5 h0 Q 89 [(3, xI r9)] [] g) (v0 : Nat) (v1 : Int32) (v3 : Int32) (v4 : Int32), XF p l e R s m args below meth c D 5 h0 Q 48 [(0, xR v0), (1, xI v1), (3, xI v3), (4, xI v4)] [] g (fM_mint_l48 v0 v1 v3 v4 g) C1 := by
    intro g C1 hj1 he1
    intro v0 v1 v3 v4
    unfold fM_mint_l48
    refine x_iload (pc' := 50) K 3 dX8_mint_48 rfl rfl ?_
    refine x_aload_n (pc' := 51) K 0 dX8_mint_50 rfl rfl ?_
    refine x_getr (pc' := 54) K fg_14_14 (Or.inl (K.2.2.2.2.1 _ q1326)) (fun _ h9 => h9) dX8_mint_51 rfl (fun x7 => ?_)
    refine x_bipush (pc' := 56) (v := 112) K dX8_mint_54 rfl (by decide) ?_
    refine x_iald (pc' := 57) K dX8_mint_56 rfl (fun x8 => ?_)
    refine x_icmp_ge (tgt := 89) (pc' := 60) K dX8_mint_57 rfl (by decide) ?_ ?_
    · refine x_sub (lv' := [(3, xI v3)]) [2] rfl ?_
      exact x_jump (fun hz => he1 v3 hz)
    · refine x_aload_n (pc' := 61) K 0 dX8_mint_60 rfl rfl ?_
      refine x_getr (pc' := 64) K fg_14_14 (Or.inl (K.2.2.2.2.1 _ q1326)) (fun _ h9 => h9) dX8_mint_61 rfl (fun x9 => ?_)
      refine x_sipush (pc' := 67) (v := 1400) K dX8_mint_64 rfl (by decide) ?_
      refine x_bipush (pc' := 69) (v := 6) K dX8_mint_67 rfl (by decide) ?_
      refine x_iload (pc' := 71) K 3 dX8_mint_69 rfl rfl ?_
      refine x_imul (pc' := 72) K dX8_mint_71 rfl ?_
      refine x_iadd (pc' := 73) K dX8_mint_72 rfl ?_
      refine x_iconst (pc' := 74) (v := 2) K dX8_mint_73 rfl rfl ?_
      refine x_iadd (pc' := 75) K dX8_mint_74 rfl ?_
      refine x_iald (pc' := 76) K dX8_mint_75 rfl (fun x10 => ?_)
      refine x_iload_n (pc' := 77) K 1 dX8_mint_76 rfl rfl ?_
      refine x_icmp_ne (tgt := 83) (pc' := 80) K dX8_mint_77 rfl (by decide) ?_ ?_
      · refine x_iinc (pc' := 86) (y := 1) (lv' := [(4, xI (v4 + 1)), (0, xR v0), (1, xI v1), (3, xI v3)]) K 3 dX8_mint_83 rfl rfl (by decide) (by decide) rfl ?_
        refine x_goto (tgt := 48) K dX8_mint_86 (by decide) ?_
        refine x_sub (lv' := [(0, xR v0), (1, xI v1), (3, xI v3), (4, xI (v4 + 1))]) [1, 2, 3, 0] rfl ?_
        exact x_jump (fun hz => hj1 (v0, v1, v3, (v4 + 1)) hz)
      · refine x_iinc (pc' := 83) (y := 1) (lv' := [(3, xI (v3 + 1)), (0, xR v0), (1, xI v1), (4, xI v4)]) K 2 dX8_mint_80 rfl rfl (by decide) (by decide) rfl ?_
        refine x_iinc (pc' := 86) (y := 1) (lv' := [(4, xI (v4 + 1)), (3, xI (v3 + 1)), (0, xR v0), (1, xI v1)]) K 3 dX8_mint_83 rfl rfl (by decide) (by decide) rfl ?_
        refine x_goto (tgt := 48) K dX8_mint_86 (by decide) ?_
        refine x_sub (lv' := [(0, xR v0), (1, xI v1), (3, xI (v3 + 1)), (4, xI (v4 + 1))]) [2, 3, 1, 0] rfl ?_
        exact x_jump (fun hz => hj1 (v0, v1, (v3 + 1), (v4 + 1)) hz)
  have hA89_0 : ∀ (v3 : Int32) (g : AH), XF p l e R s m args below meth c D 5 h0 Q 89 [(3, xI v3)] [] g (fM_mint_a89 v3 g) (XEnd below s D h0 (fun v => .inl (some (xI v))) Q) := by
    intro v3 g
    unfold fM_mint_a89
    refine x_iload_n (pc' := 90) K 0 dX8_mint_89 rfl rfl ?_
    exact x_iret K rfl hr dX8_mint_90
  refine (?_ : XF p l e R s m args below meth c D 5 h0 Q 0 [(0, xR v0), (1, xI v1), (2, xI v2)] [] h0 (fM_mint v0 v1 v2 h0) (XEnd below s D h0 (fun v => .inl (some (xI v))) Q)) (a, h1) hF hQ.symm
  unfold fM_mint
  refine x_aload_n (pc' := 1) K 0 dX8_mint_0 rfl rfl ?_
  refine x_cV (pc' := 4) (As := []) (en := (fun _ => none)) (rest := []) K (fun a h1 hF => ct_X8_lay hF) rfl (by decide) q1479 q1481 qs31 q1482 q105 hy_X8_lay (Nat.le_of_ble_eq_true rfl) (Nat.le_of_ble_eq_true rfl) (Nat.le_of_ble_eq_true rfl) dX8_mint_1 rfl (fun x_ g1 => ?_)
  refine x_aload_n (pc' := 5) K 0 dX8_mint_4 rfl rfl ?_
  refine x_iload_n (pc' := 6) K 1 dX8_mint_5 rfl rfl ?_
  refine x_cVO (pc' := 9) (As := [xI v1]) (en := (fun v => some (xI v))) (rest := []) K (fun a hF => ct_X8_isMint hF) rfl (by decide) q1618 q1620 qs57 q1621 q105 hy_X8_isMint (Nat.le_of_ble_eq_true rfl) (Nat.le_of_ble_eq_true rfl) (Nat.le_of_ble_eq_true rfl) dX8_mint_6 rfl (fun x2 => ?_)
  refine x_if_eq (tgt := 21) (pc' := 12) K dX8_mint_9 rfl (by decide) ?_ ?_
  · refine x_aload_n (pc' := 22) K 0 dX8_mint_21 rfl rfl ?_
    refine x_cV (pc' := 25) (As := []) (en := (fun v => some (xI v))) (rest := []) K (fun a h1 hF => ct_X8_refuse hF) rfl (by decide) q1594 q1596 qs52 q1597 q105 hy_X8_refuse (Nat.le_of_ble_eq_true rfl) (Nat.le_of_ble_eq_true rfl) (Nat.le_of_ble_eq_true rfl) dX8_mint_22 rfl (fun x3 g4 => ?_)
    exact x_iret K rfl hr dX8_mint_25
  · refine x_iload_n (pc' := 13) K 2 dX8_mint_12 rfl rfl ?_
    refine x_iconst (pc' := 14) (v := 0) K dX8_mint_13 rfl rfl ?_
    refine x_iconst (pc' := 15) (v := 3) K dX8_mint_14 rfl rfl ?_
    refine x_cSO (pc' := 18) (As := [xI v2, xI (0 : Int32), xI (3 : Int32)]) (en := (fun v => some (xI v))) (rest := []) K (fun a hF => ct_X8_isIn hF) rfl q1552 q1553 q1554 q105 hy_X8_isIn (Nat.le_of_ble_eq_true rfl) (Nat.le_of_ble_eq_true rfl) (Nat.le_of_ble_eq_true rfl) dX8_mint_15 rfl (fun x5 => ?_)
    refine x_if_ne (tgt := 26) (pc' := 21) K dX8_mint_18 rfl (by decide) ?_ ?_
    · refine x_aload_n (pc' := 27) K 0 dX8_mint_26 rfl rfl ?_
      refine x_iconst (pc' := 28) (v := 0) K dX8_mint_27 rfl rfl ?_
      refine x_puti (pc' := 31) K fp_14_0 (Or.inl (K.2.2.2.2.1 _ q1312)) (fun _ h9 => h9) (Or.inl rfl) dX8_mint_28 rfl (fun g6 => ?_)
      refine x_iload_n (pc' := 32) K 2 dX8_mint_31 rfl rfl ?_
      refine x_iconst (pc' := 33) (v := 3) K dX8_mint_32 rfl rfl ?_
      refine x_icmp_ge (tgt := 43) (pc' := 36) K dX8_mint_33 rfl (by decide) ?_ ?_
      · refine x_iconst (pc' := 44) (v := 0) K dX8_mint_43 rfl rfl ?_
        refine x_istore_n (pc' := 45) (lv' := [(3, xI (0 : Int32)), (0, xR v0), (1, xI v1), (2, xI v2)]) K dX8_mint_44 rfl (by decide) rfl ?_
        refine x_iconst (pc' := 46) (v := 0) K dX8_mint_45 rfl rfl ?_
        refine x_istore (pc' := 48) (lv' := [(4, xI (0 : Int32)), (3, xI (0 : Int32)), (0, xR v0), (1, xI v1), (2, xI v2)]) K dX8_mint_46 rfl (by decide) rfl ?_
        refine x_sub (lv' := [(0, xR v0), (1, xI v1), (3, xI (0 : Int32)), (4, xI (0 : Int32))]) [2, 3, 1, 0] rfl ?_
        exact x_loop (pl := (fun s9 : (Nat × Int32 × Int32 × Int32) => [(0, xR s9.1), (1, xI s9.2.1), (3, xI s9.2.2.1), (4, xI s9.2.2.2)])) (ph := (fun s9 : (Nat × Int32 × Int32 × Int32) => g6)) (fun r9 : Int32 => XG p l e R s m args below meth c D 5 h0 Q 89 [(3, xI r9)] [] g6) (fun s9 => hL48 g6 _ (fun _ hz => hz) (fun _ hz => hz) s9.1 s9.2.1 s9.2.2.1 s9.2.2.2) (fun r9 x hx hc => hA89_0 r9 g6 x hx hc) (v0, v1, (0 : Int32), (0 : Int32))
      · refine x_aload_n (pc' := 37) K 0 dX8_mint_36 rfl rfl ?_
        refine x_iload_n (pc' := 38) K 1 dX8_mint_37 rfl rfl ?_
        refine x_iload_n (pc' := 39) K 2 dX8_mint_38 rfl rfl ?_
        refine x_cVO (pc' := 42) (As := [xI v1, xI v2]) (en := (fun v => some (xI v))) (rest := []) K (fun a hF => ct_X8_ofMint hF) rfl (by decide) q1626 q1628 qs59 q1629 q105 hy_X8_ofMint (Nat.le_of_ble_eq_true rfl) (Nat.le_of_ble_eq_true rfl) (Nat.le_of_ble_eq_true rfl) dX8_mint_39 rfl (fun x11 => ?_)
        exact x_iret K rfl hr dX8_mint_42
    · refine x_aload_n (pc' := 22) K 0 dX8_mint_21 rfl rfl ?_
      refine x_cV (pc' := 25) (As := []) (en := (fun v => some (xI v))) (rest := []) K (fun a h1 hF => ct_X8_refuse hF) rfl (by decide) q1594 q1596 qs52 q1597 q105 hy_X8_refuse (Nat.le_of_ble_eq_true rfl) (Nat.le_of_ble_eq_true rfl) (Nat.le_of_ble_eq_true rfl) dX8_mint_22 rfl (fun x12 g13 => ?_)
      exact x_iret K rfl hr dX8_mint_25
/-! FaceCoinsModel.isFull(I)Z -/
noncomputable def fM_isFull (v0 : Nat) (v1 : Int32) (h0 : AH) : Option Int32 :=
  (xgr h0 v0 [14] 14).bind fun x1 =>
  (xai h0 x1 100 (112 : Int32)).bind fun x2 =>
  if (x2 + v1) ≤ (500 : Int32) then (
    some ((0 : Int32)))
  else (
    some ((1 : Int32)))
set_option maxHeartbeats 4000000 in
theorem ct_X8_isFull {l : Launch} {D : XD} {v0 : Nat} {v1 : Int32} {h0 : AH} {a : Int32} (hF : fM_isFull v0 v1 h0 = some a) : XCt l D yX8_isFull (ws_ yX8_isFull cX8_isFull 2 (some .boolean)) 0 0 [xR v0, xI v1] h0 (.inl (some (xI a))) h0 := by
  refine x_method (by decide) (Nat.le_of_ble_eq_true rfl) fun p e R s m args below meth c K hr hnm hex => ?_
  have K : XO p R s m args meth c D 2 h0 cX8_isFull "FaceCoinsModel" 0 0 := K
  generalize hQ : XMQ below _ _ _ _ _ _ = Q
  refine (?_ : XF p l e R s m args below meth c D 2 h0 Q 0 [(0, xR v0), (1, xI v1)] [] h0 (fM_isFull v0 v1 h0) (fun z => XEnd below s D h0 (fun v => .inl (some (xI v))) Q (z, h0))) a hF hQ.symm
  unfold fM_isFull
  refine x_aload_n (pc' := 1) K 0 dX8_isFull_0 rfl rfl ?_
  refine x_getr (pc' := 4) K fg_14_14 (Or.inl (K.2.2.2.2.1 _ q1326)) (fun _ h9 => h9) dX8_isFull_1 rfl (fun x1 => ?_)
  refine x_bipush (pc' := 6) (v := 112) K dX8_isFull_4 rfl (by decide) ?_
  refine x_iald (pc' := 7) K dX8_isFull_6 rfl (fun x2 => ?_)
  refine x_iload_n (pc' := 8) K 1 dX8_isFull_7 rfl rfl ?_
  refine x_iadd (pc' := 9) K dX8_isFull_8 rfl ?_
  refine x_sipush (pc' := 12) (v := 500) K dX8_isFull_9 rfl (by decide) ?_
  refine x_icmp_le (tgt := 19) (pc' := 15) K dX8_isFull_12 rfl (by decide) ?_ ?_
  · refine x_iconst (pc' := 20) (v := 0) K dX8_isFull_19 rfl rfl ?_
    exact x_ro (C9 := XEnd below s D h0 (fun v => .inl (some (xI v))) Q) (x_zret K (Or.inl rfl) rfl hr dX8_isFull_20)
  · refine x_iconst (pc' := 16) (v := 1) K dX8_isFull_15 rfl rfl ?_
    refine x_goto (tgt := 20) K dX8_isFull_16 (by decide) ?_
    exact x_ro (C9 := XEnd below s D h0 (fun v => .inl (some (xI v))) Q) (x_zret K (Or.inr rfl) rfl hr dX8_isFull_20)
/-! FaceCoinsModel.snap()V -/
noncomputable def fM_snap_l53 (v0 : Nat) (v1 : Int32) (g : AH) : Option ((Nat × Int32 × AH) ⊕ (Nat × AH)) :=
  if (7900 : Int32) ≤ v1 then (
    some (Sum.inr (v0, g)))
  else (
    (xgr g v0 [14] 17).bind fun x2 =>
    (xgi g v0 [14] 23).bind fun x3 =>
    (xgr g v0 [14] 14).bind fun x4 =>
    (xai g x4 100 v1).bind fun x5 =>
    (xsi g x2 (((7900 : Int32) * x3) + v1) x5).bind fun g6 =>
    some (Sum.inl (v0, (v1 + 1), g6)))
noncomputable def fM_snap_a87 (v0 : Nat) (g : AH) : Option (Unit × AH) :=
  (xgi g v0 [14] 23).bind fun x7 =>
  (xpi g v0 [14] 23 (x7 + (1 : Int32))).bind fun g8 =>
  some (((), g8))
noncomputable def fM_snap_l13 (v0 : Nat) (v1 : Int32) (g : AH) : Option ((Nat × Int32 × AH) ⊕ (Nat × AH)) :=
  if (47400 : Int32) ≤ v1 then (
    some (Sum.inr (v0, g)))
  else (
    (xgr g v0 [14] 17).bind fun x9 =>
    (xgr g v0 [14] 17).bind fun x10 =>
    (xai g x10 100 v1).bind fun x11 =>
    (xsi g x9 (v1 - (7900 : Int32)) x11).bind fun g12 =>
    some (Sum.inl (v0, (v1 + 1), g12)))
noncomputable def fM_snap_a41 (v0 : Nat) (g : AH) : Option (Unit × AH) :=
  (xgi g v0 [14] 23).bind fun x13 =>
  (xpi g v0 [14] 23 (x13 - (1 : Int32))).bind fun g14 =>
  (xloop (fun s9 : (Nat × Int32 × AH) => fM_snap_l53 s9.1 s9.2.1 s9.2.2) (v0, (0 : Int32), g14)).bind (fun r9 : (Nat × AH) => fM_snap_a87 r9.1 r9.2)
noncomputable def fM_snap (v0 : Nat) (h0 : AH) : Option (Unit × AH) :=
  (xgi h0 v0 [14] 23).bind fun x1 =>
  if x1 = (6 : Int32) then (
    (xloop (fun s9 : (Nat × Int32 × AH) => fM_snap_l13 s9.1 s9.2.1 s9.2.2) (v0, (7900 : Int32), h0)).bind (fun r9 : (Nat × AH) => fM_snap_a41 r9.1 r9.2))
  else (
    (xloop (fun s9 : (Nat × Int32 × AH) => fM_snap_l53 s9.1 s9.2.1 s9.2.2) (v0, (0 : Int32), h0)).bind (fun r9 : (Nat × AH) => fM_snap_a87 r9.1 r9.2))
set_option maxHeartbeats 4000000 in
theorem ct_X8_snap {l : Launch} {D : XD} {v0 : Nat} {h0 : AH} {a : Unit} {h1 : AH} (hF : fM_snap v0 h0 = some (a, h1)) : XCt l D yX8_snap (ws_ yX8_snap cX8_snap 2 none) 0 0 [xR v0] h0 (.inl none) h1 := by
  refine x_method (by decide) (Nat.le_of_ble_eq_true rfl) fun p e R s m args below meth c K hr hnm hex => ?_
  have K : XO p R s m args meth c D 2 h0 cX8_snap "FaceCoinsModel" 0 0 := K
  generalize hQ : XMQ below _ _ _ _ _ _ = Q
  have hL53 : ∀ (C1 : ((Nat × Int32 × AH) ⊕ (Nat × AH)) → Prop) (hj1 : ∀ s9 : (Nat × Int32 × AH), C1 (Sum.inl s9) → XG p l e R s m args below meth c D 2 h0 Q 53 [(0, xR s9.1), (1, xI s9.2.1)] [] s9.2.2) (he1 : ∀ r9 : (Nat × AH), C1 (Sum.inr r9) → XG p l e R s m args below meth c D 2 h0 Q 87 [(0, xR r9.1)] [] r9.2) (v0 : Nat) (v1 : Int32) (g : AH), XF p l e R s m args below meth c D 2 h0 Q 53 [(0, xR v0), (1, xI v1)] [] g (fM_snap_l53 v0 v1 g) C1 := by
    intro C1 hj1 he1
    intro v0 v1 g
    unfold fM_snap_l53
    refine x_iload_n (pc' := 54) K 1 dX8_snap_53 rfl rfl ?_
    refine x_sipush (pc' := 57) (v := 7900) K dX8_snap_54 rfl (by decide) ?_
    refine x_icmp_ge (tgt := 87) (pc' := 60) K dX8_snap_57 rfl (by decide) ?_ ?_
    · refine x_sub (lv' := [(0, xR v0)]) [0] rfl ?_
      exact x_jump (fun hz => he1 (v0, g) hz)
    · refine x_aload_n (pc' := 61) K 0 dX8_snap_60 rfl rfl ?_
      refine x_getr (pc' := 64) K fg_14_17 (Or.inl (K.2.2.2.2.1 _ q1329)) (fun _ h9 => h9) dX8_snap_61 rfl (fun x2 => ?_)
      refine x_sipush (pc' := 67) (v := 7900) K dX8_snap_64 rfl (by decide) ?_
      refine x_aload_n (pc' := 68) K 0 dX8_snap_67 rfl rfl ?_
      refine x_geti (pc' := 71) K fg_14_23 (Or.inl (K.2.2.2.2.1 _ q1335)) (fun _ h9 => h9) dX8_snap_68 rfl (fun x3 => ?_)
      refine x_imul (pc' := 72) K dX8_snap_71 rfl ?_
      refine x_iload_n (pc' := 73) K 1 dX8_snap_72 rfl rfl ?_
      refine x_iadd (pc' := 74) K dX8_snap_73 rfl ?_
      refine x_aload_n (pc' := 75) K 0 dX8_snap_74 rfl rfl ?_
      refine x_getr (pc' := 78) K fg_14_14 (Or.inl (K.2.2.2.2.1 _ q1326)) (fun _ h9 => h9) dX8_snap_75 rfl (fun x4 => ?_)
      refine x_iload_n (pc' := 79) K 1 dX8_snap_78 rfl rfl ?_
      refine x_iald (pc' := 80) K dX8_snap_79 rfl (fun x5 => ?_)
      refine x_iast (pc' := 81) K dX8_snap_80 rfl (fun g6 => ?_)
      refine x_iinc (pc' := 84) (y := 1) (lv' := [(1, xI (v1 + 1)), (0, xR v0)]) K 1 dX8_snap_81 rfl rfl (by decide) (by decide) rfl ?_
      refine x_goto (tgt := 53) K dX8_snap_84 (by decide) ?_
      refine x_sub (lv' := [(0, xR v0), (1, xI (v1 + 1))]) [1, 0] rfl ?_
      exact x_jump (fun hz => hj1 (v0, (v1 + 1), g6) hz)
  have hA87_0 : ∀ (v0 : Nat) (g : AH), XF p l e R s m args below meth c D 2 h0 Q 87 [(0, xR v0)] [] g (fM_snap_a87 v0 g) (XEnd below s D h0 (fun _ => .inl none) Q) := by
    intro v0 g
    unfold fM_snap_a87
    refine x_aload_n (pc' := 88) K 0 dX8_snap_87 rfl rfl ?_
    refine x_dup (pc' := 89) K dX8_snap_88 rfl rfl ?_
    refine x_geti (pc' := 92) K fg_14_23 (Or.inl (K.2.2.2.2.1 _ q1335)) (fun _ h9 => h9) dX8_snap_89 rfl (fun x7 => ?_)
    refine x_iconst (pc' := 93) (v := 1) K dX8_snap_92 rfl rfl ?_
    refine x_iadd (pc' := 94) K dX8_snap_93 rfl ?_
    refine x_puti (pc' := 97) K fp_14_23 (Or.inl (K.2.2.2.2.1 _ q1335)) (fun _ h9 => h9) (Or.inl rfl) dX8_snap_94 rfl (fun g8 => ?_)
    exact x_vret K rfl hr dX8_snap_97
  have hL13 : ∀ (C1 : ((Nat × Int32 × AH) ⊕ (Nat × AH)) → Prop) (hj1 : ∀ s9 : (Nat × Int32 × AH), C1 (Sum.inl s9) → XG p l e R s m args below meth c D 2 h0 Q 13 [(0, xR s9.1), (1, xI s9.2.1)] [] s9.2.2) (he1 : ∀ r9 : (Nat × AH), C1 (Sum.inr r9) → XG p l e R s m args below meth c D 2 h0 Q 41 [(0, xR r9.1)] [] r9.2) (v0 : Nat) (v1 : Int32) (g : AH), XF p l e R s m args below meth c D 2 h0 Q 13 [(0, xR v0), (1, xI v1)] [] g (fM_snap_l13 v0 v1 g) C1 := by
    intro C1 hj1 he1
    intro v0 v1 g
    unfold fM_snap_l13
    refine x_iload_n (pc' := 14) K 1 dX8_snap_13 rfl rfl ?_
    refine x_ldc (pc' := 16) K q1311 dX8_snap_14 rfl ?_
    refine x_icmp_ge (tgt := 41) (pc' := 19) K dX8_snap_16 rfl (by decide) ?_ ?_
    · refine x_sub (lv' := [(0, xR v0)]) [0] rfl ?_
      exact x_jump (fun hz => he1 (v0, g) hz)
    · refine x_aload_n (pc' := 20) K 0 dX8_snap_19 rfl rfl ?_
      refine x_getr (pc' := 23) K fg_14_17 (Or.inl (K.2.2.2.2.1 _ q1329)) (fun _ h9 => h9) dX8_snap_20 rfl (fun x9 => ?_)
      refine x_iload_n (pc' := 24) K 1 dX8_snap_23 rfl rfl ?_
      refine x_sipush (pc' := 27) (v := 7900) K dX8_snap_24 rfl (by decide) ?_
      refine x_isub (pc' := 28) K dX8_snap_27 rfl ?_
      refine x_aload_n (pc' := 29) K 0 dX8_snap_28 rfl rfl ?_
      refine x_getr (pc' := 32) K fg_14_17 (Or.inl (K.2.2.2.2.1 _ q1329)) (fun _ h9 => h9) dX8_snap_29 rfl (fun x10 => ?_)
      refine x_iload_n (pc' := 33) K 1 dX8_snap_32 rfl rfl ?_
      refine x_iald (pc' := 34) K dX8_snap_33 rfl (fun x11 => ?_)
      refine x_iast (pc' := 35) K dX8_snap_34 rfl (fun g12 => ?_)
      refine x_iinc (pc' := 38) (y := 1) (lv' := [(1, xI (v1 + 1)), (0, xR v0)]) K 1 dX8_snap_35 rfl rfl (by decide) (by decide) rfl ?_
      refine x_goto (tgt := 13) K dX8_snap_38 (by decide) ?_
      refine x_sub (lv' := [(0, xR v0), (1, xI (v1 + 1))]) [1, 0] rfl ?_
      exact x_jump (fun hz => hj1 (v0, (v1 + 1), g12) hz)
  have hA41_0 : ∀ (v0 : Nat) (g : AH), XF p l e R s m args below meth c D 2 h0 Q 41 [(0, xR v0)] [] g (fM_snap_a41 v0 g) (XEnd below s D h0 (fun _ => .inl none) Q) := by
    intro v0 g
    unfold fM_snap_a41
    refine x_aload_n (pc' := 42) K 0 dX8_snap_41 rfl rfl ?_
    refine x_dup (pc' := 43) K dX8_snap_42 rfl rfl ?_
    refine x_geti (pc' := 46) K fg_14_23 (Or.inl (K.2.2.2.2.1 _ q1335)) (fun _ h9 => h9) dX8_snap_43 rfl (fun x13 => ?_)
    refine x_iconst (pc' := 47) (v := 1) K dX8_snap_46 rfl rfl ?_
    refine x_isub (pc' := 48) K dX8_snap_47 rfl ?_
    refine x_puti (pc' := 51) K fp_14_23 (Or.inl (K.2.2.2.2.1 _ q1335)) (fun _ h9 => h9) (Or.inl rfl) dX8_snap_48 rfl (fun g14 => ?_)
    refine x_iconst (pc' := 52) (v := 0) K dX8_snap_51 rfl rfl ?_
    refine x_istore_n (pc' := 53) (lv' := [(1, xI (0 : Int32)), (0, xR v0)]) K dX8_snap_52 rfl (by decide) rfl ?_
    refine x_sub (lv' := [(0, xR v0), (1, xI (0 : Int32))]) [1, 0] rfl ?_
    exact x_loop (pl := (fun s9 : (Nat × Int32 × AH) => [(0, xR s9.1), (1, xI s9.2.1)])) (ph := (fun s9 : (Nat × Int32 × AH) => s9.2.2)) (fun r9 : (Nat × AH) => XG p l e R s m args below meth c D 2 h0 Q 87 [(0, xR r9.1)] [] r9.2) (fun s9 => hL53 _ (fun _ hz => hz) (fun _ hz => hz) s9.1 s9.2.1 s9.2.2) (fun r9 x hx hc => hA87_0 r9.1 r9.2 x hx hc) (v0, (0 : Int32), g14)
  refine (?_ : XF p l e R s m args below meth c D 2 h0 Q 0 [(0, xR v0)] [] h0 (fM_snap v0 h0) (XEnd below s D h0 (fun _ => .inl none) Q)) (a, h1) hF hQ.symm
  unfold fM_snap
  refine x_aload_n (pc' := 1) K 0 dX8_snap_0 rfl rfl ?_
  refine x_geti (pc' := 4) K fg_14_23 (Or.inl (K.2.2.2.2.1 _ q1335)) (fun _ h9 => h9) dX8_snap_1 rfl (fun x1 => ?_)
  refine x_bipush (pc' := 6) (v := 6) K dX8_snap_4 rfl (by decide) ?_
  refine x_icmp_ne (tgt := 51) (pc' := 9) K dX8_snap_6 rfl (by decide) ?_ ?_
  · refine x_iconst (pc' := 52) (v := 0) K dX8_snap_51 rfl rfl ?_
    refine x_istore_n (pc' := 53) (lv' := [(1, xI (0 : Int32)), (0, xR v0)]) K dX8_snap_52 rfl (by decide) rfl ?_
    refine x_sub (lv' := [(0, xR v0), (1, xI (0 : Int32))]) [1, 0] rfl ?_
    exact x_loop (pl := (fun s9 : (Nat × Int32 × AH) => [(0, xR s9.1), (1, xI s9.2.1)])) (ph := (fun s9 : (Nat × Int32 × AH) => s9.2.2)) (fun r9 : (Nat × AH) => XG p l e R s m args below meth c D 2 h0 Q 87 [(0, xR r9.1)] [] r9.2) (fun s9 => hL53 _ (fun _ hz => hz) (fun _ hz => hz) s9.1 s9.2.1 s9.2.2) (fun r9 x hx hc => hA87_0 r9.1 r9.2 x hx hc) (v0, (0 : Int32), h0)
  · refine x_sipush (pc' := 12) (v := 7900) K dX8_snap_9 rfl (by decide) ?_
    refine x_istore_n (pc' := 13) (lv' := [(1, xI (7900 : Int32)), (0, xR v0)]) K dX8_snap_12 rfl (by decide) rfl ?_
    refine x_sub (lv' := [(0, xR v0), (1, xI (7900 : Int32))]) [1, 0] rfl ?_
    exact x_loop (pl := (fun s9 : (Nat × Int32 × AH) => [(0, xR s9.1), (1, xI s9.2.1)])) (ph := (fun s9 : (Nat × Int32 × AH) => s9.2.2)) (fun r9 : (Nat × AH) => XG p l e R s m args below meth c D 2 h0 Q 41 [(0, xR r9.1)] [] r9.2) (fun s9 => hL13 _ (fun _ hz => hz) (fun _ hz => hz) s9.1 s9.2.1 s9.2.2) (fun r9 x hx hc => hA41_0 r9.1 r9.2 x hx hc) (v0, (7900 : Int32), h0)
/-! FaceCoinsModel.strike(IIIII)V -/
noncomputable def fM_strike_l49 (v0 : Nat) (v1 : Int32) (v2 : Int32) (v3 : Int32) (v4 : Int32) (v5 : Int32) (v6 : Int32) (v8 : Int32) (v9 : Int32) (g : AH) : Option ((Nat × Int32 × Int32 × Int32 × Int32 × Int32 × Int32 × Int32 × Int32 × AH) ⊕ (Nat × Int32 × Int32 × Int32 × Int32 × Int32 × Int32 × Int32 × AH)) :=
  (xgr g v0 [14] 14).bind fun x8 =>
  (xai g x8 100 (v6 + (3 : Int32))).bind fun x9 =>
  if x9 ≤ v9 then (
    some (Sum.inr (v0, v1, v2, v3, v4, v5, v6, v8, g)))
  else (
    (xgr g v0 [14] 14).bind fun x10 =>
    (xai g x10 100 (((v6 + (4 : Int32)) + ((3 : Int32) * v9)) + (1 : Int32))).bind fun x11 =>
    (xck g v0 14 (fM_ofMint v0 v3 (1 : Int32) g)).bind fun x12 =>
    if 0 < (x11 - x12) then (
      (xgr g v0 [14] 14).bind fun x13 =>
      (xgr g v0 [14] 14).bind fun x14 =>
      (xai g x14 100 ((v6 + (4 : Int32)) + ((3 : Int32) * v9))).bind fun x15 =>
      (xsi g x13 ((v6 + (4 : Int32)) + ((3 : Int32) * v8)) x15).bind fun g16 =>
      (xgr g16 v0 [14] 14).bind fun x17 =>
      (xsi g16 x17 (((v6 + (4 : Int32)) + ((3 : Int32) * v8)) + (1 : Int32)) (x11 - x12)).bind fun g18 =>
      (xgr g18 v0 [14] 14).bind fun x19 =>
      (xgr g18 v0 [14] 14).bind fun x20 =>
      (xai g18 x20 100 (((v6 + (4 : Int32)) + ((3 : Int32) * v9)) + (2 : Int32))).bind fun x21 =>
      (xsi g18 x19 (((v6 + (4 : Int32)) + ((3 : Int32) * v8)) + (2 : Int32)) x21).bind fun g22 =>
      some (Sum.inl (v0, v1, v2, v3, v4, v5, v6, (v8 + 1), (v9 + 1), g22)))
    else (
      some (Sum.inl (v0, v1, v2, v3, v4, v5, v6, v8, (v9 + 1), g))))
noncomputable def fM_strike_l175 (v0 : Nat) (v1 : Int32) (v2 : Int32) (v3 : Int32) (v4 : Int32) (v5 : Int32) (v6 : Int32) (v8 : Int32) (v9 : Int32) (v10 : Int32) (g : AH) : Option ((Nat × Int32 × Int32 × Int32 × Int32 × Int32 × Int32 × Int32 × Int32 × Int32 × AH) ⊕ (Nat × Int32 × Int32 × Int32 × Int32 × Int32 × Int32 × Int32 × Int32 × AH)) :=
  if (3 : Int32) ≤ v10 then (
    some (Sum.inr (v0, v1, v2, v3, v4, v5, v6, v8, v9, g)))
  else (
    (xgr g v0 [14] 14).bind fun x23 =>
    (xgr g v0 [14] 14).bind fun x24 =>
    (xai g x24 100 (((v6 + (4 : Int32)) + ((3 : Int32) * (v9 - (1 : Int32)))) + v10)).bind fun x25 =>
    (xsi g x23 (((v6 + (4 : Int32)) + ((3 : Int32) * v9)) + v10) x25).bind fun g26 =>
    some (Sum.inl (v0, v1, v2, v3, v4, v5, v6, v8, v9, (v10 + 1), g26)))
noncomputable def fM_strike_a223_167 (v0 : Nat) (v1 : Int32) (v2 : Int32) (v3 : Int32) (v4 : Int32) (v5 : Int32) (v6 : Int32) (v8 : Int32) (v9 : Int32) (g : AH) : Option ((Nat × Int32 × Int32 × Int32 × Int32 × Int32 × Int32 × Int32 × Int32 × AH) ⊕ (Nat × Int32 × Int32 × Int32 × Int32 × Int32 × Int32 × Int32 × AH)) :=
  some (Sum.inl (v0, v1, v2, v3, v4, v5, v6, v8, (v9 + (-1)), g))
noncomputable def fM_strike_l167 (v0 : Nat) (v1 : Int32) (v2 : Int32) (v3 : Int32) (v4 : Int32) (v5 : Int32) (v6 : Int32) (v8 : Int32) (v9 : Int32) (g : AH) : Option ((Nat × Int32 × Int32 × Int32 × Int32 × Int32 × Int32 × Int32 × Int32 × AH) ⊕ (Nat × Int32 × Int32 × Int32 × Int32 × Int32 × Int32 × Int32 × AH)) :=
  if v9 ≤ 0 then (
    some (Sum.inr (v0, v1, v2, v3, v4, v5, v6, v8, g)))
  else (
    (xloop (fun s9 : (Nat × Int32 × Int32 × Int32 × Int32 × Int32 × Int32 × Int32 × Int32 × Int32 × AH) => fM_strike_l175 s9.1 s9.2.1 s9.2.2.1 s9.2.2.2.1 s9.2.2.2.2.1 s9.2.2.2.2.2.1 s9.2.2.2.2.2.2.1 s9.2.2.2.2.2.2.2.1 s9.2.2.2.2.2.2.2.2.1 s9.2.2.2.2.2.2.2.2.2.1 s9.2.2.2.2.2.2.2.2.2.2) (v0, v1, v2, v3, v4, v5, v6, v8, v9, (0 : Int32), g)).bind (fun r9 : (Nat × Int32 × Int32 × Int32 × Int32 × Int32 × Int32 × Int32 × Int32 × AH) => fM_strike_a223_167 r9.1 r9.2.1 r9.2.2.1 r9.2.2.2.1 r9.2.2.2.2.1 r9.2.2.2.2.2.1 r9.2.2.2.2.2.2.1 r9.2.2.2.2.2.2.2.1 r9.2.2.2.2.2.2.2.2.1 r9.2.2.2.2.2.2.2.2.2))
noncomputable def fM_strike_a229 (v0 : Nat) (v1 : Int32) (v2 : Int32) (v3 : Int32) (v4 : Int32) (v5 : Int32) (v6 : Int32) (v8 : Int32) (g : AH) : Option (Unit × AH) :=
  (xgr g v0 [14] 14).bind fun x27 =>
  (xsi g x27 (v6 + (4 : Int32)) v2).bind fun g28 =>
  (xgr g28 v0 [14] 14).bind fun x29 =>
  (xsi g28 x29 ((v6 + (4 : Int32)) + (1 : Int32)) (9 : Int32)).bind fun g30 =>
  (xgr g30 v0 [14] 14).bind fun x31 =>
  (xgr g30 v0 [14] 14).bind fun x32 =>
  (xai g30 x32 100 (112 : Int32)).bind fun x33 =>
  (xsi g30 x31 ((v6 + (4 : Int32)) + (2 : Int32)) x33).bind fun g34 =>
  (xgr g34 v0 [14] 14).bind fun x35 =>
  (xsi g34 x35 (v6 + (3 : Int32)) (v8 + (1 : Int32))).bind fun g36 =>
  (xgr g36 v0 [14] 14).bind fun x37 =>
  (xai g36 x37 100 (v6 + (2 : Int32))).bind fun x38 =>
  (xsi g36 x37 (v6 + (2 : Int32)) (x38 + (1 : Int32))).bind fun g39 =>
  (xgr g39 v0 [14] 14).bind fun x40 =>
  (xai g39 x40 100 (112 : Int32)).bind fun x41 =>
  (xgr g39 v0 [14] 14).bind fun x42 =>
  (xsi g39 x42 ((1400 : Int32) + ((6 : Int32) * x41)) v1).bind fun g43 =>
  (xgr g43 v0 [14] 14).bind fun x44 =>
  (xsi g43 x44 (((1400 : Int32) + ((6 : Int32) * x41)) + (1 : Int32)) v2).bind fun g45 =>
  (xgr g45 v0 [14] 14).bind fun x46 =>
  (xsi g45 x46 (((1400 : Int32) + ((6 : Int32) * x41)) + (2 : Int32)) v3).bind fun g47 =>
  (xgr g47 v0 [14] 14).bind fun x48 =>
  (xgr g47 v0 [14] 14).bind fun x49 =>
  (xai g47 x49 100 (109 : Int32)).bind fun x50 =>
  (xsi g47 x48 (((1400 : Int32) + ((6 : Int32) * x41)) + (3 : Int32)) x50).bind fun g51 =>
  (xgr g51 v0 [14] 14).bind fun x52 =>
  (xsi g51 x52 (((1400 : Int32) + ((6 : Int32) * x41)) + (4 : Int32)) v4).bind fun g53 =>
  (xgr g53 v0 [14] 14).bind fun x54 =>
  (xsi g53 x54 (((1400 : Int32) + ((6 : Int32) * x41)) + (5 : Int32)) v5).bind fun g55 =>
  (xgr g55 v0 [14] 14).bind fun x56 =>
  (xai g55 x56 100 (112 : Int32)).bind fun x57 =>
  (xsi g55 x56 (112 : Int32) (x57 + (1 : Int32))).bind fun g58 =>
  some (((), g58))
noncomputable def fM_strike_a163 (v0 : Nat) (v1 : Int32) (v2 : Int32) (v3 : Int32) (v4 : Int32) (v5 : Int32) (v6 : Int32) (v8 : Int32) (g : AH) : Option (Unit × AH) :=
  (xloop (fun s9 : (Nat × Int32 × Int32 × Int32 × Int32 × Int32 × Int32 × Int32 × Int32 × AH) => fM_strike_l167 s9.1 s9.2.1 s9.2.2.1 s9.2.2.2.1 s9.2.2.2.2.1 s9.2.2.2.2.2.1 s9.2.2.2.2.2.2.1 s9.2.2.2.2.2.2.2.1 s9.2.2.2.2.2.2.2.2.1 s9.2.2.2.2.2.2.2.2.2) (v0, v1, v2, v3, v4, v5, v6, v8, v8, g)).bind (fun r9 : (Nat × Int32 × Int32 × Int32 × Int32 × Int32 × Int32 × Int32 × AH) => fM_strike_a229 r9.1 r9.2.1 r9.2.2.1 r9.2.2.2.1 r9.2.2.2.2.1 r9.2.2.2.2.2.1 r9.2.2.2.2.2.2.1 r9.2.2.2.2.2.2.2.1 r9.2.2.2.2.2.2.2.2)
noncomputable def fM_strike (v0 : Nat) (v1 : Int32) (v2 : Int32) (v3 : Int32) (v4 : Int32) (v5 : Int32) (h0 : AH) : Option (Unit × AH) :=
  (xck h0 v0 14 (fM_ofMint v0 v3 (0 : Int32) h0)).bind fun x1 =>
  (xgr h0 v0 [14] 14).bind fun x2 =>
  (xai h0 x2 100 (((120 : Int32) + ((32 : Int32) * v1)) + (0 : Int32))).bind fun x3 =>
  (xsi h0 x2 (((120 : Int32) + ((32 : Int32) * v1)) + (0 : Int32)) (x3 - x1)).bind fun g4 =>
  (xgr g4 v0 [14] 14).bind fun x5 =>
  (xai g4 x5 100 (115 : Int32)).bind fun x6 =>
  (xsi g4 x5 (115 : Int32) (x6 + x1)).bind fun g7 =>
  (xloop (fun s9 : (Nat × Int32 × Int32 × Int32 × Int32 × Int32 × Int32 × Int32 × Int32 × AH) => fM_strike_l49 s9.1 s9.2.1 s9.2.2.1 s9.2.2.2.1 s9.2.2.2.2.1 s9.2.2.2.2.2.1 s9.2.2.2.2.2.2.1 s9.2.2.2.2.2.2.2.1 s9.2.2.2.2.2.2.2.2.1 s9.2.2.2.2.2.2.2.2.2) (v0, v1, v2, v3, v4, v5, ((120 : Int32) + ((32 : Int32) * v1)), (0 : Int32), (0 : Int32), g7)).bind (fun r9 : (Nat × Int32 × Int32 × Int32 × Int32 × Int32 × Int32 × Int32 × AH) => fM_strike_a163 r9.1 r9.2.1 r9.2.2.1 r9.2.2.2.1 r9.2.2.2.2.1 r9.2.2.2.2.2.1 r9.2.2.2.2.2.2.1 r9.2.2.2.2.2.2.2.1 r9.2.2.2.2.2.2.2.2)
set_option maxHeartbeats 4000000 in
theorem ct_X8_strike {l : Launch} {D : XD} {v0 : Nat} {v1 : Int32} {v2 : Int32} {v3 : Int32} {v4 : Int32} {v5 : Int32} {h0 : AH} {a : Unit} {h1 : AH} (hF : fM_strike v0 v1 v2 v3 v4 v5 h0 = some (a, h1)) : XCt l D yX8_strike (ws_ yX8_strike cX8_strike 13 none) 1 22 [xR v0, xI v1, xI v2, xI v3, xI v4, xI v5] h0 (.inl none) h1 := by
  refine x_method (by decide) (Nat.le_of_ble_eq_true rfl) fun p e R s m args below meth c K hr hnm hex => ?_
  have K : XO p R s m args meth c D 13 h0 cX8_strike "FaceCoinsModel" 1 22 := K
  generalize hQ : XMQ below _ _ _ _ _ _ = Q
  have hL49 : ∀ (C1 : ((Nat × Int32 × Int32 × Int32 × Int32 × Int32 × Int32 × Int32 × Int32 × AH) ⊕ (Nat × Int32 × Int32 × Int32 × Int32 × Int32 × Int32 × Int32 × AH)) → Prop) (hj1 : ∀ s9 : (Nat × Int32 × Int32 × Int32 × Int32 × Int32 × Int32 × Int32 × Int32 × AH), C1 (Sum.inl s9) → XG p l e R s m args below meth c D 13 h0 Q 49 [(0, xR s9.1), (1, xI s9.2.1), (2, xI s9.2.2.1), (3, xI s9.2.2.2.1), (4, xI s9.2.2.2.2.1), (5, xI s9.2.2.2.2.2.1), (6, xI s9.2.2.2.2.2.2.1), (8, xI s9.2.2.2.2.2.2.2.1), (9, xI s9.2.2.2.2.2.2.2.2.1)] [] s9.2.2.2.2.2.2.2.2.2) (he1 : ∀ r9 : (Nat × Int32 × Int32 × Int32 × Int32 × Int32 × Int32 × Int32 × AH), C1 (Sum.inr r9) → XG p l e R s m args below meth c D 13 h0 Q 163 [(0, xR r9.1), (1, xI r9.2.1), (2, xI r9.2.2.1), (3, xI r9.2.2.2.1), (4, xI r9.2.2.2.2.1), (5, xI r9.2.2.2.2.2.1), (6, xI r9.2.2.2.2.2.2.1), (8, xI r9.2.2.2.2.2.2.2.1)] [] r9.2.2.2.2.2.2.2.2) (v0 : Nat) (v1 : Int32) (v2 : Int32) (v3 : Int32) (v4 : Int32) (v5 : Int32) (v6 : Int32) (v8 : Int32) (v9 : Int32) (g : AH), XF p l e R s m args below meth c D 13 h0 Q 49 [(0, xR v0), (1, xI v1), (2, xI v2), (3, xI v3), (4, xI v4), (5, xI v5), (6, xI v6), (8, xI v8), (9, xI v9)] [] g (fM_strike_l49 v0 v1 v2 v3 v4 v5 v6 v8 v9 g) C1 := by
    intro C1 hj1 he1
    intro v0 v1 v2 v3 v4 v5 v6 v8 v9 g
    unfold fM_strike_l49
    refine x_iload (pc' := 51) K 8 dX8_strike_49 rfl rfl ?_
    refine x_aload_n (pc' := 52) K 0 dX8_strike_51 rfl rfl ?_
    refine x_getr (pc' := 55) K fg_14_14 (Or.inl (K.2.2.2.2.1 _ q1326)) (fun _ h9 => h9) dX8_strike_52 rfl (fun x8 => ?_)
    refine x_iload (pc' := 57) K 6 dX8_strike_55 rfl rfl ?_
    refine x_iconst (pc' := 58) (v := 3) K dX8_strike_57 rfl rfl ?_
    refine x_iadd (pc' := 59) K dX8_strike_58 rfl ?_
    refine x_iald (pc' := 60) K dX8_strike_59 rfl (fun x9 => ?_)
    refine x_icmp_ge (tgt := 163) (pc' := 63) K dX8_strike_60 rfl (by decide) ?_ ?_
    · refine x_sub (lv' := [(0, xR v0), (1, xI v1), (2, xI v2), (3, xI v3), (4, xI v4), (5, xI v5), (6, xI v6), (8, xI v8)]) [0, 1, 2, 3, 4, 5, 6, 7] rfl ?_
      exact x_jump (fun hz => he1 (v0, v1, v2, v3, v4, v5, v6, v8, g) hz)
    · refine x_iload (pc' := 65) K 6 dX8_strike_63 rfl rfl ?_
      refine x_iconst (pc' := 66) (v := 4) K dX8_strike_65 rfl rfl ?_
      refine x_iadd (pc' := 67) K dX8_strike_66 rfl ?_
      refine x_iconst (pc' := 68) (v := 3) K dX8_strike_67 rfl rfl ?_
      refine x_iload (pc' := 70) K 8 dX8_strike_68 rfl rfl ?_
      refine x_imul (pc' := 71) K dX8_strike_70 rfl ?_
      refine x_iadd (pc' := 72) K dX8_strike_71 rfl ?_
      refine x_istore (pc' := 74) (lv' := [(10, xI ((v6 + (4 : Int32)) + ((3 : Int32) * v9))), (0, xR v0), (1, xI v1), (2, xI v2), (3, xI v3), (4, xI v4), (5, xI v5), (6, xI v6), (8, xI v8), (9, xI v9)]) K dX8_strike_72 rfl (by decide) rfl ?_
      refine x_aload_n (pc' := 75) K 1 dX8_strike_74 rfl rfl ?_
      refine x_getr (pc' := 78) K fg_14_14 (Or.inl (K.2.2.2.2.1 _ q1326)) (fun _ h9 => h9) dX8_strike_75 rfl (fun x10 => ?_)
      refine x_iload (pc' := 80) K 0 dX8_strike_78 rfl rfl ?_
      refine x_iconst (pc' := 81) (v := 1) K dX8_strike_80 rfl rfl ?_
      refine x_iadd (pc' := 82) K dX8_strike_81 rfl ?_
      refine x_iald (pc' := 83) K dX8_strike_82 rfl (fun x11 => ?_)
      refine x_aload_n (pc' := 84) K 1 dX8_strike_83 rfl rfl ?_
      refine x_iload_n (pc' := 85) K 4 dX8_strike_84 rfl rfl ?_
      refine x_iconst (pc' := 86) (v := 1) K dX8_strike_85 rfl rfl ?_
      refine x_cVO (pc' := 89) (As := [xI v3, xI (1 : Int32)]) (en := (fun v => some (xI v))) (rest := [xI x11]) K (fun a hF => ct_X8_ofMint hF) rfl (by decide) q1626 q1628 qs59 q1629 q105 hy_X8_ofMint (Nat.le_of_ble_eq_true rfl) (Nat.le_of_ble_eq_true rfl) (Nat.le_of_ble_eq_true rfl) dX8_strike_86 rfl (fun x12 => ?_)
      refine x_isub (pc' := 90) K dX8_strike_89 rfl ?_
      refine x_istore (pc' := 92) (lv' := [(11, xI (x11 - x12)), (10, xI ((v6 + (4 : Int32)) + ((3 : Int32) * v9))), (0, xR v0), (1, xI v1), (2, xI v2), (3, xI v3), (4, xI v4), (5, xI v5), (6, xI v6), (8, xI v8), (9, xI v9)]) K dX8_strike_90 rfl (by decide) rfl ?_
      refine x_iload (pc' := 94) K 0 dX8_strike_92 rfl rfl ?_
      refine x_if_gt (tgt := 100) (pc' := 97) K dX8_strike_94 rfl (by decide) ?_ ?_
      · refine x_iload (pc' := 102) K 8 dX8_strike_100 rfl rfl ?_
        refine x_iconst (pc' := 103) (v := 4) K dX8_strike_102 rfl rfl ?_
        refine x_iadd (pc' := 104) K dX8_strike_103 rfl ?_
        refine x_iconst (pc' := 105) (v := 3) K dX8_strike_104 rfl rfl ?_
        refine x_iload (pc' := 107) K 9 dX8_strike_105 rfl rfl ?_
        refine x_imul (pc' := 108) K dX8_strike_107 rfl ?_
        refine x_iadd (pc' := 109) K dX8_strike_108 rfl ?_
        refine x_istore (pc' := 111) (lv' := [(12, xI ((v6 + (4 : Int32)) + ((3 : Int32) * v8))), (11, xI (x11 - x12)), (10, xI ((v6 + (4 : Int32)) + ((3 : Int32) * v9))), (0, xR v0), (1, xI v1), (2, xI v2), (3, xI v3), (4, xI v4), (5, xI v5), (6, xI v6), (8, xI v8), (9, xI v9)]) K dX8_strike_109 rfl (by decide) rfl ?_
        refine x_aload_n (pc' := 112) K 3 dX8_strike_111 rfl rfl ?_
        refine x_getr (pc' := 115) K fg_14_14 (Or.inl (K.2.2.2.2.1 _ q1326)) (fun _ h9 => h9) dX8_strike_112 rfl (fun x13 => ?_)
        refine x_iload (pc' := 117) K 0 dX8_strike_115 rfl rfl ?_
        refine x_aload_n (pc' := 118) K 3 dX8_strike_117 rfl rfl ?_
        refine x_getr (pc' := 121) K fg_14_14 (Or.inl (K.2.2.2.2.1 _ q1326)) (fun _ h9 => h9) dX8_strike_118 rfl (fun x14 => ?_)
        refine x_iload (pc' := 123) K 2 dX8_strike_121 rfl rfl ?_
        refine x_iald (pc' := 124) K dX8_strike_123 rfl (fun x15 => ?_)
        refine x_iast (pc' := 125) K dX8_strike_124 rfl (fun g16 => ?_)
        refine x_aload_n (pc' := 126) K 3 dX8_strike_125 rfl rfl ?_
        refine x_getr (pc' := 129) K fg_14_14 (Or.inl (K.2.2.2.2.1 _ q1326)) (fun _ h9 => h9) dX8_strike_126 rfl (fun x17 => ?_)
        refine x_iload (pc' := 131) K 0 dX8_strike_129 rfl rfl ?_
        refine x_iconst (pc' := 132) (v := 1) K dX8_strike_131 rfl rfl ?_
        refine x_iadd (pc' := 133) K dX8_strike_132 rfl ?_
        refine x_iload (pc' := 135) K 1 dX8_strike_133 rfl rfl ?_
        refine x_iast (pc' := 136) K dX8_strike_135 rfl (fun g18 => ?_)
        refine x_aload_n (pc' := 137) K 3 dX8_strike_136 rfl rfl ?_
        refine x_getr (pc' := 140) K fg_14_14 (Or.inl (K.2.2.2.2.1 _ q1326)) (fun _ h9 => h9) dX8_strike_137 rfl (fun x19 => ?_)
        refine x_iload (pc' := 142) K 0 dX8_strike_140 rfl rfl ?_
        refine x_iconst (pc' := 143) (v := 2) K dX8_strike_142 rfl rfl ?_
        refine x_iadd (pc' := 144) K dX8_strike_143 rfl ?_
        refine x_aload_n (pc' := 145) K 3 dX8_strike_144 rfl rfl ?_
        refine x_getr (pc' := 148) K fg_14_14 (Or.inl (K.2.2.2.2.1 _ q1326)) (fun _ h9 => h9) dX8_strike_145 rfl (fun x20 => ?_)
        refine x_iload (pc' := 150) K 2 dX8_strike_148 rfl rfl ?_
        refine x_iconst (pc' := 151) (v := 2) K dX8_strike_150 rfl rfl ?_
        refine x_iadd (pc' := 152) K dX8_strike_151 rfl ?_
        refine x_iald (pc' := 153) K dX8_strike_152 rfl (fun x21 => ?_)
        refine x_iast (pc' := 154) K dX8_strike_153 rfl (fun g22 => ?_)
        refine x_iinc (pc' := 157) (y := 1) (lv' := [(8, xI (v8 + 1)), (12, xI ((v6 + (4 : Int32)) + ((3 : Int32) * v8))), (11, xI (x11 - x12)), (10, xI ((v6 + (4 : Int32)) + ((3 : Int32) * v9))), (0, xR v0), (1, xI v1), (2, xI v2), (3, xI v3), (4, xI v4), (5, xI v5), (6, xI v6), (9, xI v9)]) K 10 dX8_strike_154 rfl rfl (by decide) (by decide) rfl ?_
        refine x_iinc (pc' := 160) (y := 1) (lv' := [(9, xI (v9 + 1)), (8, xI (v8 + 1)), (12, xI ((v6 + (4 : Int32)) + ((3 : Int32) * v8))), (11, xI (x11 - x12)), (10, xI ((v6 + (4 : Int32)) + ((3 : Int32) * v9))), (0, xR v0), (1, xI v1), (2, xI v2), (3, xI v3), (4, xI v4), (5, xI v5), (6, xI v6)]) K 11 dX8_strike_157 rfl rfl (by decide) (by decide) rfl ?_
        refine x_goto (tgt := 49) K dX8_strike_160 (by decide) ?_
        refine x_sub (lv' := [(0, xR v0), (1, xI v1), (2, xI v2), (3, xI v3), (4, xI v4), (5, xI v5), (6, xI v6), (8, xI (v8 + 1)), (9, xI (v9 + 1))]) [5, 6, 7, 8, 9, 10, 11, 1, 0] rfl ?_
        exact x_jump (fun hz => hj1 (v0, v1, v2, v3, v4, v5, v6, (v8 + 1), (v9 + 1), g22) hz)
      · refine x_goto (tgt := 157) K dX8_strike_97 (by decide) ?_
        refine x_iinc (pc' := 160) (y := 1) (lv' := [(9, xI (v9 + 1)), (11, xI (x11 - x12)), (10, xI ((v6 + (4 : Int32)) + ((3 : Int32) * v9))), (0, xR v0), (1, xI v1), (2, xI v2), (3, xI v3), (4, xI v4), (5, xI v5), (6, xI v6), (8, xI v8)]) K 10 dX8_strike_157 rfl rfl (by decide) (by decide) rfl ?_
        refine x_goto (tgt := 49) K dX8_strike_160 (by decide) ?_
        refine x_sub (lv' := [(0, xR v0), (1, xI v1), (2, xI v2), (3, xI v3), (4, xI v4), (5, xI v5), (6, xI v6), (8, xI v8), (9, xI (v9 + 1))]) [3, 4, 5, 6, 7, 8, 9, 10, 0] rfl ?_
        exact x_jump (fun hz => hj1 (v0, v1, v2, v3, v4, v5, v6, v8, (v9 + 1), g) hz)
  have hL167 : ∀ (C1 : ((Nat × Int32 × Int32 × Int32 × Int32 × Int32 × Int32 × Int32 × Int32 × AH) ⊕ (Nat × Int32 × Int32 × Int32 × Int32 × Int32 × Int32 × Int32 × AH)) → Prop) (hj1 : ∀ s9 : (Nat × Int32 × Int32 × Int32 × Int32 × Int32 × Int32 × Int32 × Int32 × AH), C1 (Sum.inl s9) → XG p l e R s m args below meth c D 13 h0 Q 167 [(0, xR s9.1), (1, xI s9.2.1), (2, xI s9.2.2.1), (3, xI s9.2.2.2.1), (4, xI s9.2.2.2.2.1), (5, xI s9.2.2.2.2.2.1), (6, xI s9.2.2.2.2.2.2.1), (8, xI s9.2.2.2.2.2.2.2.1), (9, xI s9.2.2.2.2.2.2.2.2.1)] [] s9.2.2.2.2.2.2.2.2.2) (he1 : ∀ r9 : (Nat × Int32 × Int32 × Int32 × Int32 × Int32 × Int32 × Int32 × AH), C1 (Sum.inr r9) → XG p l e R s m args below meth c D 13 h0 Q 229 [(0, xR r9.1), (1, xI r9.2.1), (2, xI r9.2.2.1), (3, xI r9.2.2.2.1), (4, xI r9.2.2.2.2.1), (5, xI r9.2.2.2.2.2.1), (6, xI r9.2.2.2.2.2.2.1), (8, xI r9.2.2.2.2.2.2.2.1)] [] r9.2.2.2.2.2.2.2.2) (v0 : Nat) (v1 : Int32) (v2 : Int32) (v3 : Int32) (v4 : Int32) (v5 : Int32) (v6 : Int32) (v8 : Int32) (v9 : Int32) (g : AH), XF p l e R s m args below meth c D 13 h0 Q 167 [(0, xR v0), (1, xI v1), (2, xI v2), (3, xI v3), (4, xI v4), (5, xI v5), (6, xI v6), (8, xI v8), (9, xI v9)] [] g (fM_strike_l167 v0 v1 v2 v3 v4 v5 v6 v8 v9 g) C1 := by
    intro C1 hj1 he1
    have hL175 : ∀ (C2 : ((Nat × Int32 × Int32 × Int32 × Int32 × Int32 × Int32 × Int32 × Int32 × Int32 × AH) ⊕ (Nat × Int32 × Int32 × Int32 × Int32 × Int32 × Int32 × Int32 × Int32 × AH)) → Prop) (hj2 : ∀ s9 : (Nat × Int32 × Int32 × Int32 × Int32 × Int32 × Int32 × Int32 × Int32 × Int32 × AH), C2 (Sum.inl s9) → XG p l e R s m args below meth c D 13 h0 Q 175 [(0, xR s9.1), (1, xI s9.2.1), (2, xI s9.2.2.1), (3, xI s9.2.2.2.1), (4, xI s9.2.2.2.2.1), (5, xI s9.2.2.2.2.2.1), (6, xI s9.2.2.2.2.2.2.1), (8, xI s9.2.2.2.2.2.2.2.1), (9, xI s9.2.2.2.2.2.2.2.2.1), (10, xI s9.2.2.2.2.2.2.2.2.2.1)] [] s9.2.2.2.2.2.2.2.2.2.2) (he2 : ∀ r9 : (Nat × Int32 × Int32 × Int32 × Int32 × Int32 × Int32 × Int32 × Int32 × AH), C2 (Sum.inr r9) → XG p l e R s m args below meth c D 13 h0 Q 223 [(0, xR r9.1), (1, xI r9.2.1), (2, xI r9.2.2.1), (3, xI r9.2.2.2.1), (4, xI r9.2.2.2.2.1), (5, xI r9.2.2.2.2.2.1), (6, xI r9.2.2.2.2.2.2.1), (8, xI r9.2.2.2.2.2.2.2.1), (9, xI r9.2.2.2.2.2.2.2.2.1)] [] r9.2.2.2.2.2.2.2.2.2) (v0 : Nat) (v1 : Int32) (v2 : Int32) (v3 : Int32) (v4 : Int32) (v5 : Int32) (v6 : Int32) (v8 : Int32) (v9 : Int32) (v10 : Int32) (g : AH), XF p l e R s m args below meth c D 13 h0 Q 175 [(0, xR v0), (1, xI v1), (2, xI v2), (3, xI v3), (4, xI v4), (5, xI v5), (6, xI v6), (8, xI v8), (9, xI v9), (10, xI v10)] [] g (fM_strike_l175 v0 v1 v2 v3 v4 v5 v6 v8 v9 v10 g) C2 := by
      intro C2 hj2 he2
      intro v0 v1 v2 v3 v4 v5 v6 v8 v9 v10 g
      unfold fM_strike_l175
      refine x_iload (pc' := 177) K 9 dX8_strike_175 rfl rfl ?_
      refine x_iconst (pc' := 178) (v := 3) K dX8_strike_177 rfl rfl ?_
      refine x_icmp_ge (tgt := 223) (pc' := 181) K dX8_strike_178 rfl (by decide) ?_ ?_
      · refine x_sub (lv' := [(0, xR v0), (1, xI v1), (2, xI v2), (3, xI v3), (4, xI v4), (5, xI v5), (6, xI v6), (8, xI v8), (9, xI v9)]) [0, 1, 2, 3, 4, 5, 6, 7, 8] rfl ?_
        exact x_jump (fun hz => he2 (v0, v1, v2, v3, v4, v5, v6, v8, v9, g) hz)
      · refine x_aload_n (pc' := 182) K 0 dX8_strike_181 rfl rfl ?_
        refine x_getr (pc' := 185) K fg_14_14 (Or.inl (K.2.2.2.2.1 _ q1326)) (fun _ h9 => h9) dX8_strike_182 rfl (fun x23 => ?_)
        refine x_iload (pc' := 187) K 6 dX8_strike_185 rfl rfl ?_
        refine x_iconst (pc' := 188) (v := 4) K dX8_strike_187 rfl rfl ?_
        refine x_iadd (pc' := 189) K dX8_strike_188 rfl ?_
        refine x_iconst (pc' := 190) (v := 3) K dX8_strike_189 rfl rfl ?_
        refine x_iload (pc' := 192) K 8 dX8_strike_190 rfl rfl ?_
        refine x_imul (pc' := 193) K dX8_strike_192 rfl ?_
        refine x_iadd (pc' := 194) K dX8_strike_193 rfl ?_
        refine x_iload (pc' := 196) K 9 dX8_strike_194 rfl rfl ?_
        refine x_iadd (pc' := 197) K dX8_strike_196 rfl ?_
        refine x_aload_n (pc' := 198) K 0 dX8_strike_197 rfl rfl ?_
        refine x_getr (pc' := 201) K fg_14_14 (Or.inl (K.2.2.2.2.1 _ q1326)) (fun _ h9 => h9) dX8_strike_198 rfl (fun x24 => ?_)
        refine x_iload (pc' := 203) K 6 dX8_strike_201 rfl rfl ?_
        refine x_iconst (pc' := 204) (v := 4) K dX8_strike_203 rfl rfl ?_
        refine x_iadd (pc' := 205) K dX8_strike_204 rfl ?_
        refine x_iconst (pc' := 206) (v := 3) K dX8_strike_205 rfl rfl ?_
        refine x_iload (pc' := 208) K 8 dX8_strike_206 rfl rfl ?_
        refine x_iconst (pc' := 209) (v := 1) K dX8_strike_208 rfl rfl ?_
        refine x_isub (pc' := 210) K dX8_strike_209 rfl ?_
        refine x_imul (pc' := 211) K dX8_strike_210 rfl ?_
        refine x_iadd (pc' := 212) K dX8_strike_211 rfl ?_
        refine x_iload (pc' := 214) K 9 dX8_strike_212 rfl rfl ?_
        refine x_iadd (pc' := 215) K dX8_strike_214 rfl ?_
        refine x_iald (pc' := 216) K dX8_strike_215 rfl (fun x25 => ?_)
        refine x_iast (pc' := 217) K dX8_strike_216 rfl (fun g26 => ?_)
        refine x_iinc (pc' := 220) (y := 1) (lv' := [(10, xI (v10 + 1)), (0, xR v0), (1, xI v1), (2, xI v2), (3, xI v3), (4, xI v4), (5, xI v5), (6, xI v6), (8, xI v8), (9, xI v9)]) K 9 dX8_strike_217 rfl rfl (by decide) (by decide) rfl ?_
        refine x_goto (tgt := 175) K dX8_strike_220 (by decide) ?_
        refine x_sub (lv' := [(0, xR v0), (1, xI v1), (2, xI v2), (3, xI v3), (4, xI v4), (5, xI v5), (6, xI v6), (8, xI v8), (9, xI v9), (10, xI (v10 + 1))]) [1, 2, 3, 4, 5, 6, 7, 8, 9, 0] rfl ?_
        exact x_jump (fun hz => hj2 (v0, v1, v2, v3, v4, v5, v6, v8, v9, (v10 + 1), g26) hz)
    have hA223_1 : ∀ (v0 : Nat) (v1 : Int32) (v2 : Int32) (v3 : Int32) (v4 : Int32) (v5 : Int32) (v6 : Int32) (v8 : Int32) (v9 : Int32) (g : AH), XF p l e R s m args below meth c D 13 h0 Q 223 [(0, xR v0), (1, xI v1), (2, xI v2), (3, xI v3), (4, xI v4), (5, xI v5), (6, xI v6), (8, xI v8), (9, xI v9)] [] g (fM_strike_a223_167 v0 v1 v2 v3 v4 v5 v6 v8 v9 g) C1 := by
      intro v0 v1 v2 v3 v4 v5 v6 v8 v9 g
      unfold fM_strike_a223_167
      refine x_iinc (pc' := 226) (y := (-1)) (lv' := [(9, xI (v9 + (-1))), (0, xR v0), (1, xI v1), (2, xI v2), (3, xI v3), (4, xI v4), (5, xI v5), (6, xI v6), (8, xI v8)]) K 8 dX8_strike_223 rfl rfl (by decide) (by decide) rfl ?_
      refine x_goto (tgt := 167) K dX8_strike_226 (by decide) ?_
      refine x_sub (lv' := [(0, xR v0), (1, xI v1), (2, xI v2), (3, xI v3), (4, xI v4), (5, xI v5), (6, xI v6), (8, xI v8), (9, xI (v9 + (-1)))]) [1, 2, 3, 4, 5, 6, 7, 8, 0] rfl ?_
      exact x_jump (fun hz => hj1 (v0, v1, v2, v3, v4, v5, v6, v8, (v9 + (-1)), g) hz)
    intro v0 v1 v2 v3 v4 v5 v6 v8 v9 g
    unfold fM_strike_l167
    refine x_iload (pc' := 169) K 8 dX8_strike_167 rfl rfl ?_
    refine x_if_le (tgt := 229) (pc' := 172) K dX8_strike_169 rfl (by decide) ?_ ?_
    · refine x_sub (lv' := [(0, xR v0), (1, xI v1), (2, xI v2), (3, xI v3), (4, xI v4), (5, xI v5), (6, xI v6), (8, xI v8)]) [0, 1, 2, 3, 4, 5, 6, 7] rfl ?_
      exact x_jump (fun hz => he1 (v0, v1, v2, v3, v4, v5, v6, v8, g) hz)
    · refine x_iconst (pc' := 173) (v := 0) K dX8_strike_172 rfl rfl ?_
      refine x_istore (pc' := 175) (lv' := [(10, xI (0 : Int32)), (0, xR v0), (1, xI v1), (2, xI v2), (3, xI v3), (4, xI v4), (5, xI v5), (6, xI v6), (8, xI v8), (9, xI v9)]) K dX8_strike_173 rfl (by decide) rfl ?_
      refine x_sub (lv' := [(0, xR v0), (1, xI v1), (2, xI v2), (3, xI v3), (4, xI v4), (5, xI v5), (6, xI v6), (8, xI v8), (9, xI v9), (10, xI (0 : Int32))]) [1, 2, 3, 4, 5, 6, 7, 8, 9, 0] rfl ?_
      exact x_loop (pl := (fun s9 : (Nat × Int32 × Int32 × Int32 × Int32 × Int32 × Int32 × Int32 × Int32 × Int32 × AH) => [(0, xR s9.1), (1, xI s9.2.1), (2, xI s9.2.2.1), (3, xI s9.2.2.2.1), (4, xI s9.2.2.2.2.1), (5, xI s9.2.2.2.2.2.1), (6, xI s9.2.2.2.2.2.2.1), (8, xI s9.2.2.2.2.2.2.2.1), (9, xI s9.2.2.2.2.2.2.2.2.1), (10, xI s9.2.2.2.2.2.2.2.2.2.1)])) (ph := (fun s9 : (Nat × Int32 × Int32 × Int32 × Int32 × Int32 × Int32 × Int32 × Int32 × Int32 × AH) => s9.2.2.2.2.2.2.2.2.2.2)) (fun r9 : (Nat × Int32 × Int32 × Int32 × Int32 × Int32 × Int32 × Int32 × Int32 × AH) => XG p l e R s m args below meth c D 13 h0 Q 223 [(0, xR r9.1), (1, xI r9.2.1), (2, xI r9.2.2.1), (3, xI r9.2.2.2.1), (4, xI r9.2.2.2.2.1), (5, xI r9.2.2.2.2.2.1), (6, xI r9.2.2.2.2.2.2.1), (8, xI r9.2.2.2.2.2.2.2.1), (9, xI r9.2.2.2.2.2.2.2.2.1)] [] r9.2.2.2.2.2.2.2.2.2) (fun s9 => hL175 _ (fun _ hz => hz) (fun _ hz => hz) s9.1 s9.2.1 s9.2.2.1 s9.2.2.2.1 s9.2.2.2.2.1 s9.2.2.2.2.2.1 s9.2.2.2.2.2.2.1 s9.2.2.2.2.2.2.2.1 s9.2.2.2.2.2.2.2.2.1 s9.2.2.2.2.2.2.2.2.2.1 s9.2.2.2.2.2.2.2.2.2.2) (fun r9 x hx hc => hA223_1 r9.1 r9.2.1 r9.2.2.1 r9.2.2.2.1 r9.2.2.2.2.1 r9.2.2.2.2.2.1 r9.2.2.2.2.2.2.1 r9.2.2.2.2.2.2.2.1 r9.2.2.2.2.2.2.2.2.1 r9.2.2.2.2.2.2.2.2.2 x hx hc) (v0, v1, v2, v3, v4, v5, v6, v8, v9, (0 : Int32), g)
  have hA229_0 : ∀ (v0 : Nat) (v1 : Int32) (v2 : Int32) (v3 : Int32) (v4 : Int32) (v5 : Int32) (v6 : Int32) (v8 : Int32) (g : AH), XF p l e R s m args below meth c D 13 h0 Q 229 [(0, xR v0), (1, xI v1), (2, xI v2), (3, xI v3), (4, xI v4), (5, xI v5), (6, xI v6), (8, xI v8)] [] g (fM_strike_a229 v0 v1 v2 v3 v4 v5 v6 v8 g) (XEnd below s D h0 (fun _ => .inl none) Q) := by
    intro v0 v1 v2 v3 v4 v5 v6 v8 g
    unfold fM_strike_a229
    refine x_aload_n (pc' := 230) K 0 dX8_strike_229 rfl rfl ?_
    refine x_getr (pc' := 233) K fg_14_14 (Or.inl (K.2.2.2.2.1 _ q1326)) (fun _ h9 => h9) dX8_strike_230 rfl (fun x27 => ?_)
    refine x_iload (pc' := 235) K 6 dX8_strike_233 rfl rfl ?_
    refine x_iconst (pc' := 236) (v := 4) K dX8_strike_235 rfl rfl ?_
    refine x_iadd (pc' := 237) K dX8_strike_236 rfl ?_
    refine x_iload_n (pc' := 238) K 2 dX8_strike_237 rfl rfl ?_
    refine x_iast (pc' := 239) K dX8_strike_238 rfl (fun g28 => ?_)
    refine x_aload_n (pc' := 240) K 0 dX8_strike_239 rfl rfl ?_
    refine x_getr (pc' := 243) K fg_14_14 (Or.inl (K.2.2.2.2.1 _ q1326)) (fun _ h9 => h9) dX8_strike_240 rfl (fun x29 => ?_)
    refine x_iload (pc' := 245) K 6 dX8_strike_243 rfl rfl ?_
    refine x_iconst (pc' := 246) (v := 4) K dX8_strike_245 rfl rfl ?_
    refine x_iadd (pc' := 247) K dX8_strike_246 rfl ?_
    refine x_iconst (pc' := 248) (v := 1) K dX8_strike_247 rfl rfl ?_
    refine x_iadd (pc' := 249) K dX8_strike_248 rfl ?_
    refine x_bipush (pc' := 251) (v := 9) K dX8_strike_249 rfl (by decide) ?_
    refine x_iast (pc' := 252) K dX8_strike_251 rfl (fun g30 => ?_)
    refine x_aload_n (pc' := 253) K 0 dX8_strike_252 rfl rfl ?_
    refine x_getr (pc' := 256) K fg_14_14 (Or.inl (K.2.2.2.2.1 _ q1326)) (fun _ h9 => h9) dX8_strike_253 rfl (fun x31 => ?_)
    refine x_iload (pc' := 258) K 6 dX8_strike_256 rfl rfl ?_
    refine x_iconst (pc' := 259) (v := 4) K dX8_strike_258 rfl rfl ?_
    refine x_iadd (pc' := 260) K dX8_strike_259 rfl ?_
    refine x_iconst (pc' := 261) (v := 2) K dX8_strike_260 rfl rfl ?_
    refine x_iadd (pc' := 262) K dX8_strike_261 rfl ?_
    refine x_aload_n (pc' := 263) K 0 dX8_strike_262 rfl rfl ?_
    refine x_getr (pc' := 266) K fg_14_14 (Or.inl (K.2.2.2.2.1 _ q1326)) (fun _ h9 => h9) dX8_strike_263 rfl (fun x32 => ?_)
    refine x_bipush (pc' := 268) (v := 112) K dX8_strike_266 rfl (by decide) ?_
    refine x_iald (pc' := 269) K dX8_strike_268 rfl (fun x33 => ?_)
    refine x_iast (pc' := 270) K dX8_strike_269 rfl (fun g34 => ?_)
    refine x_aload_n (pc' := 271) K 0 dX8_strike_270 rfl rfl ?_
    refine x_getr (pc' := 274) K fg_14_14 (Or.inl (K.2.2.2.2.1 _ q1326)) (fun _ h9 => h9) dX8_strike_271 rfl (fun x35 => ?_)
    refine x_iload (pc' := 276) K 6 dX8_strike_274 rfl rfl ?_
    refine x_iconst (pc' := 277) (v := 3) K dX8_strike_276 rfl rfl ?_
    refine x_iadd (pc' := 278) K dX8_strike_277 rfl ?_
    refine x_iload (pc' := 280) K 7 dX8_strike_278 rfl rfl ?_
    refine x_iconst (pc' := 281) (v := 1) K dX8_strike_280 rfl rfl ?_
    refine x_iadd (pc' := 282) K dX8_strike_281 rfl ?_
    refine x_iast (pc' := 283) K dX8_strike_282 rfl (fun g36 => ?_)
    refine x_aload_n (pc' := 284) K 0 dX8_strike_283 rfl rfl ?_
    refine x_getr (pc' := 287) K fg_14_14 (Or.inl (K.2.2.2.2.1 _ q1326)) (fun _ h9 => h9) dX8_strike_284 rfl (fun x37 => ?_)
    refine x_iload (pc' := 289) K 6 dX8_strike_287 rfl rfl ?_
    refine x_iconst (pc' := 290) (v := 2) K dX8_strike_289 rfl rfl ?_
    refine x_iadd (pc' := 291) K dX8_strike_290 rfl ?_
    refine x_dup2 (pc' := 292) K dX8_strike_291 rfl rfl rfl ?_
    refine x_iald (pc' := 293) K dX8_strike_292 rfl (fun x38 => ?_)
    refine x_iconst (pc' := 294) (v := 1) K dX8_strike_293 rfl rfl ?_
    refine x_iadd (pc' := 295) K dX8_strike_294 rfl ?_
    refine x_iast (pc' := 296) K dX8_strike_295 rfl (fun g39 => ?_)
    refine x_sipush (pc' := 299) (v := 1400) K dX8_strike_296 rfl (by decide) ?_
    refine x_bipush (pc' := 301) (v := 6) K dX8_strike_299 rfl (by decide) ?_
    refine x_aload_n (pc' := 302) K 0 dX8_strike_301 rfl rfl ?_
    refine x_getr (pc' := 305) K fg_14_14 (Or.inl (K.2.2.2.2.1 _ q1326)) (fun _ h9 => h9) dX8_strike_302 rfl (fun x40 => ?_)
    refine x_bipush (pc' := 307) (v := 112) K dX8_strike_305 rfl (by decide) ?_
    refine x_iald (pc' := 308) K dX8_strike_307 rfl (fun x41 => ?_)
    refine x_imul (pc' := 309) K dX8_strike_308 rfl ?_
    refine x_iadd (pc' := 310) K dX8_strike_309 rfl ?_
    refine x_istore (pc' := 312) (lv' := [(9, xI ((1400 : Int32) + ((6 : Int32) * x41))), (0, xR v0), (1, xI v1), (2, xI v2), (3, xI v3), (4, xI v4), (5, xI v5), (6, xI v6), (8, xI v8)]) K dX8_strike_310 rfl (by decide) rfl ?_
    refine x_aload_n (pc' := 313) K 1 dX8_strike_312 rfl rfl ?_
    refine x_getr (pc' := 316) K fg_14_14 (Or.inl (K.2.2.2.2.1 _ q1326)) (fun _ h9 => h9) dX8_strike_313 rfl (fun x42 => ?_)
    refine x_iload (pc' := 318) K 0 dX8_strike_316 rfl rfl ?_
    refine x_iload_n (pc' := 319) K 2 dX8_strike_318 rfl rfl ?_
    refine x_iast (pc' := 320) K dX8_strike_319 rfl (fun g43 => ?_)
    refine x_aload_n (pc' := 321) K 1 dX8_strike_320 rfl rfl ?_
    refine x_getr (pc' := 324) K fg_14_14 (Or.inl (K.2.2.2.2.1 _ q1326)) (fun _ h9 => h9) dX8_strike_321 rfl (fun x44 => ?_)
    refine x_iload (pc' := 326) K 0 dX8_strike_324 rfl rfl ?_
    refine x_iconst (pc' := 327) (v := 1) K dX8_strike_326 rfl rfl ?_
    refine x_iadd (pc' := 328) K dX8_strike_327 rfl ?_
    refine x_iload_n (pc' := 329) K 3 dX8_strike_328 rfl rfl ?_
    refine x_iast (pc' := 330) K dX8_strike_329 rfl (fun g45 => ?_)
    refine x_aload_n (pc' := 331) K 1 dX8_strike_330 rfl rfl ?_
    refine x_getr (pc' := 334) K fg_14_14 (Or.inl (K.2.2.2.2.1 _ q1326)) (fun _ h9 => h9) dX8_strike_331 rfl (fun x46 => ?_)
    refine x_iload (pc' := 336) K 0 dX8_strike_334 rfl rfl ?_
    refine x_iconst (pc' := 337) (v := 2) K dX8_strike_336 rfl rfl ?_
    refine x_iadd (pc' := 338) K dX8_strike_337 rfl ?_
    refine x_iload_n (pc' := 339) K 4 dX8_strike_338 rfl rfl ?_
    refine x_iast (pc' := 340) K dX8_strike_339 rfl (fun g47 => ?_)
    refine x_aload_n (pc' := 341) K 1 dX8_strike_340 rfl rfl ?_
    refine x_getr (pc' := 344) K fg_14_14 (Or.inl (K.2.2.2.2.1 _ q1326)) (fun _ h9 => h9) dX8_strike_341 rfl (fun x48 => ?_)
    refine x_iload (pc' := 346) K 0 dX8_strike_344 rfl rfl ?_
    refine x_iconst (pc' := 347) (v := 3) K dX8_strike_346 rfl rfl ?_
    refine x_iadd (pc' := 348) K dX8_strike_347 rfl ?_
    refine x_aload_n (pc' := 349) K 1 dX8_strike_348 rfl rfl ?_
    refine x_getr (pc' := 352) K fg_14_14 (Or.inl (K.2.2.2.2.1 _ q1326)) (fun _ h9 => h9) dX8_strike_349 rfl (fun x49 => ?_)
    refine x_bipush (pc' := 354) (v := 109) K dX8_strike_352 rfl (by decide) ?_
    refine x_iald (pc' := 355) K dX8_strike_354 rfl (fun x50 => ?_)
    refine x_iast (pc' := 356) K dX8_strike_355 rfl (fun g51 => ?_)
    refine x_aload_n (pc' := 357) K 1 dX8_strike_356 rfl rfl ?_
    refine x_getr (pc' := 360) K fg_14_14 (Or.inl (K.2.2.2.2.1 _ q1326)) (fun _ h9 => h9) dX8_strike_357 rfl (fun x52 => ?_)
    refine x_iload (pc' := 362) K 0 dX8_strike_360 rfl rfl ?_
    refine x_iconst (pc' := 363) (v := 4) K dX8_strike_362 rfl rfl ?_
    refine x_iadd (pc' := 364) K dX8_strike_363 rfl ?_
    refine x_iload (pc' := 366) K 5 dX8_strike_364 rfl rfl ?_
    refine x_iast (pc' := 367) K dX8_strike_366 rfl (fun g53 => ?_)
    refine x_aload_n (pc' := 368) K 1 dX8_strike_367 rfl rfl ?_
    refine x_getr (pc' := 371) K fg_14_14 (Or.inl (K.2.2.2.2.1 _ q1326)) (fun _ h9 => h9) dX8_strike_368 rfl (fun x54 => ?_)
    refine x_iload (pc' := 373) K 0 dX8_strike_371 rfl rfl ?_
    refine x_iconst (pc' := 374) (v := 5) K dX8_strike_373 rfl rfl ?_
    refine x_iadd (pc' := 375) K dX8_strike_374 rfl ?_
    refine x_iload (pc' := 377) K 6 dX8_strike_375 rfl rfl ?_
    refine x_iast (pc' := 378) K dX8_strike_377 rfl (fun g55 => ?_)
    refine x_aload_n (pc' := 379) K 1 dX8_strike_378 rfl rfl ?_
    refine x_getr (pc' := 382) K fg_14_14 (Or.inl (K.2.2.2.2.1 _ q1326)) (fun _ h9 => h9) dX8_strike_379 rfl (fun x56 => ?_)
    refine x_bipush (pc' := 384) (v := 112) K dX8_strike_382 rfl (by decide) ?_
    refine x_dup2 (pc' := 385) K dX8_strike_384 rfl rfl rfl ?_
    refine x_iald (pc' := 386) K dX8_strike_385 rfl (fun x57 => ?_)
    refine x_iconst (pc' := 387) (v := 1) K dX8_strike_386 rfl rfl ?_
    refine x_iadd (pc' := 388) K dX8_strike_387 rfl ?_
    refine x_iast (pc' := 389) K dX8_strike_388 rfl (fun g58 => ?_)
    exact x_vret K rfl hr dX8_strike_389
  have hA163_0 : ∀ (v0 : Nat) (v1 : Int32) (v2 : Int32) (v3 : Int32) (v4 : Int32) (v5 : Int32) (v6 : Int32) (v8 : Int32) (g : AH), XF p l e R s m args below meth c D 13 h0 Q 163 [(0, xR v0), (1, xI v1), (2, xI v2), (3, xI v3), (4, xI v4), (5, xI v5), (6, xI v6), (8, xI v8)] [] g (fM_strike_a163 v0 v1 v2 v3 v4 v5 v6 v8 g) (XEnd below s D h0 (fun _ => .inl none) Q) := by
    intro v0 v1 v2 v3 v4 v5 v6 v8 g
    unfold fM_strike_a163
    refine x_iload (pc' := 165) K 7 dX8_strike_163 rfl rfl ?_
    refine x_istore (pc' := 167) (lv' := [(9, xI v8), (0, xR v0), (1, xI v1), (2, xI v2), (3, xI v3), (4, xI v4), (5, xI v5), (6, xI v6), (8, xI v8)]) K dX8_strike_165 rfl (by decide) rfl ?_
    refine x_sub (lv' := [(0, xR v0), (1, xI v1), (2, xI v2), (3, xI v3), (4, xI v4), (5, xI v5), (6, xI v6), (8, xI v8), (9, xI v8)]) [1, 2, 3, 4, 5, 6, 7, 8, 0] rfl ?_
    exact x_loop (pl := (fun s9 : (Nat × Int32 × Int32 × Int32 × Int32 × Int32 × Int32 × Int32 × Int32 × AH) => [(0, xR s9.1), (1, xI s9.2.1), (2, xI s9.2.2.1), (3, xI s9.2.2.2.1), (4, xI s9.2.2.2.2.1), (5, xI s9.2.2.2.2.2.1), (6, xI s9.2.2.2.2.2.2.1), (8, xI s9.2.2.2.2.2.2.2.1), (9, xI s9.2.2.2.2.2.2.2.2.1)])) (ph := (fun s9 : (Nat × Int32 × Int32 × Int32 × Int32 × Int32 × Int32 × Int32 × Int32 × AH) => s9.2.2.2.2.2.2.2.2.2)) (fun r9 : (Nat × Int32 × Int32 × Int32 × Int32 × Int32 × Int32 × Int32 × AH) => XG p l e R s m args below meth c D 13 h0 Q 229 [(0, xR r9.1), (1, xI r9.2.1), (2, xI r9.2.2.1), (3, xI r9.2.2.2.1), (4, xI r9.2.2.2.2.1), (5, xI r9.2.2.2.2.2.1), (6, xI r9.2.2.2.2.2.2.1), (8, xI r9.2.2.2.2.2.2.2.1)] [] r9.2.2.2.2.2.2.2.2) (fun s9 => hL167 _ (fun _ hz => hz) (fun _ hz => hz) s9.1 s9.2.1 s9.2.2.1 s9.2.2.2.1 s9.2.2.2.2.1 s9.2.2.2.2.2.1 s9.2.2.2.2.2.2.1 s9.2.2.2.2.2.2.2.1 s9.2.2.2.2.2.2.2.2.1 s9.2.2.2.2.2.2.2.2.2) (fun r9 x hx hc => hA229_0 r9.1 r9.2.1 r9.2.2.1 r9.2.2.2.1 r9.2.2.2.2.1 r9.2.2.2.2.2.1 r9.2.2.2.2.2.2.1 r9.2.2.2.2.2.2.2.1 r9.2.2.2.2.2.2.2.2 x hx hc) (v0, v1, v2, v3, v4, v5, v6, v8, v8, g)
  refine (?_ : XF p l e R s m args below meth c D 13 h0 Q 0 [(0, xR v0), (1, xI v1), (2, xI v2), (3, xI v3), (4, xI v4), (5, xI v5)] [] h0 (fM_strike v0 v1 v2 v3 v4 v5 h0) (XEnd below s D h0 (fun _ => .inl none) Q)) (a, h1) hF hQ.symm
  unfold fM_strike
  refine x_bipush (pc' := 2) (v := 120) K dX8_strike_0 rfl (by decide) ?_
  refine x_bipush (pc' := 4) (v := 32) K dX8_strike_2 rfl (by decide) ?_
  refine x_iload_n (pc' := 5) K 1 dX8_strike_4 rfl rfl ?_
  refine x_imul (pc' := 6) K dX8_strike_5 rfl ?_
  refine x_iadd (pc' := 7) K dX8_strike_6 rfl ?_
  refine x_istore (pc' := 9) (lv' := [(6, xI ((120 : Int32) + ((32 : Int32) * v1))), (0, xR v0), (1, xI v1), (2, xI v2), (3, xI v3), (4, xI v4), (5, xI v5)]) K dX8_strike_7 rfl (by decide) rfl ?_
  refine x_aload_n (pc' := 10) K 1 dX8_strike_9 rfl rfl ?_
  refine x_iload_n (pc' := 11) K 4 dX8_strike_10 rfl rfl ?_
  refine x_iconst (pc' := 12) (v := 0) K dX8_strike_11 rfl rfl ?_
  refine x_cVO (pc' := 15) (As := [xI v3, xI (0 : Int32)]) (en := (fun v => some (xI v))) (rest := []) K (fun a hF => ct_X8_ofMint hF) rfl (by decide) q1626 q1628 qs59 q1629 q105 hy_X8_ofMint (Nat.le_of_ble_eq_true rfl) (Nat.le_of_ble_eq_true rfl) (Nat.le_of_ble_eq_true rfl) dX8_strike_12 rfl (fun x1 => ?_)
  refine x_istore (pc' := 17) (lv' := [(7, xI x1), (6, xI ((120 : Int32) + ((32 : Int32) * v1))), (0, xR v0), (1, xI v1), (2, xI v2), (3, xI v3), (4, xI v4), (5, xI v5)]) K dX8_strike_15 rfl (by decide) rfl ?_
  refine x_aload_n (pc' := 18) K 2 dX8_strike_17 rfl rfl ?_
  refine x_getr (pc' := 21) K fg_14_14 (Or.inl (K.2.2.2.2.1 _ q1326)) (fun _ h9 => h9) dX8_strike_18 rfl (fun x2 => ?_)
  refine x_iload (pc' := 23) K 1 dX8_strike_21 rfl rfl ?_
  refine x_iconst (pc' := 24) (v := 0) K dX8_strike_23 rfl rfl ?_
  refine x_iadd (pc' := 25) K dX8_strike_24 rfl ?_
  refine x_dup2 (pc' := 26) K dX8_strike_25 rfl rfl rfl ?_
  refine x_iald (pc' := 27) K dX8_strike_26 rfl (fun x3 => ?_)
  refine x_iload (pc' := 29) K 0 dX8_strike_27 rfl rfl ?_
  refine x_isub (pc' := 30) K dX8_strike_29 rfl ?_
  refine x_iast (pc' := 31) K dX8_strike_30 rfl (fun g4 => ?_)
  refine x_aload_n (pc' := 32) K 2 dX8_strike_31 rfl rfl ?_
  refine x_getr (pc' := 35) K fg_14_14 (Or.inl (K.2.2.2.2.1 _ q1326)) (fun _ h9 => h9) dX8_strike_32 rfl (fun x5 => ?_)
  refine x_bipush (pc' := 37) (v := 115) K dX8_strike_35 rfl (by decide) ?_
  refine x_dup2 (pc' := 38) K dX8_strike_37 rfl rfl rfl ?_
  refine x_iald (pc' := 39) K dX8_strike_38 rfl (fun x6 => ?_)
  refine x_iload (pc' := 41) K 0 dX8_strike_39 rfl rfl ?_
  refine x_iadd (pc' := 42) K dX8_strike_41 rfl ?_
  refine x_iast (pc' := 43) K dX8_strike_42 rfl (fun g7 => ?_)
  refine x_iconst (pc' := 44) (v := 0) K dX8_strike_43 rfl rfl ?_
  refine x_istore (pc' := 46) (lv' := [(8, xI (0 : Int32)), (7, xI x1), (6, xI ((120 : Int32) + ((32 : Int32) * v1))), (0, xR v0), (1, xI v1), (2, xI v2), (3, xI v3), (4, xI v4), (5, xI v5)]) K dX8_strike_44 rfl (by decide) rfl ?_
  refine x_iconst (pc' := 47) (v := 0) K dX8_strike_46 rfl rfl ?_
  refine x_istore (pc' := 49) (lv' := [(9, xI (0 : Int32)), (8, xI (0 : Int32)), (7, xI x1), (6, xI ((120 : Int32) + ((32 : Int32) * v1))), (0, xR v0), (1, xI v1), (2, xI v2), (3, xI v3), (4, xI v4), (5, xI v5)]) K dX8_strike_47 rfl (by decide) rfl ?_
  refine x_sub (lv' := [(0, xR v0), (1, xI v1), (2, xI v2), (3, xI v3), (4, xI v4), (5, xI v5), (6, xI ((120 : Int32) + ((32 : Int32) * v1))), (8, xI (0 : Int32)), (9, xI (0 : Int32))]) [4, 5, 6, 7, 8, 9, 3, 1, 0] rfl ?_
  exact x_loop (pl := (fun s9 : (Nat × Int32 × Int32 × Int32 × Int32 × Int32 × Int32 × Int32 × Int32 × AH) => [(0, xR s9.1), (1, xI s9.2.1), (2, xI s9.2.2.1), (3, xI s9.2.2.2.1), (4, xI s9.2.2.2.2.1), (5, xI s9.2.2.2.2.2.1), (6, xI s9.2.2.2.2.2.2.1), (8, xI s9.2.2.2.2.2.2.2.1), (9, xI s9.2.2.2.2.2.2.2.2.1)])) (ph := (fun s9 : (Nat × Int32 × Int32 × Int32 × Int32 × Int32 × Int32 × Int32 × Int32 × AH) => s9.2.2.2.2.2.2.2.2.2)) (fun r9 : (Nat × Int32 × Int32 × Int32 × Int32 × Int32 × Int32 × Int32 × AH) => XG p l e R s m args below meth c D 13 h0 Q 163 [(0, xR r9.1), (1, xI r9.2.1), (2, xI r9.2.2.1), (3, xI r9.2.2.2.1), (4, xI r9.2.2.2.2.1), (5, xI r9.2.2.2.2.2.1), (6, xI r9.2.2.2.2.2.2.1), (8, xI r9.2.2.2.2.2.2.2.1)] [] r9.2.2.2.2.2.2.2.2) (fun s9 => hL49 _ (fun _ hz => hz) (fun _ hz => hz) s9.1 s9.2.1 s9.2.2.1 s9.2.2.2.1 s9.2.2.2.2.1 s9.2.2.2.2.2.1 s9.2.2.2.2.2.2.1 s9.2.2.2.2.2.2.2.1 s9.2.2.2.2.2.2.2.2.1 s9.2.2.2.2.2.2.2.2.2) (fun r9 x hx hc => hA163_0 r9.1 r9.2.1 r9.2.2.1 r9.2.2.2.1 r9.2.2.2.2.1 r9.2.2.2.2.2.1 r9.2.2.2.2.2.2.1 r9.2.2.2.2.2.2.2.1 r9.2.2.2.2.2.2.2.2 x hx hc) (v0, v1, v2, v3, v4, v5, ((120 : Int32) + ((32 : Int32) * v1)), (0 : Int32), (0 : Int32), g7)
/-! FaceCoinsModel.wrongStroke(III)I -/
noncomputable def fM_wrongStroke (v0 : Nat) (v1 : Int32) (v2 : Int32) (v3 : Int32) (h0 : AH) : Option Int32 :=
  (xck h0 v0 14 (fM_ofMint v0 v3 (2 : Int32) h0)).bind fun x1 =>
  if x1 ≤ 0 then (
    (xck h0 v0 14 (fM_ofMint v0 v3 (0 : Int32) h0)).bind fun x2 =>
    (xgr h0 v0 [14] 14).bind fun x3 =>
    (xai h0 x3 100 (5 : Int32)).bind fun x4 =>
    if x4 ≤ (v1 - x2) then (
      (xgr h0 v0 [14] 14).bind fun x5 =>
      (xai h0 x5 100 (6 : Int32)).bind fun x6 =>
      if v2 < x6 then (
        some ((0 : Int32)))
      else (
        some ((6 : Int32))))
    else (
      some ((5 : Int32))))
  else (
    some ((4 : Int32)))
set_option maxHeartbeats 4000000 in
theorem ct_X8_wrongStroke {l : Launch} {D : XD} {v0 : Nat} {v1 : Int32} {v2 : Int32} {v3 : Int32} {h0 : AH} {a : Int32} (hF : fM_wrongStroke v0 v1 v2 v3 h0 = some a) : XCt l D yX8_wrongStroke (ws_ yX8_wrongStroke cX8_wrongStroke 4 (some .int)) 1 22 [xR v0, xI v1, xI v2, xI v3] h0 (.inl (some (xI a))) h0 := by
  refine x_method (by decide) (Nat.le_of_ble_eq_true rfl) fun p e R s m args below meth c K hr hnm hex => ?_
  have K : XO p R s m args meth c D 4 h0 cX8_wrongStroke "FaceCoinsModel" 1 22 := K
  generalize hQ : XMQ below _ _ _ _ _ _ = Q
  refine (?_ : XF p l e R s m args below meth c D 4 h0 Q 0 [(0, xR v0), (1, xI v1), (2, xI v2), (3, xI v3)] [] h0 (fM_wrongStroke v0 v1 v2 v3 h0) (fun z => XEnd below s D h0 (fun v => .inl (some (xI v))) Q (z, h0))) a hF hQ.symm
  unfold fM_wrongStroke
  refine x_aload_n (pc' := 1) K 0 dX8_wrongStroke_0 rfl rfl ?_
  refine x_iload_n (pc' := 2) K 3 dX8_wrongStroke_1 rfl rfl ?_
  refine x_iconst (pc' := 3) (v := 2) K dX8_wrongStroke_2 rfl rfl ?_
  refine x_cVO (pc' := 6) (As := [xI v3, xI (2 : Int32)]) (en := (fun v => some (xI v))) (rest := []) K (fun a hF => ct_X8_ofMint hF) rfl (by decide) q1626 q1628 qs59 q1629 q105 hy_X8_ofMint (Nat.le_of_ble_eq_true rfl) (Nat.le_of_ble_eq_true rfl) (Nat.le_of_ble_eq_true rfl) dX8_wrongStroke_3 rfl (fun x1 => ?_)
  refine x_if_le (tgt := 13) (pc' := 9) K dX8_wrongStroke_6 rfl (by decide) ?_ ?_
  · refine x_iload_n (pc' := 14) K 1 dX8_wrongStroke_13 rfl rfl ?_
    refine x_aload_n (pc' := 15) K 0 dX8_wrongStroke_14 rfl rfl ?_
    refine x_iload_n (pc' := 16) K 3 dX8_wrongStroke_15 rfl rfl ?_
    refine x_iconst (pc' := 17) (v := 0) K dX8_wrongStroke_16 rfl rfl ?_
    refine x_cVO (pc' := 20) (As := [xI v3, xI (0 : Int32)]) (en := (fun v => some (xI v))) (rest := [xI v1]) K (fun a hF => ct_X8_ofMint hF) rfl (by decide) q1626 q1628 qs59 q1629 q105 hy_X8_ofMint (Nat.le_of_ble_eq_true rfl) (Nat.le_of_ble_eq_true rfl) (Nat.le_of_ble_eq_true rfl) dX8_wrongStroke_17 rfl (fun x2 => ?_)
    refine x_isub (pc' := 21) K dX8_wrongStroke_20 rfl ?_
    refine x_aload_n (pc' := 22) K 0 dX8_wrongStroke_21 rfl rfl ?_
    refine x_getr (pc' := 25) K fg_14_14 (Or.inl (K.2.2.2.2.1 _ q1326)) (fun _ h9 => h9) dX8_wrongStroke_22 rfl (fun x3 => ?_)
    refine x_iconst (pc' := 26) (v := 5) K dX8_wrongStroke_25 rfl rfl ?_
    refine x_iald (pc' := 27) K dX8_wrongStroke_26 rfl (fun x4 => ?_)
    refine x_icmp_ge (tgt := 34) (pc' := 30) K dX8_wrongStroke_27 rfl (by decide) ?_ ?_
    · refine x_iload_n (pc' := 35) K 2 dX8_wrongStroke_34 rfl rfl ?_
      refine x_aload_n (pc' := 36) K 0 dX8_wrongStroke_35 rfl rfl ?_
      refine x_getr (pc' := 39) K fg_14_14 (Or.inl (K.2.2.2.2.1 _ q1326)) (fun _ h9 => h9) dX8_wrongStroke_36 rfl (fun x5 => ?_)
      refine x_bipush (pc' := 41) (v := 6) K dX8_wrongStroke_39 rfl (by decide) ?_
      refine x_iald (pc' := 42) K dX8_wrongStroke_41 rfl (fun x6 => ?_)
      refine x_icmp_lt (tgt := 50) (pc' := 45) K dX8_wrongStroke_42 rfl (by decide) ?_ ?_
      · refine x_iconst (pc' := 51) (v := 0) K dX8_wrongStroke_50 rfl rfl ?_
        exact x_ro (C9 := XEnd below s D h0 (fun v => .inl (some (xI v))) Q) (x_iret K rfl hr dX8_wrongStroke_51)
      · refine x_bipush (pc' := 47) (v := 6) K dX8_wrongStroke_45 rfl (by decide) ?_
        refine x_goto (tgt := 51) K dX8_wrongStroke_47 (by decide) ?_
        exact x_ro (C9 := XEnd below s D h0 (fun v => .inl (some (xI v))) Q) (x_iret K rfl hr dX8_wrongStroke_51)
    · refine x_iconst (pc' := 31) (v := 5) K dX8_wrongStroke_30 rfl rfl ?_
      refine x_goto (tgt := 51) K dX8_wrongStroke_31 (by decide) ?_
      exact x_ro (C9 := XEnd below s D h0 (fun v => .inl (some (xI v))) Q) (x_iret K rfl hr dX8_wrongStroke_51)
  · refine x_iconst (pc' := 10) (v := 4) K dX8_wrongStroke_9 rfl rfl ?_
    refine x_goto (tgt := 51) K dX8_wrongStroke_10 (by decide) ?_
    exact x_ro (C9 := XEnd below s D h0 (fun v => .inl (some (xI v))) Q) (x_iret K rfl hr dX8_wrongStroke_51)
/-! FaceCoinsModel.coin(III)I -/
noncomputable def fM_coin_l97 (v0 : Nat) (v1 : Int32) (v2 : Int32) (v3 : Int32) (v4 : Int32) (v5 : Int32) (v6 : Int32) (g : AH) : Option ((Nat × Int32 × Int32 × Int32 × Int32 × Int32 × Int32 × AH) ⊕ (Nat × Int32 × Int32 × Int32 × Int32 × Int32 × AH)) :=
  if (32 : Int32) ≤ v6 then (
    some (Sum.inr (v0, v1, v2, v3, v4, v5, g)))
  else (
    (xgr g v0 [14] 14).bind fun x12 =>
    (xsi g x12 (v5 + v6) (0 : Int32)).bind fun g13 =>
    some (Sum.inl (v0, v1, v2, v3, v4, v5, (v6 + 1), g13)))
noncomputable def fM_coin_a121 (v0 : Nat) (v1 : Int32) (v2 : Int32) (v3 : Int32) (v4 : Int32) (v5 : Int32) (g : AH) : Option (Int32 × AH) :=
  (xgr g v0 [14] 14).bind fun x14 =>
  (xsi g x14 (v5 + (0 : Int32)) v2).bind fun g15 =>
  (xgr g15 v0 [14] 14).bind fun x16 =>
  (xsi g15 x16 (v5 + (1 : Int32)) v1).bind fun g17 =>
  (xgr g17 v0 [14] 14).bind fun x18 =>
  (xai g17 x18 100 (108 : Int32)).bind fun x19 =>
  (xsi g17 x18 (108 : Int32) (x19 + (1 : Int32))).bind fun g20 =>
  (xgr g20 v0 [14] 14).bind fun x21 =>
  (xai g20 x21 100 (114 : Int32)).bind fun x22 =>
  (xsi g20 x21 (114 : Int32) (x22 + v2)).bind fun g23 =>
  xb2 (xck g23 v0 14 (fM_strike v0 v4 v1 v3 ((-1) : Int32) (0 : Int32) g23)) fun x_ g24 =>
  some ((v4, g24))
noncomputable def fM_coin (v0 : Nat) (v1 : Int32) (v2 : Int32) (v3 : Int32) (h0 : AH) : Option (Int32 × AH) :=
  (xpi h0 v0 [14] 0 (0 : Int32)).bind fun g1 =>
  xb2 (xck g1 v0 14 (fM_lay v0 g1)) fun x_ g2 =>
  (xck g2 v0 14 (fM_isWho v0 v1 g2)).bind fun x3 =>
  if x3 = 0 then (
    some ((((-1) : Int32), g2)))
  else (
    (xck g2 v0 14 (fM_ofWho v0 v1 (2 : Int32) g2)).bind fun x4 =>
    if 0 < x4 then (
      some ((((-1) : Int32), g2)))
    else (
      (fM_isIn v2 (1 : Int32) (9999 : Int32) g2).bind fun x5 =>
      if x5 = 0 then (
        some ((((-1) : Int32), g2)))
      else (
        (xck g2 v0 14 (fM_isMint v0 v3 g2)).bind fun x6 =>
        if x6 = 0 then (
          some ((((-1) : Int32), g2)))
        else (
          (xck g2 v0 14 (fM_coins v0 g2)).bind fun x7 =>
          if x7 = (40 : Int32) then (
            some ((((-1) : Int32), g2)))
          else (
            (xck g2 v0 14 (fM_isFull v0 (1 : Int32) g2)).bind fun x8 =>
            if x8 = 0 then (
              (xck g2 v0 14 (fM_wrongStroke v0 v2 (0 : Int32) v3 g2)).bind fun x9 =>
              if x9 = 0 then (
                xb2 (xck g2 v0 14 (fM_snap v0 g2)) fun x_ g10 =>
                (xck g10 v0 14 (fM_coins v0 g10)).bind fun x11 =>
                (xloop (fun s9 : (Nat × Int32 × Int32 × Int32 × Int32 × Int32 × Int32 × AH) => fM_coin_l97 s9.1 s9.2.1 s9.2.2.1 s9.2.2.2.1 s9.2.2.2.2.1 s9.2.2.2.2.2.1 s9.2.2.2.2.2.2.1 s9.2.2.2.2.2.2.2) (v0, v1, v2, v3, x11, ((120 : Int32) + ((32 : Int32) * x11)), (0 : Int32), g10)).bind (fun r9 : (Nat × Int32 × Int32 × Int32 × Int32 × Int32 × AH) => fM_coin_a121 r9.1 r9.2.1 r9.2.2.1 r9.2.2.2.1 r9.2.2.2.2.1 r9.2.2.2.2.2.1 r9.2.2.2.2.2.2))
              else (
                some ((((-1) : Int32), g2))))
            else (
              some ((((-1) : Int32), g2))))))))
set_option maxHeartbeats 4000000 in
theorem ct_X8_coin {l : Launch} {D : XD} {v0 : Nat} {v1 : Int32} {v2 : Int32} {v3 : Int32} {h0 : AH} {a : Int32} {h1 : AH} (hF : fM_coin v0 v1 v2 v3 h0 = some (a, h1)) : XCt l D yX8_coin (ws_ yX8_coin cX8_coin 7 (some .int)) 2 54 [xR v0, xI v1, xI v2, xI v3] h0 (.inl (some (xI a))) h1 := by
  refine x_method (by decide) (Nat.le_of_ble_eq_true rfl) fun p e R s m args below meth c K hr hnm hex => ?_
  have K : XO p R s m args meth c D 7 h0 cX8_coin "FaceCoinsModel" 2 54 := K
  generalize hQ : XMQ below _ _ _ _ _ _ = Q
  have hL97 : ∀ (C1 : ((Nat × Int32 × Int32 × Int32 × Int32 × Int32 × Int32 × AH) ⊕ (Nat × Int32 × Int32 × Int32 × Int32 × Int32 × AH)) → Prop) (hj1 : ∀ s9 : (Nat × Int32 × Int32 × Int32 × Int32 × Int32 × Int32 × AH), C1 (Sum.inl s9) → XG p l e R s m args below meth c D 7 h0 Q 97 [(0, xR s9.1), (1, xI s9.2.1), (2, xI s9.2.2.1), (3, xI s9.2.2.2.1), (4, xI s9.2.2.2.2.1), (5, xI s9.2.2.2.2.2.1), (6, xI s9.2.2.2.2.2.2.1)] [] s9.2.2.2.2.2.2.2) (he1 : ∀ r9 : (Nat × Int32 × Int32 × Int32 × Int32 × Int32 × AH), C1 (Sum.inr r9) → XG p l e R s m args below meth c D 7 h0 Q 121 [(0, xR r9.1), (1, xI r9.2.1), (2, xI r9.2.2.1), (3, xI r9.2.2.2.1), (4, xI r9.2.2.2.2.1), (5, xI r9.2.2.2.2.2.1)] [] r9.2.2.2.2.2.2) (v0 : Nat) (v1 : Int32) (v2 : Int32) (v3 : Int32) (v4 : Int32) (v5 : Int32) (v6 : Int32) (g : AH), XF p l e R s m args below meth c D 7 h0 Q 97 [(0, xR v0), (1, xI v1), (2, xI v2), (3, xI v3), (4, xI v4), (5, xI v5), (6, xI v6)] [] g (fM_coin_l97 v0 v1 v2 v3 v4 v5 v6 g) C1 := by
    intro C1 hj1 he1
    intro v0 v1 v2 v3 v4 v5 v6 g
    unfold fM_coin_l97
    refine x_iload (pc' := 99) K 6 dX8_coin_97 rfl rfl ?_
    refine x_bipush (pc' := 101) (v := 32) K dX8_coin_99 rfl (by decide) ?_
    refine x_icmp_ge (tgt := 121) (pc' := 104) K dX8_coin_101 rfl (by decide) ?_ ?_
    · refine x_sub (lv' := [(0, xR v0), (1, xI v1), (2, xI v2), (3, xI v3), (4, xI v4), (5, xI v5)]) [0, 1, 2, 3, 4, 5] rfl ?_
      exact x_jump (fun hz => he1 (v0, v1, v2, v3, v4, v5, g) hz)
    · refine x_aload_n (pc' := 105) K 0 dX8_coin_104 rfl rfl ?_
      refine x_getr (pc' := 108) K fg_14_14 (Or.inl (K.2.2.2.2.1 _ q1326)) (fun _ h9 => h9) dX8_coin_105 rfl (fun x12 => ?_)
      refine x_iload (pc' := 110) K 5 dX8_coin_108 rfl rfl ?_
      refine x_iload (pc' := 112) K 6 dX8_coin_110 rfl rfl ?_
      refine x_iadd (pc' := 113) K dX8_coin_112 rfl ?_
      refine x_iconst (pc' := 114) (v := 0) K dX8_coin_113 rfl rfl ?_
      refine x_iast (pc' := 115) K dX8_coin_114 rfl (fun g13 => ?_)
      refine x_iinc (pc' := 118) (y := 1) (lv' := [(6, xI (v6 + 1)), (0, xR v0), (1, xI v1), (2, xI v2), (3, xI v3), (4, xI v4), (5, xI v5)]) K 6 dX8_coin_115 rfl rfl (by decide) (by decide) rfl ?_
      refine x_goto (tgt := 97) K dX8_coin_118 (by decide) ?_
      refine x_sub (lv' := [(0, xR v0), (1, xI v1), (2, xI v2), (3, xI v3), (4, xI v4), (5, xI v5), (6, xI (v6 + 1))]) [1, 2, 3, 4, 5, 6, 0] rfl ?_
      exact x_jump (fun hz => hj1 (v0, v1, v2, v3, v4, v5, (v6 + 1), g13) hz)
  have hA121_0 : ∀ (v0 : Nat) (v1 : Int32) (v2 : Int32) (v3 : Int32) (v4 : Int32) (v5 : Int32) (g : AH), XF p l e R s m args below meth c D 7 h0 Q 121 [(0, xR v0), (1, xI v1), (2, xI v2), (3, xI v3), (4, xI v4), (5, xI v5)] [] g (fM_coin_a121 v0 v1 v2 v3 v4 v5 g) (XEnd below s D h0 (fun v => .inl (some (xI v))) Q) := by
    intro v0 v1 v2 v3 v4 v5 g
    unfold fM_coin_a121
    refine x_aload_n (pc' := 122) K 0 dX8_coin_121 rfl rfl ?_
    refine x_getr (pc' := 125) K fg_14_14 (Or.inl (K.2.2.2.2.1 _ q1326)) (fun _ h9 => h9) dX8_coin_122 rfl (fun x14 => ?_)
    refine x_iload (pc' := 127) K 5 dX8_coin_125 rfl rfl ?_
    refine x_iconst (pc' := 128) (v := 0) K dX8_coin_127 rfl rfl ?_
    refine x_iadd (pc' := 129) K dX8_coin_128 rfl ?_
    refine x_iload_n (pc' := 130) K 2 dX8_coin_129 rfl rfl ?_
    refine x_iast (pc' := 131) K dX8_coin_130 rfl (fun g15 => ?_)
    refine x_aload_n (pc' := 132) K 0 dX8_coin_131 rfl rfl ?_
    refine x_getr (pc' := 135) K fg_14_14 (Or.inl (K.2.2.2.2.1 _ q1326)) (fun _ h9 => h9) dX8_coin_132 rfl (fun x16 => ?_)
    refine x_iload (pc' := 137) K 5 dX8_coin_135 rfl rfl ?_
    refine x_iconst (pc' := 138) (v := 1) K dX8_coin_137 rfl rfl ?_
    refine x_iadd (pc' := 139) K dX8_coin_138 rfl ?_
    refine x_iload_n (pc' := 140) K 1 dX8_coin_139 rfl rfl ?_
    refine x_iast (pc' := 141) K dX8_coin_140 rfl (fun g17 => ?_)
    refine x_aload_n (pc' := 142) K 0 dX8_coin_141 rfl rfl ?_
    refine x_getr (pc' := 145) K fg_14_14 (Or.inl (K.2.2.2.2.1 _ q1326)) (fun _ h9 => h9) dX8_coin_142 rfl (fun x18 => ?_)
    refine x_bipush (pc' := 147) (v := 108) K dX8_coin_145 rfl (by decide) ?_
    refine x_dup2 (pc' := 148) K dX8_coin_147 rfl rfl rfl ?_
    refine x_iald (pc' := 149) K dX8_coin_148 rfl (fun x19 => ?_)
    refine x_iconst (pc' := 150) (v := 1) K dX8_coin_149 rfl rfl ?_
    refine x_iadd (pc' := 151) K dX8_coin_150 rfl ?_
    refine x_iast (pc' := 152) K dX8_coin_151 rfl (fun g20 => ?_)
    refine x_aload_n (pc' := 153) K 0 dX8_coin_152 rfl rfl ?_
    refine x_getr (pc' := 156) K fg_14_14 (Or.inl (K.2.2.2.2.1 _ q1326)) (fun _ h9 => h9) dX8_coin_153 rfl (fun x21 => ?_)
    refine x_bipush (pc' := 158) (v := 114) K dX8_coin_156 rfl (by decide) ?_
    refine x_dup2 (pc' := 159) K dX8_coin_158 rfl rfl rfl ?_
    refine x_iald (pc' := 160) K dX8_coin_159 rfl (fun x22 => ?_)
    refine x_iload_n (pc' := 161) K 2 dX8_coin_160 rfl rfl ?_
    refine x_iadd (pc' := 162) K dX8_coin_161 rfl ?_
    refine x_iast (pc' := 163) K dX8_coin_162 rfl (fun g23 => ?_)
    refine x_aload_n (pc' := 164) K 0 dX8_coin_163 rfl rfl ?_
    refine x_iload (pc' := 166) K 4 dX8_coin_164 rfl rfl ?_
    refine x_iload_n (pc' := 167) K 1 dX8_coin_166 rfl rfl ?_
    refine x_iload_n (pc' := 168) K 3 dX8_coin_167 rfl rfl ?_
    refine x_iconst (pc' := 169) (v := (-1)) K dX8_coin_168 rfl rfl ?_
    refine x_iconst (pc' := 170) (v := 0) K dX8_coin_169 rfl rfl ?_
    refine x_cV (pc' := 173) (As := [xI v4, xI v1, xI v3, xI ((-1) : Int32), xI (0 : Int32)]) (en := (fun _ => none)) (rest := []) K (fun a h1 hF => ct_X8_strike hF) rfl (by decide) q1646 q1648 qs63 q1649 q105 hy_X8_strike (Nat.le_of_ble_eq_true rfl) (Nat.le_of_ble_eq_true rfl) (Nat.le_of_ble_eq_true rfl) dX8_coin_170 rfl (fun x_ g24 => ?_)
    refine x_iload (pc' := 175) K 4 dX8_coin_173 rfl rfl ?_
    exact x_iret K rfl hr dX8_coin_175
  refine (?_ : XF p l e R s m args below meth c D 7 h0 Q 0 [(0, xR v0), (1, xI v1), (2, xI v2), (3, xI v3)] [] h0 (fM_coin v0 v1 v2 v3 h0) (XEnd below s D h0 (fun v => .inl (some (xI v))) Q)) (a, h1) hF hQ.symm
  unfold fM_coin
  refine x_aload_n (pc' := 1) K 0 dX8_coin_0 rfl rfl ?_
  refine x_iconst (pc' := 2) (v := 0) K dX8_coin_1 rfl rfl ?_
  refine x_puti (pc' := 5) K fp_14_0 (Or.inl (K.2.2.2.2.1 _ q1312)) (fun _ h9 => h9) (Or.inl rfl) dX8_coin_2 rfl (fun g1 => ?_)
  refine x_aload_n (pc' := 6) K 0 dX8_coin_5 rfl rfl ?_
  refine x_cV (pc' := 9) (As := []) (en := (fun _ => none)) (rest := []) K (fun a h1 hF => ct_X8_lay hF) rfl (by decide) q1479 q1481 qs31 q1482 q105 hy_X8_lay (Nat.le_of_ble_eq_true rfl) (Nat.le_of_ble_eq_true rfl) (Nat.le_of_ble_eq_true rfl) dX8_coin_6 rfl (fun x_ g2 => ?_)
  refine x_aload_n (pc' := 10) K 0 dX8_coin_9 rfl rfl ?_
  refine x_iload_n (pc' := 11) K 1 dX8_coin_10 rfl rfl ?_
  refine x_cVO (pc' := 14) (As := [xI v1]) (en := (fun v => some (xI v))) (rest := []) K (fun a hF => ct_X8_isWho hF) rfl (by decide) q1586 q1588 qs50 q1589 q105 hy_X8_isWho (Nat.le_of_ble_eq_true rfl) (Nat.le_of_ble_eq_true rfl) (Nat.le_of_ble_eq_true rfl) dX8_coin_11 rfl (fun x3 => ?_)
  refine x_if_eq (tgt := 72) (pc' := 17) K dX8_coin_14 rfl (by decide) ?_ ?_
  · refine x_iconst (pc' := 73) (v := (-1)) K dX8_coin_72 rfl rfl ?_
    exact x_iret K rfl hr dX8_coin_73
  · refine x_aload_n (pc' := 18) K 0 dX8_coin_17 rfl rfl ?_
    refine x_iload_n (pc' := 19) K 1 dX8_coin_18 rfl rfl ?_
    refine x_iconst (pc' := 20) (v := 2) K dX8_coin_19 rfl rfl ?_
    refine x_cVO (pc' := 23) (As := [xI v1, xI (2 : Int32)]) (en := (fun v => some (xI v))) (rest := []) K (fun a hF => ct_X8_ofWho hF) rfl (by decide) q1598 q1600 qs53 q1601 q105 hy_X8_ofWho (Nat.le_of_ble_eq_true rfl) (Nat.le_of_ble_eq_true rfl) (Nat.le_of_ble_eq_true rfl) dX8_coin_20 rfl (fun x4 => ?_)
    refine x_if_gt (tgt := 72) (pc' := 26) K dX8_coin_23 rfl (by decide) ?_ ?_
    · refine x_iconst (pc' := 73) (v := (-1)) K dX8_coin_72 rfl rfl ?_
      exact x_iret K rfl hr dX8_coin_73
    · refine x_iload_n (pc' := 27) K 2 dX8_coin_26 rfl rfl ?_
      refine x_iconst (pc' := 28) (v := 1) K dX8_coin_27 rfl rfl ?_
      refine x_sipush (pc' := 31) (v := 9999) K dX8_coin_28 rfl (by decide) ?_
      refine x_cSO (pc' := 34) (As := [xI v2, xI (1 : Int32), xI (9999 : Int32)]) (en := (fun v => some (xI v))) (rest := []) K (fun a hF => ct_X8_isIn hF) rfl q1552 q1553 q1554 q105 hy_X8_isIn (Nat.le_of_ble_eq_true rfl) (Nat.le_of_ble_eq_true rfl) (Nat.le_of_ble_eq_true rfl) dX8_coin_31 rfl (fun x5 => ?_)
      refine x_if_eq (tgt := 72) (pc' := 37) K dX8_coin_34 rfl (by decide) ?_ ?_
      · refine x_iconst (pc' := 73) (v := (-1)) K dX8_coin_72 rfl rfl ?_
        exact x_iret K rfl hr dX8_coin_73
      · refine x_aload_n (pc' := 38) K 0 dX8_coin_37 rfl rfl ?_
        refine x_iload_n (pc' := 39) K 3 dX8_coin_38 rfl rfl ?_
        refine x_cVO (pc' := 42) (As := [xI v3]) (en := (fun v => some (xI v))) (rest := []) K (fun a hF => ct_X8_isMint hF) rfl (by decide) q1618 q1620 qs57 q1621 q105 hy_X8_isMint (Nat.le_of_ble_eq_true rfl) (Nat.le_of_ble_eq_true rfl) (Nat.le_of_ble_eq_true rfl) dX8_coin_39 rfl (fun x6 => ?_)
        refine x_if_eq (tgt := 72) (pc' := 45) K dX8_coin_42 rfl (by decide) ?_ ?_
        · refine x_iconst (pc' := 73) (v := (-1)) K dX8_coin_72 rfl rfl ?_
          exact x_iret K rfl hr dX8_coin_73
        · refine x_aload_n (pc' := 46) K 0 dX8_coin_45 rfl rfl ?_
          refine x_cVO (pc' := 49) (As := []) (en := (fun v => some (xI v))) (rest := []) K (fun a hF => ct_X8_coins hF) rfl (by decide) q1602 q1604 qs54 q1605 q105 hy_X8_coins (Nat.le_of_ble_eq_true rfl) (Nat.le_of_ble_eq_true rfl) (Nat.le_of_ble_eq_true rfl) dX8_coin_46 rfl (fun x7 => ?_)
          refine x_bipush (pc' := 51) (v := 40) K dX8_coin_49 rfl (by decide) ?_
          refine x_icmp_eq (tgt := 72) (pc' := 54) K dX8_coin_51 rfl (by decide) ?_ ?_
          · refine x_iconst (pc' := 73) (v := (-1)) K dX8_coin_72 rfl rfl ?_
            exact x_iret K rfl hr dX8_coin_73
          · refine x_aload_n (pc' := 55) K 0 dX8_coin_54 rfl rfl ?_
            refine x_iconst (pc' := 56) (v := 1) K dX8_coin_55 rfl rfl ?_
            refine x_cVO (pc' := 59) (As := [xI (1 : Int32)]) (en := (fun v => some (xI v))) (rest := []) K (fun a hF => ct_X8_isFull hF) rfl (by decide) q1634 q1636 qs60 q1637 q105 hy_X8_isFull (Nat.le_of_ble_eq_true rfl) (Nat.le_of_ble_eq_true rfl) (Nat.le_of_ble_eq_true rfl) dX8_coin_56 rfl (fun x8 => ?_)
            refine x_if_ne (tgt := 72) (pc' := 62) K dX8_coin_59 rfl (by decide) ?_ ?_
            · refine x_iconst (pc' := 73) (v := (-1)) K dX8_coin_72 rfl rfl ?_
              exact x_iret K rfl hr dX8_coin_73
            · refine x_aload_n (pc' := 63) K 0 dX8_coin_62 rfl rfl ?_
              refine x_iload_n (pc' := 64) K 2 dX8_coin_63 rfl rfl ?_
              refine x_iconst (pc' := 65) (v := 0) K dX8_coin_64 rfl rfl ?_
              refine x_iload_n (pc' := 66) K 3 dX8_coin_65 rfl rfl ?_
              refine x_cVO (pc' := 69) (As := [xI v2, xI (0 : Int32), xI v3]) (en := (fun v => some (xI v))) (rest := []) K (fun a hF => ct_X8_wrongStroke hF) rfl (by decide) q1638 q1640 qs61 q1641 q105 hy_X8_wrongStroke (Nat.le_of_ble_eq_true rfl) (Nat.le_of_ble_eq_true rfl) (Nat.le_of_ble_eq_true rfl) dX8_coin_66 rfl (fun x9 => ?_)
              refine x_if_eq (tgt := 74) (pc' := 72) K dX8_coin_69 rfl (by decide) ?_ ?_
              · refine x_aload_n (pc' := 75) K 0 dX8_coin_74 rfl rfl ?_
                refine x_cV (pc' := 78) (As := []) (en := (fun _ => none)) (rest := []) K (fun a h1 hF => ct_X8_snap hF) rfl (by decide) q1642 q1644 qs62 q1645 q105 hy_X8_snap (Nat.le_of_ble_eq_true rfl) (Nat.le_of_ble_eq_true rfl) (Nat.le_of_ble_eq_true rfl) dX8_coin_75 rfl (fun x_ g10 => ?_)
                refine x_aload_n (pc' := 79) K 0 dX8_coin_78 rfl rfl ?_
                refine x_cVO (pc' := 82) (As := []) (en := (fun v => some (xI v))) (rest := []) K (fun a hF => ct_X8_coins hF) rfl (by decide) q1602 q1604 qs54 q1605 q105 hy_X8_coins (Nat.le_of_ble_eq_true rfl) (Nat.le_of_ble_eq_true rfl) (Nat.le_of_ble_eq_true rfl) dX8_coin_79 rfl (fun x11 => ?_)
                refine x_istore (pc' := 84) (lv' := [(4, xI x11), (0, xR v0), (1, xI v1), (2, xI v2), (3, xI v3)]) K dX8_coin_82 rfl (by decide) rfl ?_
                refine x_bipush (pc' := 86) (v := 120) K dX8_coin_84 rfl (by decide) ?_
                refine x_bipush (pc' := 88) (v := 32) K dX8_coin_86 rfl (by decide) ?_
                refine x_iload (pc' := 90) K 0 dX8_coin_88 rfl rfl ?_
                refine x_imul (pc' := 91) K dX8_coin_90 rfl ?_
                refine x_iadd (pc' := 92) K dX8_coin_91 rfl ?_
                refine x_istore (pc' := 94) (lv' := [(5, xI ((120 : Int32) + ((32 : Int32) * x11))), (4, xI x11), (0, xR v0), (1, xI v1), (2, xI v2), (3, xI v3)]) K dX8_coin_92 rfl (by decide) rfl ?_
                refine x_iconst (pc' := 95) (v := 0) K dX8_coin_94 rfl rfl ?_
                refine x_istore (pc' := 97) (lv' := [(6, xI (0 : Int32)), (5, xI ((120 : Int32) + ((32 : Int32) * x11))), (4, xI x11), (0, xR v0), (1, xI v1), (2, xI v2), (3, xI v3)]) K dX8_coin_95 rfl (by decide) rfl ?_
                refine x_sub (lv' := [(0, xR v0), (1, xI v1), (2, xI v2), (3, xI v3), (4, xI x11), (5, xI ((120 : Int32) + ((32 : Int32) * x11))), (6, xI (0 : Int32))]) [3, 4, 5, 6, 2, 1, 0] rfl ?_
                exact x_loop (pl := (fun s9 : (Nat × Int32 × Int32 × Int32 × Int32 × Int32 × Int32 × AH) => [(0, xR s9.1), (1, xI s9.2.1), (2, xI s9.2.2.1), (3, xI s9.2.2.2.1), (4, xI s9.2.2.2.2.1), (5, xI s9.2.2.2.2.2.1), (6, xI s9.2.2.2.2.2.2.1)])) (ph := (fun s9 : (Nat × Int32 × Int32 × Int32 × Int32 × Int32 × Int32 × AH) => s9.2.2.2.2.2.2.2)) (fun r9 : (Nat × Int32 × Int32 × Int32 × Int32 × Int32 × AH) => XG p l e R s m args below meth c D 7 h0 Q 121 [(0, xR r9.1), (1, xI r9.2.1), (2, xI r9.2.2.1), (3, xI r9.2.2.2.1), (4, xI r9.2.2.2.2.1), (5, xI r9.2.2.2.2.2.1)] [] r9.2.2.2.2.2.2) (fun s9 => hL97 _ (fun _ hz => hz) (fun _ hz => hz) s9.1 s9.2.1 s9.2.2.1 s9.2.2.2.1 s9.2.2.2.2.1 s9.2.2.2.2.2.1 s9.2.2.2.2.2.2.1 s9.2.2.2.2.2.2.2) (fun r9 x hx hc => hA121_0 r9.1 r9.2.1 r9.2.2.1 r9.2.2.2.1 r9.2.2.2.2.1 r9.2.2.2.2.2.1 r9.2.2.2.2.2.2 x hx hc) (v0, v1, v2, v3, x11, ((120 : Int32) + ((32 : Int32) * x11)), (0 : Int32), g10)
              · refine x_iconst (pc' := 73) (v := (-1)) K dX8_coin_72 rfl rfl ?_
                exact x_iret K rfl hr dX8_coin_73
/-! FaceCoinsModel.isCoin(I)Z -/
noncomputable def fM_isCoin (v0 : Nat) (v1 : Int32) (h0 : AH) : Option Int32 :=
  if v1 < 0 then (
    some ((0 : Int32)))
  else (
    (xck h0 v0 14 (fM_coins v0 h0)).bind fun x1 =>
    if x1 ≤ v1 then (
      some ((0 : Int32)))
    else (
      some ((1 : Int32))))
set_option maxHeartbeats 4000000 in
theorem ct_X8_isCoin {l : Launch} {D : XD} {v0 : Nat} {v1 : Int32} {h0 : AH} {a : Int32} (hF : fM_isCoin v0 v1 h0 = some a) : XCt l D yX8_isCoin (ws_ yX8_isCoin cX8_isCoin 2 (some .boolean)) 1 20 [xR v0, xI v1] h0 (.inl (some (xI a))) h0 := by
  refine x_method (by decide) (Nat.le_of_ble_eq_true rfl) fun p e R s m args below meth c K hr hnm hex => ?_
  have K : XO p R s m args meth c D 2 h0 cX8_isCoin "FaceCoinsModel" 1 20 := K
  generalize hQ : XMQ below _ _ _ _ _ _ = Q
  refine (?_ : XF p l e R s m args below meth c D 2 h0 Q 0 [(0, xR v0), (1, xI v1)] [] h0 (fM_isCoin v0 v1 h0) (fun z => XEnd below s D h0 (fun v => .inl (some (xI v))) Q (z, h0))) a hF hQ.symm
  unfold fM_isCoin
  refine x_iload_n (pc' := 1) K 1 dX8_isCoin_0 rfl rfl ?_
  refine x_if_lt (tgt := 16) (pc' := 4) K dX8_isCoin_1 rfl (by decide) ?_ ?_
  · refine x_iconst (pc' := 17) (v := 0) K dX8_isCoin_16 rfl rfl ?_
    exact x_ro (C9 := XEnd below s D h0 (fun v => .inl (some (xI v))) Q) (x_zret K (Or.inl rfl) rfl hr dX8_isCoin_17)
  · refine x_iload_n (pc' := 5) K 1 dX8_isCoin_4 rfl rfl ?_
    refine x_aload_n (pc' := 6) K 0 dX8_isCoin_5 rfl rfl ?_
    refine x_cVO (pc' := 9) (As := []) (en := (fun v => some (xI v))) (rest := [xI v1]) K (fun a hF => ct_X8_coins hF) rfl (by decide) q1602 q1604 qs54 q1605 q105 hy_X8_coins (Nat.le_of_ble_eq_true rfl) (Nat.le_of_ble_eq_true rfl) (Nat.le_of_ble_eq_true rfl) dX8_isCoin_6 rfl (fun x1 => ?_)
    refine x_icmp_ge (tgt := 16) (pc' := 12) K dX8_isCoin_9 rfl (by decide) ?_ ?_
    · refine x_iconst (pc' := 17) (v := 0) K dX8_isCoin_16 rfl rfl ?_
      exact x_ro (C9 := XEnd below s D h0 (fun v => .inl (some (xI v))) Q) (x_zret K (Or.inl rfl) rfl hr dX8_isCoin_17)
    · refine x_iconst (pc' := 13) (v := 1) K dX8_isCoin_12 rfl rfl ?_
      refine x_goto (tgt := 17) K dX8_isCoin_13 (by decide) ?_
      exact x_ro (C9 := XEnd below s D h0 (fun v => .inl (some (xI v))) Q) (x_zret K (Or.inr rfl) rfl hr dX8_isCoin_17)
/-! FaceCoinsModel.faceFalse(II)I -/
noncomputable def fM_faceFalse (v0 : Nat) (v1 : Int32) (v2 : Int32) (h0 : AH) : Option Int32 :=
  (xgr h0 v0 [14] 14).bind fun x1 =>
  (xck h0 v0 14 (fM_ofCoin v0 v1 (((4 : Int32) + ((3 : Int32) * v2)) + (2 : Int32)) h0)).bind fun x2 =>
  (xai h0 x1 100 (((1400 : Int32) + ((6 : Int32) * x2)) + (5 : Int32))).bind fun x3 =>
  some (x3)
set_option maxHeartbeats 4000000 in
theorem ct_X8_faceFalse {l : Launch} {D : XD} {v0 : Nat} {v1 : Int32} {v2 : Int32} {h0 : AH} {a : Int32} (hF : fM_faceFalse v0 v1 v2 h0 = some a) : XCt l D yX8_faceFalse (ws_ yX8_faceFalse cX8_faceFalse 3 (some .int)) 1 22 [xR v0, xI v1, xI v2] h0 (.inl (some (xI a))) h0 := by
  refine x_method (by decide) (Nat.le_of_ble_eq_true rfl) fun p e R s m args below meth c K hr hnm hex => ?_
  have K : XO p R s m args meth c D 3 h0 cX8_faceFalse "FaceCoinsModel" 1 22 := K
  generalize hQ : XMQ below _ _ _ _ _ _ = Q
  refine (?_ : XF p l e R s m args below meth c D 3 h0 Q 0 [(0, xR v0), (1, xI v1), (2, xI v2)] [] h0 (fM_faceFalse v0 v1 v2 h0) (fun z => XEnd below s D h0 (fun v => .inl (some (xI v))) Q (z, h0))) a hF hQ.symm
  unfold fM_faceFalse
  refine x_aload_n (pc' := 1) K 0 dX8_faceFalse_0 rfl rfl ?_
  refine x_getr (pc' := 4) K fg_14_14 (Or.inl (K.2.2.2.2.1 _ q1326)) (fun _ h9 => h9) dX8_faceFalse_1 rfl (fun x1 => ?_)
  refine x_sipush (pc' := 7) (v := 1400) K dX8_faceFalse_4 rfl (by decide) ?_
  refine x_bipush (pc' := 9) (v := 6) K dX8_faceFalse_7 rfl (by decide) ?_
  refine x_aload_n (pc' := 10) K 0 dX8_faceFalse_9 rfl rfl ?_
  refine x_iload_n (pc' := 11) K 1 dX8_faceFalse_10 rfl rfl ?_
  refine x_iconst (pc' := 12) (v := 4) K dX8_faceFalse_11 rfl rfl ?_
  refine x_iconst (pc' := 13) (v := 3) K dX8_faceFalse_12 rfl rfl ?_
  refine x_iload_n (pc' := 14) K 2 dX8_faceFalse_13 rfl rfl ?_
  refine x_imul (pc' := 15) K dX8_faceFalse_14 rfl ?_
  refine x_iadd (pc' := 16) K dX8_faceFalse_15 rfl ?_
  refine x_iconst (pc' := 17) (v := 2) K dX8_faceFalse_16 rfl rfl ?_
  refine x_iadd (pc' := 18) K dX8_faceFalse_17 rfl ?_
  refine x_cVO (pc' := 21) (As := [xI v1, xI (((4 : Int32) + ((3 : Int32) * v2)) + (2 : Int32))]) (en := (fun v => some (xI v))) (rest := [xI (6 : Int32), xI (1400 : Int32), xR x1]) K (fun a hF => ct_X8_ofCoin hF) rfl (by decide) q1610 q1612 qs56 q1613 q105 hy_X8_ofCoin (Nat.le_of_ble_eq_true rfl) (Nat.le_of_ble_eq_true rfl) (Nat.le_of_ble_eq_true rfl) dX8_faceFalse_18 rfl (fun x2 => ?_)
  refine x_imul (pc' := 22) K dX8_faceFalse_21 rfl ?_
  refine x_iadd (pc' := 23) K dX8_faceFalse_22 rfl ?_
  refine x_iconst (pc' := 24) (v := 5) K dX8_faceFalse_23 rfl rfl ?_
  refine x_iadd (pc' := 25) K dX8_faceFalse_24 rfl ?_
  refine x_iald (pc' := 26) K dX8_faceFalse_25 rfl (fun x3 => ?_)
  exact x_ro (C9 := XEnd below s D h0 (fun v => .inl (some (xI v))) Q) (x_iret K rfl hr dX8_faceFalse_26)
/-! FaceCoinsModel.showsFalse(I)I -/
noncomputable def fM_showsFalse_l4 (v0 : Nat) (v1 : Int32) (v2 : Int32) (v3 : Int32) (h0 : AH) : Option ((Nat × Int32 × Int32 × Int32) ⊕ Int32) :=
  (xck h0 v0 14 (fM_ofCoin v0 v1 (3 : Int32) h0)).bind fun x1 =>
  if x1 ≤ v3 then (
    some (Sum.inr v2))
  else (
    (xck h0 v0 14 (fM_faceFalse v0 v1 v3 h0)).bind fun x2 =>
    some (Sum.inl (v0, v1, (v2 ||| x2), (v3 + 1))))
noncomputable def fM_showsFalse_a29 (v2 : Int32) (h0 : AH) : Option Int32 :=
  some (v2)
noncomputable def fM_showsFalse (v0 : Nat) (v1 : Int32) (h0 : AH) : Option Int32 :=
  (xloop (fun s9 : (Nat × Int32 × Int32 × Int32) => fM_showsFalse_l4 s9.1 s9.2.1 s9.2.2.1 s9.2.2.2 h0) (v0, v1, (0 : Int32), (0 : Int32))).bind (fun r9 : Int32 => fM_showsFalse_a29 r9 h0)
set_option maxHeartbeats 4000000 in
theorem ct_X8_showsFalse {l : Launch} {D : XD} {v0 : Nat} {v1 : Int32} {h0 : AH} {a : Int32} (hF : fM_showsFalse v0 v1 h0 = some a) : XCt l D yX8_showsFalse (ws_ yX8_showsFalse cX8_showsFalse 4 (some .int)) 2 44 [xR v0, xI v1] h0 (.inl (some (xI a))) h0 := by
  refine x_method (by decide) (Nat.le_of_ble_eq_true rfl) fun p e R s m args below meth c K hr hnm hex => ?_
  have K : XO p R s m args meth c D 4 h0 cX8_showsFalse "FaceCoinsModel" 2 44 := K
  generalize hQ : XMQ below _ _ _ _ _ _ = Q
  have hL4 : ∀ (C1 : ((Nat × Int32 × Int32 × Int32) ⊕ Int32) → Prop) (hj1 : ∀ s9 : (Nat × Int32 × Int32 × Int32), C1 (Sum.inl s9) → XG p l e R s m args below meth c D 4 h0 Q 4 [(0, xR s9.1), (1, xI s9.2.1), (2, xI s9.2.2.1), (3, xI s9.2.2.2)] [] h0) (he1 : ∀ r9 : Int32, C1 (Sum.inr r9) → XG p l e R s m args below meth c D 4 h0 Q 29 [(2, xI r9)] [] h0) (v0 : Nat) (v1 : Int32) (v2 : Int32) (v3 : Int32), XF p l e R s m args below meth c D 4 h0 Q 4 [(0, xR v0), (1, xI v1), (2, xI v2), (3, xI v3)] [] h0 (fM_showsFalse_l4 v0 v1 v2 v3 h0) C1 := by
    intro C1 hj1 he1
    intro v0 v1 v2 v3
    unfold fM_showsFalse_l4
    refine x_iload_n (pc' := 5) K 3 dX8_showsFalse_4 rfl rfl ?_
    refine x_aload_n (pc' := 6) K 0 dX8_showsFalse_5 rfl rfl ?_
    refine x_iload_n (pc' := 7) K 1 dX8_showsFalse_6 rfl rfl ?_
    refine x_iconst (pc' := 8) (v := 3) K dX8_showsFalse_7 rfl rfl ?_
    refine x_cVO (pc' := 11) (As := [xI v1, xI (3 : Int32)]) (en := (fun v => some (xI v))) (rest := [xI v3]) K (fun a hF => ct_X8_ofCoin hF) rfl (by decide) q1610 q1612 qs56 q1613 q105 hy_X8_ofCoin (Nat.le_of_ble_eq_true rfl) (Nat.le_of_ble_eq_true rfl) (Nat.le_of_ble_eq_true rfl) dX8_showsFalse_8 rfl (fun x1 => ?_)
    refine x_icmp_ge (tgt := 29) (pc' := 14) K dX8_showsFalse_11 rfl (by decide) ?_ ?_
    · refine x_sub (lv' := [(2, xI v2)]) [2] rfl ?_
      exact x_jump (fun hz => he1 v2 hz)
    · refine x_iload_n (pc' := 15) K 2 dX8_showsFalse_14 rfl rfl ?_
      refine x_aload_n (pc' := 16) K 0 dX8_showsFalse_15 rfl rfl ?_
      refine x_iload_n (pc' := 17) K 1 dX8_showsFalse_16 rfl rfl ?_
      refine x_iload_n (pc' := 18) K 3 dX8_showsFalse_17 rfl rfl ?_
      refine x_cVO (pc' := 21) (As := [xI v1, xI v3]) (en := (fun v => some (xI v))) (rest := [xI v2]) K (fun a hF => ct_X8_faceFalse hF) rfl (by decide) q1662 q1664 qs66 q1665 q105 hy_X8_faceFalse (Nat.le_of_ble_eq_true rfl) (Nat.le_of_ble_eq_true rfl) (Nat.le_of_ble_eq_true rfl) dX8_showsFalse_18 rfl (fun x2 => ?_)
      refine x_ior (pc' := 22) K dX8_showsFalse_21 rfl ?_
      refine x_istore_n (pc' := 23) (lv' := [(2, xI (v2 ||| x2)), (0, xR v0), (1, xI v1), (3, xI v3)]) K dX8_showsFalse_22 rfl (by decide) rfl ?_
      refine x_iinc (pc' := 26) (y := 1) (lv' := [(3, xI (v3 + 1)), (2, xI (v2 ||| x2)), (0, xR v0), (1, xI v1)]) K 3 dX8_showsFalse_23 rfl rfl (by decide) (by decide) rfl ?_
      refine x_goto (tgt := 4) K dX8_showsFalse_26 (by decide) ?_
      refine x_sub (lv' := [(0, xR v0), (1, xI v1), (2, xI (v2 ||| x2)), (3, xI (v3 + 1))]) [2, 3, 1, 0] rfl ?_
      exact x_jump (fun hz => hj1 (v0, v1, (v2 ||| x2), (v3 + 1)) hz)
  have hA29_0 : ∀ (v2 : Int32), XF p l e R s m args below meth c D 4 h0 Q 29 [(2, xI v2)] [] h0 (fM_showsFalse_a29 v2 h0) (fun z => XEnd below s D h0 (fun v => .inl (some (xI v))) Q (z, h0)) := by
    intro v2
    unfold fM_showsFalse_a29
    refine x_iload_n (pc' := 30) K 0 dX8_showsFalse_29 rfl rfl ?_
    exact x_ro (C9 := XEnd below s D h0 (fun v => .inl (some (xI v))) Q) (x_iret K rfl hr dX8_showsFalse_30)
  refine (?_ : XF p l e R s m args below meth c D 4 h0 Q 0 [(0, xR v0), (1, xI v1)] [] h0 (fM_showsFalse v0 v1 h0) (fun z => XEnd below s D h0 (fun v => .inl (some (xI v))) Q (z, h0))) a hF hQ.symm
  unfold fM_showsFalse
  refine x_iconst (pc' := 1) (v := 0) K dX8_showsFalse_0 rfl rfl ?_
  refine x_istore_n (pc' := 2) (lv' := [(2, xI (0 : Int32)), (0, xR v0), (1, xI v1)]) K dX8_showsFalse_1 rfl (by decide) rfl ?_
  refine x_iconst (pc' := 3) (v := 0) K dX8_showsFalse_2 rfl rfl ?_
  refine x_istore_n (pc' := 4) (lv' := [(3, xI (0 : Int32)), (2, xI (0 : Int32)), (0, xR v0), (1, xI v1)]) K dX8_showsFalse_3 rfl (by decide) rfl ?_
  refine x_sub (lv' := [(0, xR v0), (1, xI v1), (2, xI (0 : Int32)), (3, xI (0 : Int32))]) [2, 3, 1, 0] rfl ?_
  exact x_loop (pl := (fun s9 : (Nat × Int32 × Int32 × Int32) => [(0, xR s9.1), (1, xI s9.2.1), (2, xI s9.2.2.1), (3, xI s9.2.2.2)])) (ph := (fun s9 : (Nat × Int32 × Int32 × Int32) => h0)) (fun r9 : Int32 => XG p l e R s m args below meth c D 4 h0 Q 29 [(2, xI r9)] [] h0) (fun s9 => hL4 _ (fun _ hz => hz) (fun _ hz => hz) s9.1 s9.2.1 s9.2.2.1 s9.2.2.2) (fun r9 x hx hc => hA29_0 r9 x hx hc) (v0, v1, (0 : Int32), (0 : Int32))
/-! FaceCoinsModel.of(II)I -/
noncomputable def fM_of (v0 : Nat) (v1 : Int32) (v2 : Int32) (h0 : AH) : Option (Int32 × AH) :=
  xb2 (xck h0 v0 14 (fM_lay v0 h0)) fun x_ g1 =>
  (xck g1 v0 14 (fM_isCoin v0 v1 g1)).bind fun x2 =>
  if x2 = 0 then (
    xb2 (xck g1 v0 14 (fM_refuse v0 g1)) fun x3 g4 =>
    some ((x3, g4)))
  else (
    (fM_isIn v2 (0 : Int32) (4 : Int32) g1).bind fun x5 =>
    if x5 = 0 then (
      xb2 (xck g1 v0 14 (fM_refuse v0 g1)) fun x12 g13 =>
      some ((x12, g13)))
    else (
      (xpi g1 v0 [14] 0 (0 : Int32)).bind fun g6 =>
      if v2 = 0 then (
        (xck g6 v0 14 (fM_ofCoin v0 v1 (0 : Int32) g6)).bind fun x11 =>
        some ((x11, g6)))
      else (
        if v2 = (1 : Int32) then (
          (xck g6 v0 14 (fM_ofCoin v0 v1 (1 : Int32) g6)).bind fun x10 =>
          some ((x10, g6)))
        else (
          if v2 = (2 : Int32) then (
            (xck g6 v0 14 (fM_ofCoin v0 v1 (3 : Int32) g6)).bind fun x9 =>
            some ((x9, g6)))
          else (
            if v2 = (3 : Int32) then (
              (xck g6 v0 14 (fM_ofCoin v0 v1 (2 : Int32) g6)).bind fun x8 =>
              some ((x8, g6)))
            else (
              (xck g6 v0 14 (fM_showsFalse v0 v1 g6)).bind fun x7 =>
              some ((x7, g6))))))))
set_option maxHeartbeats 4000000 in
theorem ct_X8_of {l : Launch} {D : XD} {v0 : Nat} {v1 : Int32} {v2 : Int32} {h0 : AH} {a : Int32} {h1 : AH} (hF : fM_of v0 v1 v2 h0 = some (a, h1)) : XCt l D yX8_of (ws_ yX8_of cX8_of 3 (some .int)) 3 67 [xR v0, xI v1, xI v2] h0 (.inl (some (xI a))) h1 := by
  refine x_method (by decide) (Nat.le_of_ble_eq_true rfl) fun p e R s m args below meth c K hr hnm hex => ?_
  have K : XO p R s m args meth c D 3 h0 cX8_of "FaceCoinsModel" 3 67 := K
  generalize hQ : XMQ below _ _ _ _ _ _ = Q
  refine (?_ : XF p l e R s m args below meth c D 3 h0 Q 0 [(0, xR v0), (1, xI v1), (2, xI v2)] [] h0 (fM_of v0 v1 v2 h0) (XEnd below s D h0 (fun v => .inl (some (xI v))) Q)) (a, h1) hF hQ.symm
  unfold fM_of
  refine x_aload_n (pc' := 1) K 0 dX8_of_0 rfl rfl ?_
  refine x_cV (pc' := 4) (As := []) (en := (fun _ => none)) (rest := []) K (fun a h1 hF => ct_X8_lay hF) rfl (by decide) q1479 q1481 qs31 q1482 q105 hy_X8_lay (Nat.le_of_ble_eq_true rfl) (Nat.le_of_ble_eq_true rfl) (Nat.le_of_ble_eq_true rfl) dX8_of_1 rfl (fun x_ g1 => ?_)
  refine x_aload_n (pc' := 5) K 0 dX8_of_4 rfl rfl ?_
  refine x_iload_n (pc' := 6) K 1 dX8_of_5 rfl rfl ?_
  refine x_cVO (pc' := 9) (As := [xI v1]) (en := (fun v => some (xI v))) (rest := []) K (fun a hF => ct_X8_isCoin hF) rfl (by decide) q1654 q1656 qs64 q1657 q105 hy_X8_isCoin (Nat.le_of_ble_eq_true rfl) (Nat.le_of_ble_eq_true rfl) (Nat.le_of_ble_eq_true rfl) dX8_of_6 rfl (fun x2 => ?_)
  refine x_if_eq (tgt := 21) (pc' := 12) K dX8_of_9 rfl (by decide) ?_ ?_
  · refine x_aload_n (pc' := 22) K 0 dX8_of_21 rfl rfl ?_
    refine x_cV (pc' := 25) (As := []) (en := (fun v => some (xI v))) (rest := []) K (fun a h1 hF => ct_X8_refuse hF) rfl (by decide) q1594 q1596 qs52 q1597 q105 hy_X8_refuse (Nat.le_of_ble_eq_true rfl) (Nat.le_of_ble_eq_true rfl) (Nat.le_of_ble_eq_true rfl) dX8_of_22 rfl (fun x3 g4 => ?_)
    exact x_iret K rfl hr dX8_of_25
  · refine x_iload_n (pc' := 13) K 2 dX8_of_12 rfl rfl ?_
    refine x_iconst (pc' := 14) (v := 0) K dX8_of_13 rfl rfl ?_
    refine x_iconst (pc' := 15) (v := 4) K dX8_of_14 rfl rfl ?_
    refine x_cSO (pc' := 18) (As := [xI v2, xI (0 : Int32), xI (4 : Int32)]) (en := (fun v => some (xI v))) (rest := []) K (fun a hF => ct_X8_isIn hF) rfl q1552 q1553 q1554 q105 hy_X8_isIn (Nat.le_of_ble_eq_true rfl) (Nat.le_of_ble_eq_true rfl) (Nat.le_of_ble_eq_true rfl) dX8_of_15 rfl (fun x5 => ?_)
    refine x_if_ne (tgt := 26) (pc' := 21) K dX8_of_18 rfl (by decide) ?_ ?_
    · refine x_aload_n (pc' := 27) K 0 dX8_of_26 rfl rfl ?_
      refine x_iconst (pc' := 28) (v := 0) K dX8_of_27 rfl rfl ?_
      refine x_puti (pc' := 31) K fp_14_0 (Or.inl (K.2.2.2.2.1 _ q1312)) (fun _ h9 => h9) (Or.inl rfl) dX8_of_28 rfl (fun g6 => ?_)
      refine x_iload_n (pc' := 32) K 2 dX8_of_31 rfl rfl ?_
      refine x_if_ne (tgt := 44) (pc' := 35) K dX8_of_32 rfl (by decide) ?_ ?_
      · refine x_iload_n (pc' := 45) K 2 dX8_of_44 rfl rfl ?_
        refine x_iconst (pc' := 46) (v := 1) K dX8_of_45 rfl rfl ?_
        refine x_icmp_ne (tgt := 58) (pc' := 49) K dX8_of_46 rfl (by decide) ?_ ?_
        · refine x_iload_n (pc' := 59) K 2 dX8_of_58 rfl rfl ?_
          refine x_iconst (pc' := 60) (v := 2) K dX8_of_59 rfl rfl ?_
          refine x_icmp_ne (tgt := 72) (pc' := 63) K dX8_of_60 rfl (by decide) ?_ ?_
          · refine x_iload_n (pc' := 73) K 2 dX8_of_72 rfl rfl ?_
            refine x_iconst (pc' := 74) (v := 3) K dX8_of_73 rfl rfl ?_
            refine x_icmp_ne (tgt := 86) (pc' := 77) K dX8_of_74 rfl (by decide) ?_ ?_
            · refine x_aload_n (pc' := 87) K 0 dX8_of_86 rfl rfl ?_
              refine x_iload_n (pc' := 88) K 1 dX8_of_87 rfl rfl ?_
              refine x_cVO (pc' := 91) (As := [xI v1]) (en := (fun v => some (xI v))) (rest := []) K (fun a hF => ct_X8_showsFalse hF) rfl (by decide) q1658 q1660 qs65 q1661 q105 hy_X8_showsFalse (Nat.le_of_ble_eq_true rfl) (Nat.le_of_ble_eq_true rfl) (Nat.le_of_ble_eq_true rfl) dX8_of_88 rfl (fun x7 => ?_)
              exact x_iret K rfl hr dX8_of_91
            · refine x_aload_n (pc' := 78) K 0 dX8_of_77 rfl rfl ?_
              refine x_iload_n (pc' := 79) K 1 dX8_of_78 rfl rfl ?_
              refine x_iconst (pc' := 80) (v := 2) K dX8_of_79 rfl rfl ?_
              refine x_cVO (pc' := 83) (As := [xI v1, xI (2 : Int32)]) (en := (fun v => some (xI v))) (rest := []) K (fun a hF => ct_X8_ofCoin hF) rfl (by decide) q1610 q1612 qs56 q1613 q105 hy_X8_ofCoin (Nat.le_of_ble_eq_true rfl) (Nat.le_of_ble_eq_true rfl) (Nat.le_of_ble_eq_true rfl) dX8_of_80 rfl (fun x8 => ?_)
              refine x_goto (tgt := 91) K dX8_of_83 (by decide) ?_
              exact x_iret K rfl hr dX8_of_91
          · refine x_aload_n (pc' := 64) K 0 dX8_of_63 rfl rfl ?_
            refine x_iload_n (pc' := 65) K 1 dX8_of_64 rfl rfl ?_
            refine x_iconst (pc' := 66) (v := 3) K dX8_of_65 rfl rfl ?_
            refine x_cVO (pc' := 69) (As := [xI v1, xI (3 : Int32)]) (en := (fun v => some (xI v))) (rest := []) K (fun a hF => ct_X8_ofCoin hF) rfl (by decide) q1610 q1612 qs56 q1613 q105 hy_X8_ofCoin (Nat.le_of_ble_eq_true rfl) (Nat.le_of_ble_eq_true rfl) (Nat.le_of_ble_eq_true rfl) dX8_of_66 rfl (fun x9 => ?_)
            refine x_goto (tgt := 91) K dX8_of_69 (by decide) ?_
            exact x_iret K rfl hr dX8_of_91
        · refine x_aload_n (pc' := 50) K 0 dX8_of_49 rfl rfl ?_
          refine x_iload_n (pc' := 51) K 1 dX8_of_50 rfl rfl ?_
          refine x_iconst (pc' := 52) (v := 1) K dX8_of_51 rfl rfl ?_
          refine x_cVO (pc' := 55) (As := [xI v1, xI (1 : Int32)]) (en := (fun v => some (xI v))) (rest := []) K (fun a hF => ct_X8_ofCoin hF) rfl (by decide) q1610 q1612 qs56 q1613 q105 hy_X8_ofCoin (Nat.le_of_ble_eq_true rfl) (Nat.le_of_ble_eq_true rfl) (Nat.le_of_ble_eq_true rfl) dX8_of_52 rfl (fun x10 => ?_)
          refine x_goto (tgt := 91) K dX8_of_55 (by decide) ?_
          exact x_iret K rfl hr dX8_of_91
      · refine x_aload_n (pc' := 36) K 0 dX8_of_35 rfl rfl ?_
        refine x_iload_n (pc' := 37) K 1 dX8_of_36 rfl rfl ?_
        refine x_iconst (pc' := 38) (v := 0) K dX8_of_37 rfl rfl ?_
        refine x_cVO (pc' := 41) (As := [xI v1, xI (0 : Int32)]) (en := (fun v => some (xI v))) (rest := []) K (fun a hF => ct_X8_ofCoin hF) rfl (by decide) q1610 q1612 qs56 q1613 q105 hy_X8_ofCoin (Nat.le_of_ble_eq_true rfl) (Nat.le_of_ble_eq_true rfl) (Nat.le_of_ble_eq_true rfl) dX8_of_38 rfl (fun x11 => ?_)
        refine x_goto (tgt := 91) K dX8_of_41 (by decide) ?_
        exact x_iret K rfl hr dX8_of_91
    · refine x_aload_n (pc' := 22) K 0 dX8_of_21 rfl rfl ?_
      refine x_cV (pc' := 25) (As := []) (en := (fun v => some (xI v))) (rest := []) K (fun a h1 hF => ct_X8_refuse hF) rfl (by decide) q1594 q1596 qs52 q1597 q105 hy_X8_refuse (Nat.le_of_ble_eq_true rfl) (Nat.le_of_ble_eq_true rfl) (Nat.le_of_ble_eq_true rfl) dX8_of_22 rfl (fun x12 g13 => ?_)
      exact x_iret K rfl hr dX8_of_25
/-! FaceCoinsModel.face(III)I -/
noncomputable def fM_face (v0 : Nat) (v1 : Int32) (v2 : Int32) (v3 : Int32) (h0 : AH) : Option (Int32 × AH) :=
  (xpi h0 v0 [14] 0 (0 : Int32)).bind fun g1 =>
  xb2 (xck g1 v0 14 (fM_lay v0 g1)) fun x_ g2 =>
  (xck g2 v0 14 (fM_isCoin v0 v1 g2)).bind fun x3 =>
  if x3 = 0 then (
    some ((((-1) : Int32), g2)))
  else (
    if v2 < 0 then (
      some ((((-1) : Int32), g2)))
    else (
      (xck g2 v0 14 (fM_ofCoin v0 v1 (3 : Int32) g2)).bind fun x4 =>
      if x4 ≤ v2 then (
        some ((((-1) : Int32), g2)))
      else (
        (fM_isIn v3 (0 : Int32) (2 : Int32) g2).bind fun x5 =>
        if x5 = 0 then (
          some ((((-1) : Int32), g2)))
        else (
          (xck g2 v0 14 (fM_ofCoin v0 v1 (((4 : Int32) + ((3 : Int32) * v2)) + v3) g2)).bind fun x6 =>
          some ((x6, g2))))))
set_option maxHeartbeats 4000000 in
theorem ct_X8_face {l : Launch} {D : XD} {v0 : Nat} {v1 : Int32} {v2 : Int32} {v3 : Int32} {h0 : AH} {a : Int32} {h1 : AH} (hF : fM_face v0 v1 v2 v3 h0 = some (a, h1)) : XCt l D yX8_face (ws_ yX8_face cX8_face 4 (some .int)) 2 41 [xR v0, xI v1, xI v2, xI v3] h0 (.inl (some (xI a))) h1 := by
  refine x_method (by decide) (Nat.le_of_ble_eq_true rfl) fun p e R s m args below meth c K hr hnm hex => ?_
  have K : XO p R s m args meth c D 4 h0 cX8_face "FaceCoinsModel" 2 41 := K
  generalize hQ : XMQ below _ _ _ _ _ _ = Q
  refine (?_ : XF p l e R s m args below meth c D 4 h0 Q 0 [(0, xR v0), (1, xI v1), (2, xI v2), (3, xI v3)] [] h0 (fM_face v0 v1 v2 v3 h0) (XEnd below s D h0 (fun v => .inl (some (xI v))) Q)) (a, h1) hF hQ.symm
  unfold fM_face
  refine x_aload_n (pc' := 1) K 0 dX8_face_0 rfl rfl ?_
  refine x_iconst (pc' := 2) (v := 0) K dX8_face_1 rfl rfl ?_
  refine x_puti (pc' := 5) K fp_14_0 (Or.inl (K.2.2.2.2.1 _ q1312)) (fun _ h9 => h9) (Or.inl rfl) dX8_face_2 rfl (fun g1 => ?_)
  refine x_aload_n (pc' := 6) K 0 dX8_face_5 rfl rfl ?_
  refine x_cV (pc' := 9) (As := []) (en := (fun _ => none)) (rest := []) K (fun a h1 hF => ct_X8_lay hF) rfl (by decide) q1479 q1481 qs31 q1482 q105 hy_X8_lay (Nat.le_of_ble_eq_true rfl) (Nat.le_of_ble_eq_true rfl) (Nat.le_of_ble_eq_true rfl) dX8_face_6 rfl (fun x_ g2 => ?_)
  refine x_aload_n (pc' := 10) K 0 dX8_face_9 rfl rfl ?_
  refine x_iload_n (pc' := 11) K 1 dX8_face_10 rfl rfl ?_
  refine x_cVO (pc' := 14) (As := [xI v1]) (en := (fun v => some (xI v))) (rest := []) K (fun a hF => ct_X8_isCoin hF) rfl (by decide) q1654 q1656 qs64 q1657 q105 hy_X8_isCoin (Nat.le_of_ble_eq_true rfl) (Nat.le_of_ble_eq_true rfl) (Nat.le_of_ble_eq_true rfl) dX8_face_11 rfl (fun x3 => ?_)
  refine x_if_eq (tgt := 55) (pc' := 17) K dX8_face_14 rfl (by decide) ?_ ?_
  · refine x_iconst (pc' := 56) (v := (-1)) K dX8_face_55 rfl rfl ?_
    exact x_iret K rfl hr dX8_face_56
  · refine x_iload_n (pc' := 18) K 2 dX8_face_17 rfl rfl ?_
    refine x_if_lt (tgt := 55) (pc' := 21) K dX8_face_18 rfl (by decide) ?_ ?_
    · refine x_iconst (pc' := 56) (v := (-1)) K dX8_face_55 rfl rfl ?_
      exact x_iret K rfl hr dX8_face_56
    · refine x_iload_n (pc' := 22) K 2 dX8_face_21 rfl rfl ?_
      refine x_aload_n (pc' := 23) K 0 dX8_face_22 rfl rfl ?_
      refine x_iload_n (pc' := 24) K 1 dX8_face_23 rfl rfl ?_
      refine x_iconst (pc' := 25) (v := 3) K dX8_face_24 rfl rfl ?_
      refine x_cVO (pc' := 28) (As := [xI v1, xI (3 : Int32)]) (en := (fun v => some (xI v))) (rest := [xI v2]) K (fun a hF => ct_X8_ofCoin hF) rfl (by decide) q1610 q1612 qs56 q1613 q105 hy_X8_ofCoin (Nat.le_of_ble_eq_true rfl) (Nat.le_of_ble_eq_true rfl) (Nat.le_of_ble_eq_true rfl) dX8_face_25 rfl (fun x4 => ?_)
      refine x_icmp_ge (tgt := 55) (pc' := 31) K dX8_face_28 rfl (by decide) ?_ ?_
      · refine x_iconst (pc' := 56) (v := (-1)) K dX8_face_55 rfl rfl ?_
        exact x_iret K rfl hr dX8_face_56
      · refine x_iload_n (pc' := 32) K 3 dX8_face_31 rfl rfl ?_
        refine x_iconst (pc' := 33) (v := 0) K dX8_face_32 rfl rfl ?_
        refine x_iconst (pc' := 34) (v := 2) K dX8_face_33 rfl rfl ?_
        refine x_cSO (pc' := 37) (As := [xI v3, xI (0 : Int32), xI (2 : Int32)]) (en := (fun v => some (xI v))) (rest := []) K (fun a hF => ct_X8_isIn hF) rfl q1552 q1553 q1554 q105 hy_X8_isIn (Nat.le_of_ble_eq_true rfl) (Nat.le_of_ble_eq_true rfl) (Nat.le_of_ble_eq_true rfl) dX8_face_34 rfl (fun x5 => ?_)
        refine x_if_eq (tgt := 55) (pc' := 40) K dX8_face_37 rfl (by decide) ?_ ?_
        · refine x_iconst (pc' := 56) (v := (-1)) K dX8_face_55 rfl rfl ?_
          exact x_iret K rfl hr dX8_face_56
        · refine x_aload_n (pc' := 41) K 0 dX8_face_40 rfl rfl ?_
          refine x_iload_n (pc' := 42) K 1 dX8_face_41 rfl rfl ?_
          refine x_iconst (pc' := 43) (v := 4) K dX8_face_42 rfl rfl ?_
          refine x_iconst (pc' := 44) (v := 3) K dX8_face_43 rfl rfl ?_
          refine x_iload_n (pc' := 45) K 2 dX8_face_44 rfl rfl ?_
          refine x_imul (pc' := 46) K dX8_face_45 rfl ?_
          refine x_iadd (pc' := 47) K dX8_face_46 rfl ?_
          refine x_iload_n (pc' := 48) K 3 dX8_face_47 rfl rfl ?_
          refine x_iadd (pc' := 49) K dX8_face_48 rfl ?_
          refine x_cVO (pc' := 52) (As := [xI v1, xI (((4 : Int32) + ((3 : Int32) * v2)) + v3)]) (en := (fun v => some (xI v))) (rest := []) K (fun a hF => ct_X8_ofCoin hF) rfl (by decide) q1610 q1612 qs56 q1613 q105 hy_X8_ofCoin (Nat.le_of_ble_eq_true rfl) (Nat.le_of_ble_eq_true rfl) (Nat.le_of_ble_eq_true rfl) dX8_face_49 rfl (fun x6 => ?_)
          refine x_goto (tgt := 56) K dX8_face_52 (by decide) ?_
          exact x_iret K rfl hr dX8_face_56
/-! FaceCoinsModel.luckOf()I -/
noncomputable def fM_luckOf_l9 (v0 : Nat) (v1 : Int32) (v2 : Int32) (h0 : AH) : Option ((Nat × Int32 × Int32) ⊕ Int32) :=
  (xck h0 v0 14 (fM_coins v0 h0)).bind fun x3 =>
  if x3 ≤ v2 then (
    some (Sum.inr v1))
  else (
    (xck h0 v0 14 (fM_topOf v0 v2 h0)).bind fun x4 =>
    (xck h0 v0 14 (fM_ofWho v0 x4 (0 : Int32) h0)).bind fun x5 =>
    if x5 ≤ 0 then (
      some (Sum.inl (v0, v1, (v2 + 1))))
    else (
      some (Sum.inl (v0, (v1 + (-1)), (v2 + 1)))))
noncomputable def fM_luckOf_a39 (v1 : Int32) (h0 : AH) : Option Int32 :=
  if v1 ≤ 0 then (
    some ((0 : Int32)))
  else (
    some (v1))
noncomputable def fM_luckOf (v0 : Nat) (h0 : AH) : Option Int32 :=
  (xgr h0 v0 [14] 14).bind fun x1 =>
  (xai h0 x1 100 (3 : Int32)).bind fun x2 =>
  (xloop (fun s9 : (Nat × Int32 × Int32) => fM_luckOf_l9 s9.1 s9.2.1 s9.2.2 h0) (v0, x2, (0 : Int32))).bind (fun r9 : Int32 => fM_luckOf_a39 r9 h0)
set_option maxHeartbeats 4000000 in
theorem ct_X8_luckOf {l : Launch} {D : XD} {v0 : Nat} {h0 : AH} {a : Int32} (hF : fM_luckOf v0 h0 = some a) : XCt l D yX8_luckOf (ws_ yX8_luckOf cX8_luckOf 3 (some .int)) 2 43 [xR v0] h0 (.inl (some (xI a))) h0 := by
  refine x_method (by decide) (Nat.le_of_ble_eq_true rfl) fun p e R s m args below meth c K hr hnm hex => ?_
  have K : XO p R s m args meth c D 3 h0 cX8_luckOf "FaceCoinsModel" 2 43 := K
  generalize hQ : XMQ below _ _ _ _ _ _ = Q
  have hL9 : ∀ (C1 : ((Nat × Int32 × Int32) ⊕ Int32) → Prop) (hj1 : ∀ s9 : (Nat × Int32 × Int32), C1 (Sum.inl s9) → XG p l e R s m args below meth c D 3 h0 Q 9 [(0, xR s9.1), (1, xI s9.2.1), (2, xI s9.2.2)] [] h0) (he1 : ∀ r9 : Int32, C1 (Sum.inr r9) → XG p l e R s m args below meth c D 3 h0 Q 39 [(1, xI r9)] [] h0) (v0 : Nat) (v1 : Int32) (v2 : Int32), XF p l e R s m args below meth c D 3 h0 Q 9 [(0, xR v0), (1, xI v1), (2, xI v2)] [] h0 (fM_luckOf_l9 v0 v1 v2 h0) C1 := by
    intro C1 hj1 he1
    intro v0 v1 v2
    unfold fM_luckOf_l9
    refine x_iload_n (pc' := 10) K 2 dX8_luckOf_9 rfl rfl ?_
    refine x_aload_n (pc' := 11) K 0 dX8_luckOf_10 rfl rfl ?_
    refine x_cVO (pc' := 14) (As := []) (en := (fun v => some (xI v))) (rest := [xI v2]) K (fun a hF => ct_X8_coins hF) rfl (by decide) q1602 q1604 qs54 q1605 q105 hy_X8_coins (Nat.le_of_ble_eq_true rfl) (Nat.le_of_ble_eq_true rfl) (Nat.le_of_ble_eq_true rfl) dX8_luckOf_11 rfl (fun x3 => ?_)
    refine x_icmp_ge (tgt := 39) (pc' := 17) K dX8_luckOf_14 rfl (by decide) ?_ ?_
    · refine x_sub (lv' := [(1, xI v1)]) [1] rfl ?_
      exact x_jump (fun hz => he1 v1 hz)
    · refine x_aload_n (pc' := 18) K 0 dX8_luckOf_17 rfl rfl ?_
      refine x_aload_n (pc' := 19) K 0 dX8_luckOf_18 rfl rfl ?_
      refine x_iload_n (pc' := 20) K 2 dX8_luckOf_19 rfl rfl ?_
      refine x_cVO (pc' := 23) (As := [xI v2]) (en := (fun v => some (xI v))) (rest := [xR v0]) K (fun a hF => ct_X8_topOf hF) rfl (by decide) q1606 q1608 qs55 q1609 q105 hy_X8_topOf (Nat.le_of_ble_eq_true rfl) (Nat.le_of_ble_eq_true rfl) (Nat.le_of_ble_eq_true rfl) dX8_luckOf_20 rfl (fun x4 => ?_)
      refine x_iconst (pc' := 24) (v := 0) K dX8_luckOf_23 rfl rfl ?_
      refine x_cVO (pc' := 27) (As := [xI x4, xI (0 : Int32)]) (en := (fun v => some (xI v))) (rest := []) K (fun a hF => ct_X8_ofWho hF) rfl (by decide) q1598 q1600 qs53 q1601 q105 hy_X8_ofWho (Nat.le_of_ble_eq_true rfl) (Nat.le_of_ble_eq_true rfl) (Nat.le_of_ble_eq_true rfl) dX8_luckOf_24 rfl (fun x5 => ?_)
      refine x_if_le (tgt := 33) (pc' := 30) K dX8_luckOf_27 rfl (by decide) ?_ ?_
      · refine x_iinc (pc' := 36) (y := 1) (lv' := [(2, xI (v2 + 1)), (0, xR v0), (1, xI v1)]) K 2 dX8_luckOf_33 rfl rfl (by decide) (by decide) rfl ?_
        refine x_goto (tgt := 9) K dX8_luckOf_36 (by decide) ?_
        refine x_sub (lv' := [(0, xR v0), (1, xI v1), (2, xI (v2 + 1))]) [1, 2, 0] rfl ?_
        exact x_jump (fun hz => hj1 (v0, v1, (v2 + 1)) hz)
      · refine x_iinc (pc' := 33) (y := (-1)) (lv' := [(1, xI (v1 + (-1))), (0, xR v0), (2, xI v2)]) K 1 dX8_luckOf_30 rfl rfl (by decide) (by decide) rfl ?_
        refine x_iinc (pc' := 36) (y := 1) (lv' := [(2, xI (v2 + 1)), (1, xI (v1 + (-1))), (0, xR v0)]) K 2 dX8_luckOf_33 rfl rfl (by decide) (by decide) rfl ?_
        refine x_goto (tgt := 9) K dX8_luckOf_36 (by decide) ?_
        refine x_sub (lv' := [(0, xR v0), (1, xI (v1 + (-1))), (2, xI (v2 + 1))]) [2, 1, 0] rfl ?_
        exact x_jump (fun hz => hj1 (v0, (v1 + (-1)), (v2 + 1)) hz)
  have hA39_0 : ∀ (v1 : Int32), XF p l e R s m args below meth c D 3 h0 Q 39 [(1, xI v1)] [] h0 (fM_luckOf_a39 v1 h0) (fun z => XEnd below s D h0 (fun v => .inl (some (xI v))) Q (z, h0)) := by
    intro v1
    unfold fM_luckOf_a39
    refine x_iload_n (pc' := 40) K 0 dX8_luckOf_39 rfl rfl ?_
    refine x_if_le (tgt := 47) (pc' := 43) K dX8_luckOf_40 rfl (by decide) ?_ ?_
    · refine x_iconst (pc' := 48) (v := 0) K dX8_luckOf_47 rfl rfl ?_
      exact x_ro (C9 := XEnd below s D h0 (fun v => .inl (some (xI v))) Q) (x_iret K rfl hr dX8_luckOf_48)
    · refine x_iload_n (pc' := 44) K 0 dX8_luckOf_43 rfl rfl ?_
      refine x_goto (tgt := 48) K dX8_luckOf_44 (by decide) ?_
      exact x_ro (C9 := XEnd below s D h0 (fun v => .inl (some (xI v))) Q) (x_iret K rfl hr dX8_luckOf_48)
  refine (?_ : XF p l e R s m args below meth c D 3 h0 Q 0 [(0, xR v0)] [] h0 (fM_luckOf v0 h0) (fun z => XEnd below s D h0 (fun v => .inl (some (xI v))) Q (z, h0))) a hF hQ.symm
  unfold fM_luckOf
  refine x_aload_n (pc' := 1) K 0 dX8_luckOf_0 rfl rfl ?_
  refine x_getr (pc' := 4) K fg_14_14 (Or.inl (K.2.2.2.2.1 _ q1326)) (fun _ h9 => h9) dX8_luckOf_1 rfl (fun x1 => ?_)
  refine x_iconst (pc' := 5) (v := 3) K dX8_luckOf_4 rfl rfl ?_
  refine x_iald (pc' := 6) K dX8_luckOf_5 rfl (fun x2 => ?_)
  refine x_istore_n (pc' := 7) (lv' := [(1, xI x2), (0, xR v0)]) K dX8_luckOf_6 rfl (by decide) rfl ?_
  refine x_iconst (pc' := 8) (v := 0) K dX8_luckOf_7 rfl rfl ?_
  refine x_istore_n (pc' := 9) (lv' := [(2, xI (0 : Int32)), (1, xI x2), (0, xR v0)]) K dX8_luckOf_8 rfl (by decide) rfl ?_
  refine x_sub (lv' := [(0, xR v0), (1, xI x2), (2, xI (0 : Int32))]) [2, 1, 0] rfl ?_
  exact x_loop (pl := (fun s9 : (Nat × Int32 × Int32) => [(0, xR s9.1), (1, xI s9.2.1), (2, xI s9.2.2)])) (ph := (fun s9 : (Nat × Int32 × Int32) => h0)) (fun r9 : Int32 => XG p l e R s m args below meth c D 3 h0 Q 39 [(1, xI r9)] [] h0) (fun s9 => hL9 _ (fun _ hz => hz) (fun _ hz => hz) s9.1 s9.2.1 s9.2.2) (fun r9 x hx hc => hA39_0 r9 x hx hc) (v0, x2, (0 : Int32))
/-! FaceCoinsModel.luck()I -/
noncomputable def fM_luck (v0 : Nat) (h0 : AH) : Option (Int32 × AH) :=
  (xpi h0 v0 [14] 0 (0 : Int32)).bind fun g1 =>
  xb2 (xck g1 v0 14 (fM_lay v0 g1)) fun x_ g2 =>
  (xck g2 v0 14 (fM_luckOf v0 g2)).bind fun x3 =>
  some ((x3, g2))
set_option maxHeartbeats 4000000 in
theorem ct_X8_luck {l : Launch} {D : XD} {v0 : Nat} {h0 : AH} {a : Int32} {h1 : AH} (hF : fM_luck v0 h0 = some (a, h1)) : XCt l D yX8_luck (ws_ yX8_luck cX8_luck 1 (some .int)) 3 65 [xR v0] h0 (.inl (some (xI a))) h1 := by
  refine x_method (by decide) (Nat.le_of_ble_eq_true rfl) fun p e R s m args below meth c K hr hnm hex => ?_
  have K : XO p R s m args meth c D 1 h0 cX8_luck "FaceCoinsModel" 3 65 := K
  generalize hQ : XMQ below _ _ _ _ _ _ = Q
  refine (?_ : XF p l e R s m args below meth c D 1 h0 Q 0 [(0, xR v0)] [] h0 (fM_luck v0 h0) (XEnd below s D h0 (fun v => .inl (some (xI v))) Q)) (a, h1) hF hQ.symm
  unfold fM_luck
  refine x_aload_n (pc' := 1) K 0 dX8_luck_0 rfl rfl ?_
  refine x_iconst (pc' := 2) (v := 0) K dX8_luck_1 rfl rfl ?_
  refine x_puti (pc' := 5) K fp_14_0 (Or.inl (K.2.2.2.2.1 _ q1312)) (fun _ h9 => h9) (Or.inl rfl) dX8_luck_2 rfl (fun g1 => ?_)
  refine x_aload_n (pc' := 6) K 0 dX8_luck_5 rfl rfl ?_
  refine x_cV (pc' := 9) (As := []) (en := (fun _ => none)) (rest := []) K (fun a h1 hF => ct_X8_lay hF) rfl (by decide) q1479 q1481 qs31 q1482 q105 hy_X8_lay (Nat.le_of_ble_eq_true rfl) (Nat.le_of_ble_eq_true rfl) (Nat.le_of_ble_eq_true rfl) dX8_luck_6 rfl (fun x_ g2 => ?_)
  refine x_aload_n (pc' := 10) K 0 dX8_luck_9 rfl rfl ?_
  refine x_cVO (pc' := 13) (As := []) (en := (fun v => some (xI v))) (rest := []) K (fun a hF => ct_X8_luckOf hF) rfl (by decide) q1674 q1676 qs67 q1677 q105 hy_X8_luckOf (Nat.le_of_ble_eq_true rfl) (Nat.le_of_ble_eq_true rfl) (Nat.le_of_ble_eq_true rfl) dX8_luck_10 rfl (fun x3 => ?_)
  exact x_iret K rfl hr dX8_luck_13
/-! FaceCoinsModel.hundredths(III)I -/
noncomputable def fM_hundredths_b67 (v0 : Nat) (v2 : Int32) (v3 : Int32) (t0 : Int32) (h0 : AH) : Option Int32 :=
  (xck h0 v0 14 (fM_ofWho v0 v2 (0 : Int32) h0)).bind fun x5 =>
  if x5 ≤ 0 then (
    some (t0))
  else (
    some ((t0 + v3)))
noncomputable def fM_hundredths (v0 : Nat) (v1 : Int32) (v2 : Int32) (v3 : Int32) (h0 : AH) : Option Int32 :=
  if v2 = v1 then (
    some ((100 : Int32)))
  else (
    (xck h0 v0 14 (fM_ofWho v0 v2 (1 : Int32) h0)).bind fun x1 =>
    if x1 ≤ 0 then (
      (xgr h0 v0 [14] 14).bind fun x2 =>
      (xai h0 x2 100 (((44 : Int32) + ((8 : Int32) * v1)) + v2)).bind fun x3 =>
      (xck h0 v0 14 (fM_ofWho v0 v2 (2 : Int32) h0)).bind fun x4 =>
      if x4 ≤ 0 then (
        if x3 = 0 then (
          fM_hundredths_b67 v0 v2 v3 (100 : Int32) h0)
        else (
          fM_hundredths_b67 v0 v2 v3 (x3 - (1 : Int32)) h0))
      else (
        (xgr h0 v0 [14] 14).bind fun x6 =>
        (xai h0 x6 100 (4 : Int32)).bind fun x7 =>
        fM_hundredths_b67 v0 v2 v3 x7 h0))
    else (
      some ((0 : Int32))))
set_option maxHeartbeats 4000000 in
theorem ct_X8_hundredths {l : Launch} {D : XD} {v0 : Nat} {v1 : Int32} {v2 : Int32} {v3 : Int32} {h0 : AH} {a : Int32} (hF : fM_hundredths v0 v1 v2 v3 h0 = some a) : XCt l D yX8_hundredths (ws_ yX8_hundredths cX8_hundredths 6 (some .int)) 1 22 [xR v0, xI v1, xI v2, xI v3] h0 (.inl (some (xI a))) h0 := by
  refine x_method (by decide) (Nat.le_of_ble_eq_true rfl) fun p e R s m args below meth c K hr hnm hex => ?_
  have K : XO p R s m args meth c D 6 h0 cX8_hundredths "FaceCoinsModel" 1 22 := K
  generalize hQ : XMQ below _ _ _ _ _ _ = Q
  have hB67 : ∀ (v0 : Nat) (v2 : Int32) (v3 : Int32) (t0 : Int32), XF p l e R s m args below meth c D 6 h0 Q 67 [(0, xR v0), (2, xI v2), (3, xI v3)] [xI t0] h0 (fM_hundredths_b67 v0 v2 v3 t0 h0) (fun z => XEnd below s D h0 (fun v => .inl (some (xI v))) Q (z, h0)) := by
    intro v0 v2 v3 t0
    unfold fM_hundredths_b67
    refine x_istore (pc' := 69) (lv' := [(5, xI t0), (0, xR v0), (2, xI v2), (3, xI v3)]) K dX8_hundredths_67 rfl (by decide) rfl ?_
    refine x_aload_n (pc' := 70) K 1 dX8_hundredths_69 rfl rfl ?_
    refine x_iload_n (pc' := 71) K 2 dX8_hundredths_70 rfl rfl ?_
    refine x_iconst (pc' := 72) (v := 0) K dX8_hundredths_71 rfl rfl ?_
    refine x_cVO (pc' := 75) (As := [xI v2, xI (0 : Int32)]) (en := (fun v => some (xI v))) (rest := []) K (fun a hF => ct_X8_ofWho hF) rfl (by decide) q1598 q1600 qs53 q1601 q105 hy_X8_ofWho (Nat.le_of_ble_eq_true rfl) (Nat.le_of_ble_eq_true rfl) (Nat.le_of_ble_eq_true rfl) dX8_hundredths_72 rfl (fun x5 => ?_)
    refine x_if_le (tgt := 85) (pc' := 78) K dX8_hundredths_75 rfl (by decide) ?_ ?_
    · refine x_iload (pc' := 87) K 0 dX8_hundredths_85 rfl rfl ?_
      exact x_ro (C9 := XEnd below s D h0 (fun v => .inl (some (xI v))) Q) (x_iret K rfl hr dX8_hundredths_87)
    · refine x_iload (pc' := 80) K 0 dX8_hundredths_78 rfl rfl ?_
      refine x_iload_n (pc' := 81) K 3 dX8_hundredths_80 rfl rfl ?_
      refine x_iadd (pc' := 82) K dX8_hundredths_81 rfl ?_
      refine x_goto (tgt := 87) K dX8_hundredths_82 (by decide) ?_
      exact x_ro (C9 := XEnd below s D h0 (fun v => .inl (some (xI v))) Q) (x_iret K rfl hr dX8_hundredths_87)
  refine (?_ : XF p l e R s m args below meth c D 6 h0 Q 0 [(0, xR v0), (1, xI v1), (2, xI v2), (3, xI v3)] [] h0 (fM_hundredths v0 v1 v2 v3 h0) (fun z => XEnd below s D h0 (fun v => .inl (some (xI v))) Q (z, h0))) a hF hQ.symm
  unfold fM_hundredths
  refine x_iload_n (pc' := 1) K 2 dX8_hundredths_0 rfl rfl ?_
  refine x_iload_n (pc' := 2) K 1 dX8_hundredths_1 rfl rfl ?_
  refine x_icmp_ne (tgt := 8) (pc' := 5) K dX8_hundredths_2 rfl (by decide) ?_ ?_
  · refine x_aload_n (pc' := 9) K 0 dX8_hundredths_8 rfl rfl ?_
    refine x_iload_n (pc' := 10) K 2 dX8_hundredths_9 rfl rfl ?_
    refine x_iconst (pc' := 11) (v := 1) K dX8_hundredths_10 rfl rfl ?_
    refine x_cVO (pc' := 14) (As := [xI v2, xI (1 : Int32)]) (en := (fun v => some (xI v))) (rest := []) K (fun a hF => ct_X8_ofWho hF) rfl (by decide) q1598 q1600 qs53 q1601 q105 hy_X8_ofWho (Nat.le_of_ble_eq_true rfl) (Nat.le_of_ble_eq_true rfl) (Nat.le_of_ble_eq_true rfl) dX8_hundredths_11 rfl (fun x1 => ?_)
    refine x_if_le (tgt := 19) (pc' := 17) K dX8_hundredths_14 rfl (by decide) ?_ ?_
    · refine x_aload_n (pc' := 20) K 0 dX8_hundredths_19 rfl rfl ?_
      refine x_getr (pc' := 23) K fg_14_14 (Or.inl (K.2.2.2.2.1 _ q1326)) (fun _ h9 => h9) dX8_hundredths_20 rfl (fun x2 => ?_)
      refine x_bipush (pc' := 25) (v := 44) K dX8_hundredths_23 rfl (by decide) ?_
      refine x_bipush (pc' := 27) (v := 8) K dX8_hundredths_25 rfl (by decide) ?_
      refine x_iload_n (pc' := 28) K 1 dX8_hundredths_27 rfl rfl ?_
      refine x_imul (pc' := 29) K dX8_hundredths_28 rfl ?_
      refine x_iadd (pc' := 30) K dX8_hundredths_29 rfl ?_
      refine x_iload_n (pc' := 31) K 2 dX8_hundredths_30 rfl rfl ?_
      refine x_iadd (pc' := 32) K dX8_hundredths_31 rfl ?_
      refine x_iald (pc' := 33) K dX8_hundredths_32 rfl (fun x3 => ?_)
      refine x_istore (pc' := 35) (lv' := [(4, xI x3), (0, xR v0), (1, xI v1), (2, xI v2), (3, xI v3)]) K dX8_hundredths_33 rfl (by decide) rfl ?_
      refine x_aload_n (pc' := 36) K 1 dX8_hundredths_35 rfl rfl ?_
      refine x_iload_n (pc' := 37) K 3 dX8_hundredths_36 rfl rfl ?_
      refine x_iconst (pc' := 38) (v := 2) K dX8_hundredths_37 rfl rfl ?_
      refine x_cVO (pc' := 41) (As := [xI v2, xI (2 : Int32)]) (en := (fun v => some (xI v))) (rest := []) K (fun a hF => ct_X8_ofWho hF) rfl (by decide) q1598 q1600 qs53 q1601 q105 hy_X8_ofWho (Nat.le_of_ble_eq_true rfl) (Nat.le_of_ble_eq_true rfl) (Nat.le_of_ble_eq_true rfl) dX8_hundredths_38 rfl (fun x4 => ?_)
      refine x_if_le (tgt := 53) (pc' := 44) K dX8_hundredths_41 rfl (by decide) ?_ ?_
      · refine x_iload (pc' := 55) K 0 dX8_hundredths_53 rfl rfl ?_
        refine x_if_ne (tgt := 63) (pc' := 58) K dX8_hundredths_55 rfl (by decide) ?_ ?_
        · refine x_iload (pc' := 65) K 0 dX8_hundredths_63 rfl rfl ?_
          refine x_iconst (pc' := 66) (v := 1) K dX8_hundredths_65 rfl rfl ?_
          refine x_isub (pc' := 67) K dX8_hundredths_66 rfl ?_
          refine x_sub (lv' := [(0, xR v0), (2, xI v2), (3, xI v3)]) [1, 3, 4] rfl ?_
          exact hB67 _ _ _ _
        · refine x_bipush (pc' := 60) (v := 100) K dX8_hundredths_58 rfl (by decide) ?_
          refine x_goto (tgt := 67) K dX8_hundredths_60 (by decide) ?_
          refine x_sub (lv' := [(0, xR v0), (2, xI v2), (3, xI v3)]) [1, 3, 4] rfl ?_
          exact hB67 _ _ _ _
      · refine x_aload_n (pc' := 45) K 1 dX8_hundredths_44 rfl rfl ?_
        refine x_getr (pc' := 48) K fg_14_14 (Or.inl (K.2.2.2.2.1 _ q1326)) (fun _ h9 => h9) dX8_hundredths_45 rfl (fun x6 => ?_)
        refine x_iconst (pc' := 49) (v := 4) K dX8_hundredths_48 rfl rfl ?_
        refine x_iald (pc' := 50) K dX8_hundredths_49 rfl (fun x7 => ?_)
        refine x_goto (tgt := 67) K dX8_hundredths_50 (by decide) ?_
        refine x_sub (lv' := [(0, xR v0), (2, xI v2), (3, xI v3)]) [1, 3, 4] rfl ?_
        exact hB67 _ _ _ _
    · refine x_iconst (pc' := 18) (v := 0) K dX8_hundredths_17 rfl rfl ?_
      exact x_ro (C9 := XEnd below s D h0 (fun v => .inl (some (xI v))) Q) (x_iret K rfl hr dX8_hundredths_18)
  · refine x_bipush (pc' := 7) (v := 100) K dX8_hundredths_5 rfl (by decide) ?_
    exact x_ro (C9 := XEnd below s D h0 (fun v => .inl (some (xI v))) Q) (x_iret K rfl hr dX8_hundredths_7)
/-! FaceCoinsModel.valueOf(II)I -/
noncomputable def fM_valueOf (v0 : Nat) (v1 : Int32) (v2 : Int32) (h0 : AH) : Option Int32 :=
  (xck h0 v0 14 (fM_ofCoin v0 v2 (0 : Int32) h0)).bind fun x1 =>
  (xck h0 v0 14 (fM_topOf v0 v2 h0)).bind fun x2 =>
  (xck h0 v0 14 (fM_luckOf v0 h0)).bind fun x3 =>
  (xck h0 v0 14 (fM_hundredths v0 v1 x2 x3 h0)).bind fun x4 =>
  (xdiv (x1 * x4) (100 : Int32)).bind fun x5 =>
  some (x5)
set_option maxHeartbeats 4000000 in
theorem ct_X8_valueOf {l : Launch} {D : XD} {v0 : Nat} {v1 : Int32} {v2 : Int32} {h0 : AH} {a : Int32} (hF : fM_valueOf v0 v1 v2 h0 = some a) : XCt l D yX8_valueOf (ws_ yX8_valueOf cX8_valueOf 3 (some .int)) 3 65 [xR v0, xI v1, xI v2] h0 (.inl (some (xI a))) h0 := by
  refine x_method (by decide) (Nat.le_of_ble_eq_true rfl) fun p e R s m args below meth c K hr hnm hex => ?_
  have K : XO p R s m args meth c D 3 h0 cX8_valueOf "FaceCoinsModel" 3 65 := K
  generalize hQ : XMQ below _ _ _ _ _ _ = Q
  refine (?_ : XF p l e R s m args below meth c D 3 h0 Q 0 [(0, xR v0), (1, xI v1), (2, xI v2)] [] h0 (fM_valueOf v0 v1 v2 h0) (fun z => XEnd below s D h0 (fun v => .inl (some (xI v))) Q (z, h0))) a hF hQ.symm
  unfold fM_valueOf
  refine x_aload_n (pc' := 1) K 0 dX8_valueOf_0 rfl rfl ?_
  refine x_iload_n (pc' := 2) K 2 dX8_valueOf_1 rfl rfl ?_
  refine x_iconst (pc' := 3) (v := 0) K dX8_valueOf_2 rfl rfl ?_
  refine x_cVO (pc' := 6) (As := [xI v2, xI (0 : Int32)]) (en := (fun v => some (xI v))) (rest := []) K (fun a hF => ct_X8_ofCoin hF) rfl (by decide) q1610 q1612 qs56 q1613 q105 hy_X8_ofCoin (Nat.le_of_ble_eq_true rfl) (Nat.le_of_ble_eq_true rfl) (Nat.le_of_ble_eq_true rfl) dX8_valueOf_3 rfl (fun x1 => ?_)
  refine x_aload_n (pc' := 7) K 0 dX8_valueOf_6 rfl rfl ?_
  refine x_iload_n (pc' := 8) K 1 dX8_valueOf_7 rfl rfl ?_
  refine x_aload_n (pc' := 9) K 0 dX8_valueOf_8 rfl rfl ?_
  refine x_iload_n (pc' := 10) K 2 dX8_valueOf_9 rfl rfl ?_
  refine x_cVO (pc' := 13) (As := [xI v2]) (en := (fun v => some (xI v))) (rest := [xI v1, xR v0, xI x1]) K (fun a hF => ct_X8_topOf hF) rfl (by decide) q1606 q1608 qs55 q1609 q105 hy_X8_topOf (Nat.le_of_ble_eq_true rfl) (Nat.le_of_ble_eq_true rfl) (Nat.le_of_ble_eq_true rfl) dX8_valueOf_10 rfl (fun x2 => ?_)
  refine x_aload_n (pc' := 14) K 0 dX8_valueOf_13 rfl rfl ?_
  refine x_cVO (pc' := 17) (As := []) (en := (fun v => some (xI v))) (rest := [xI x2, xI v1, xR v0, xI x1]) K (fun a hF => ct_X8_luckOf hF) rfl (by decide) q1674 q1676 qs67 q1677 q105 hy_X8_luckOf (Nat.le_of_ble_eq_true rfl) (Nat.le_of_ble_eq_true rfl) (Nat.le_of_ble_eq_true rfl) dX8_valueOf_14 rfl (fun x3 => ?_)
  refine x_cVO (pc' := 20) (As := [xI v1, xI x2, xI x3]) (en := (fun v => some (xI v))) (rest := [xI x1]) K (fun a hF => ct_X8_hundredths hF) rfl (by decide) q1682 q1684 qs68 q1685 q105 hy_X8_hundredths (Nat.le_of_ble_eq_true rfl) (Nat.le_of_ble_eq_true rfl) (Nat.le_of_ble_eq_true rfl) dX8_valueOf_17 rfl (fun x4 => ?_)
  refine x_imul (pc' := 21) K dX8_valueOf_20 rfl ?_
  refine x_bipush (pc' := 23) (v := 100) K dX8_valueOf_21 rfl (by decide) ?_
  refine x_idiv (pc' := 24) K dX8_valueOf_23 rfl (fun x5 => ?_)
  exact x_ro (C9 := XEnd below s D h0 (fun v => .inl (some (xI v))) Q) (x_iret K rfl hr dX8_valueOf_24)
/-! FaceCoinsModel.value(III)I -/
noncomputable def fM_value (v0 : Nat) (v1 : Int32) (v2 : Int32) (v3 : Int32) (h0 : AH) : Option (Int32 × AH) :=
  (xpi h0 v0 [14] 0 (0 : Int32)).bind fun g1 =>
  xb2 (xck g1 v0 14 (fM_lay v0 g1)) fun x_ g2 =>
  (xck g2 v0 14 (fM_isWho v0 v1 g2)).bind fun x3 =>
  if x3 = 0 then (
    some ((((-1) : Int32), g2)))
  else (
    (xck g2 v0 14 (fM_isCoin v0 v2 g2)).bind fun x4 =>
    if x4 = 0 then (
      some ((((-1) : Int32), g2)))
    else (
      (fM_isIn v3 (0 : Int32) (1 : Int32) g2).bind fun x5 =>
      if x5 = 0 then (
        some ((((-1) : Int32), g2)))
      else (
        if v3 = 0 then (
          (xck g2 v0 14 (fM_topOf v0 v2 g2)).bind fun x7 =>
          (xck g2 v0 14 (fM_luckOf v0 g2)).bind fun x8 =>
          (xck g2 v0 14 (fM_hundredths v0 v1 x7 x8 g2)).bind fun x9 =>
          some ((x9, g2)))
        else (
          (xck g2 v0 14 (fM_valueOf v0 v1 v2 g2)).bind fun x6 =>
          some ((x6, g2))))))
set_option maxHeartbeats 4000000 in
theorem ct_X8_value {l : Launch} {D : XD} {v0 : Nat} {v1 : Int32} {v2 : Int32} {v3 : Int32} {h0 : AH} {a : Int32} {h1 : AH} (hF : fM_value v0 v1 v2 v3 h0 = some (a, h1)) : XCt l D yX8_value (ws_ yX8_value cX8_value 4 (some .int)) 4 87 [xR v0, xI v1, xI v2, xI v3] h0 (.inl (some (xI a))) h1 := by
  refine x_method (by decide) (Nat.le_of_ble_eq_true rfl) fun p e R s m args below meth c K hr hnm hex => ?_
  have K : XO p R s m args meth c D 4 h0 cX8_value "FaceCoinsModel" 4 87 := K
  generalize hQ : XMQ below _ _ _ _ _ _ = Q
  refine (?_ : XF p l e R s m args below meth c D 4 h0 Q 0 [(0, xR v0), (1, xI v1), (2, xI v2), (3, xI v3)] [] h0 (fM_value v0 v1 v2 v3 h0) (XEnd below s D h0 (fun v => .inl (some (xI v))) Q)) (a, h1) hF hQ.symm
  unfold fM_value
  refine x_aload_n (pc' := 1) K 0 dX8_value_0 rfl rfl ?_
  refine x_iconst (pc' := 2) (v := 0) K dX8_value_1 rfl rfl ?_
  refine x_puti (pc' := 5) K fp_14_0 (Or.inl (K.2.2.2.2.1 _ q1312)) (fun _ h9 => h9) (Or.inl rfl) dX8_value_2 rfl (fun g1 => ?_)
  refine x_aload_n (pc' := 6) K 0 dX8_value_5 rfl rfl ?_
  refine x_cV (pc' := 9) (As := []) (en := (fun _ => none)) (rest := []) K (fun a h1 hF => ct_X8_lay hF) rfl (by decide) q1479 q1481 qs31 q1482 q105 hy_X8_lay (Nat.le_of_ble_eq_true rfl) (Nat.le_of_ble_eq_true rfl) (Nat.le_of_ble_eq_true rfl) dX8_value_6 rfl (fun x_ g2 => ?_)
  refine x_aload_n (pc' := 10) K 0 dX8_value_9 rfl rfl ?_
  refine x_iload_n (pc' := 11) K 1 dX8_value_10 rfl rfl ?_
  refine x_cVO (pc' := 14) (As := [xI v1]) (en := (fun v => some (xI v))) (rest := []) K (fun a hF => ct_X8_isWho hF) rfl (by decide) q1586 q1588 qs50 q1589 q105 hy_X8_isWho (Nat.le_of_ble_eq_true rfl) (Nat.le_of_ble_eq_true rfl) (Nat.le_of_ble_eq_true rfl) dX8_value_11 rfl (fun x3 => ?_)
  refine x_if_eq (tgt := 34) (pc' := 17) K dX8_value_14 rfl (by decide) ?_ ?_
  · refine x_iconst (pc' := 35) (v := (-1)) K dX8_value_34 rfl rfl ?_
    exact x_iret K rfl hr dX8_value_35
  · refine x_aload_n (pc' := 18) K 0 dX8_value_17 rfl rfl ?_
    refine x_iload_n (pc' := 19) K 2 dX8_value_18 rfl rfl ?_
    refine x_cVO (pc' := 22) (As := [xI v2]) (en := (fun v => some (xI v))) (rest := []) K (fun a hF => ct_X8_isCoin hF) rfl (by decide) q1654 q1656 qs64 q1657 q105 hy_X8_isCoin (Nat.le_of_ble_eq_true rfl) (Nat.le_of_ble_eq_true rfl) (Nat.le_of_ble_eq_true rfl) dX8_value_19 rfl (fun x4 => ?_)
    refine x_if_eq (tgt := 34) (pc' := 25) K dX8_value_22 rfl (by decide) ?_ ?_
    · refine x_iconst (pc' := 35) (v := (-1)) K dX8_value_34 rfl rfl ?_
      exact x_iret K rfl hr dX8_value_35
    · refine x_iload_n (pc' := 26) K 3 dX8_value_25 rfl rfl ?_
      refine x_iconst (pc' := 27) (v := 0) K dX8_value_26 rfl rfl ?_
      refine x_iconst (pc' := 28) (v := 1) K dX8_value_27 rfl rfl ?_
      refine x_cSO (pc' := 31) (As := [xI v3, xI (0 : Int32), xI (1 : Int32)]) (en := (fun v => some (xI v))) (rest := []) K (fun a hF => ct_X8_isIn hF) rfl q1552 q1553 q1554 q105 hy_X8_isIn (Nat.le_of_ble_eq_true rfl) (Nat.le_of_ble_eq_true rfl) (Nat.le_of_ble_eq_true rfl) dX8_value_28 rfl (fun x5 => ?_)
      refine x_if_ne (tgt := 36) (pc' := 34) K dX8_value_31 rfl (by decide) ?_ ?_
      · refine x_iload_n (pc' := 37) K 3 dX8_value_36 rfl rfl ?_
        refine x_if_ne (tgt := 57) (pc' := 40) K dX8_value_37 rfl (by decide) ?_ ?_
        · refine x_aload_n (pc' := 58) K 0 dX8_value_57 rfl rfl ?_
          refine x_iload_n (pc' := 59) K 1 dX8_value_58 rfl rfl ?_
          refine x_iload_n (pc' := 60) K 2 dX8_value_59 rfl rfl ?_
          refine x_cVO (pc' := 63) (As := [xI v1, xI v2]) (en := (fun v => some (xI v))) (rest := []) K (fun a hF => ct_X8_valueOf hF) rfl (by decide) q1686 q1688 qs69 q1689 q105 hy_X8_valueOf (Nat.le_of_ble_eq_true rfl) (Nat.le_of_ble_eq_true rfl) (Nat.le_of_ble_eq_true rfl) dX8_value_60 rfl (fun x6 => ?_)
          exact x_iret K rfl hr dX8_value_63
        · refine x_aload_n (pc' := 41) K 0 dX8_value_40 rfl rfl ?_
          refine x_iload_n (pc' := 42) K 1 dX8_value_41 rfl rfl ?_
          refine x_aload_n (pc' := 43) K 0 dX8_value_42 rfl rfl ?_
          refine x_iload_n (pc' := 44) K 2 dX8_value_43 rfl rfl ?_
          refine x_cVO (pc' := 47) (As := [xI v2]) (en := (fun v => some (xI v))) (rest := [xI v1, xR v0]) K (fun a hF => ct_X8_topOf hF) rfl (by decide) q1606 q1608 qs55 q1609 q105 hy_X8_topOf (Nat.le_of_ble_eq_true rfl) (Nat.le_of_ble_eq_true rfl) (Nat.le_of_ble_eq_true rfl) dX8_value_44 rfl (fun x7 => ?_)
          refine x_aload_n (pc' := 48) K 0 dX8_value_47 rfl rfl ?_
          refine x_cVO (pc' := 51) (As := []) (en := (fun v => some (xI v))) (rest := [xI x7, xI v1, xR v0]) K (fun a hF => ct_X8_luckOf hF) rfl (by decide) q1674 q1676 qs67 q1677 q105 hy_X8_luckOf (Nat.le_of_ble_eq_true rfl) (Nat.le_of_ble_eq_true rfl) (Nat.le_of_ble_eq_true rfl) dX8_value_48 rfl (fun x8 => ?_)
          refine x_cVO (pc' := 54) (As := [xI v1, xI x7, xI x8]) (en := (fun v => some (xI v))) (rest := []) K (fun a hF => ct_X8_hundredths hF) rfl (by decide) q1682 q1684 qs68 q1685 q105 hy_X8_hundredths (Nat.le_of_ble_eq_true rfl) (Nat.le_of_ble_eq_true rfl) (Nat.le_of_ble_eq_true rfl) dX8_value_51 rfl (fun x9 => ?_)
          refine x_goto (tgt := 63) K dX8_value_54 (by decide) ?_
          exact x_iret K rfl hr dX8_value_63
      · refine x_iconst (pc' := 35) (v := (-1)) K dX8_value_34 rfl rfl ?_
        exact x_iret K rfl hr dX8_value_35
/-! FaceCoinsModel.bears(II)I -/
noncomputable def fM_bears_l29 (v0 : Nat) (v1 : Int32) (v2 : Int32) (v3 : Int32) (g : AH) : Option ((Nat × Int32 × Int32 × Int32) ⊕ Int32) :=
  (xck g v0 14 (fM_ofCoin v0 v1 (0 : Int32) g)).bind fun x5 =>
  (xck g v0 14 (fM_ofMint v0 v2 (0 : Int32) g)).bind fun x6 =>
  (xck g v0 14 (fM_ofCoin v0 v1 (2 : Int32) g)).bind fun x7 =>
  (xck g v0 14 (fM_wrongStroke v0 (x5 - (v3 * x6)) (x7 + v3) v2 g)).bind fun x8 =>
  if x8 = 0 then (
    some (Sum.inl (v0, v1, v2, (v3 + 1))))
  else (
    some (Sum.inr v3))
noncomputable def fM_bears_a66 (v3 : Int32) (g : AH) : Option (Int32 × AH) :=
  some ((v3, g))
noncomputable def fM_bears (v0 : Nat) (v1 : Int32) (v2 : Int32) (h0 : AH) : Option (Int32 × AH) :=
  (xpi h0 v0 [14] 0 (0 : Int32)).bind fun g1 =>
  xb2 (xck g1 v0 14 (fM_lay v0 g1)) fun x_ g2 =>
  (xck g2 v0 14 (fM_isCoin v0 v1 g2)).bind fun x3 =>
  if x3 = 0 then (
    some ((((-1) : Int32), g2)))
  else (
    (xck g2 v0 14 (fM_isMint v0 v2 g2)).bind fun x4 =>
    if x4 = 0 then (
      some ((((-1) : Int32), g2)))
    else (
      (xloop (fun s9 : (Nat × Int32 × Int32 × Int32) => fM_bears_l29 s9.1 s9.2.1 s9.2.2.1 s9.2.2.2 g2) (v0, v1, v2, (0 : Int32))).bind (fun r9 : Int32 => fM_bears_a66 r9 g2)))
set_option maxHeartbeats 4000000 in
theorem ct_X8_bears {l : Launch} {D : XD} {v0 : Nat} {v1 : Int32} {v2 : Int32} {h0 : AH} {a : Int32} {h1 : AH} (hF : fM_bears v0 v1 v2 h0 = some (a, h1)) : XCt l D yX8_bears (ws_ yX8_bears cX8_bears 4 (some .int)) 2 45 [xR v0, xI v1, xI v2] h0 (.inl (some (xI a))) h1 := by
  refine x_method (by decide) (Nat.le_of_ble_eq_true rfl) fun p e R s m args below meth c K hr hnm hex => ?_
  have K : XO p R s m args meth c D 4 h0 cX8_bears "FaceCoinsModel" 2 45 := K
  generalize hQ : XMQ below _ _ _ _ _ _ = Q
  have hL29 : ∀ (g : AH) (C1 : ((Nat × Int32 × Int32 × Int32) ⊕ Int32) → Prop) (hj1 : ∀ s9 : (Nat × Int32 × Int32 × Int32), C1 (Sum.inl s9) → XG p l e R s m args below meth c D 4 h0 Q 29 [(0, xR s9.1), (1, xI s9.2.1), (2, xI s9.2.2.1), (3, xI s9.2.2.2)] [] g) (he1 : ∀ r9 : Int32, C1 (Sum.inr r9) → XG p l e R s m args below meth c D 4 h0 Q 66 [(3, xI r9)] [] g) (v0 : Nat) (v1 : Int32) (v2 : Int32) (v3 : Int32), XF p l e R s m args below meth c D 4 h0 Q 29 [(0, xR v0), (1, xI v1), (2, xI v2), (3, xI v3)] [] g (fM_bears_l29 v0 v1 v2 v3 g) C1 := by
    intro g C1 hj1 he1
    intro v0 v1 v2 v3
    unfold fM_bears_l29
    refine x_aload_n (pc' := 30) K 0 dX8_bears_29 rfl rfl ?_
    refine x_aload_n (pc' := 31) K 0 dX8_bears_30 rfl rfl ?_
    refine x_iload_n (pc' := 32) K 1 dX8_bears_31 rfl rfl ?_
    refine x_iconst (pc' := 33) (v := 0) K dX8_bears_32 rfl rfl ?_
    refine x_cVO (pc' := 36) (As := [xI v1, xI (0 : Int32)]) (en := (fun v => some (xI v))) (rest := [xR v0]) K (fun a hF => ct_X8_ofCoin hF) rfl (by decide) q1610 q1612 qs56 q1613 q105 hy_X8_ofCoin (Nat.le_of_ble_eq_true rfl) (Nat.le_of_ble_eq_true rfl) (Nat.le_of_ble_eq_true rfl) dX8_bears_33 rfl (fun x5 => ?_)
    refine x_iload_n (pc' := 37) K 3 dX8_bears_36 rfl rfl ?_
    refine x_aload_n (pc' := 38) K 0 dX8_bears_37 rfl rfl ?_
    refine x_iload_n (pc' := 39) K 2 dX8_bears_38 rfl rfl ?_
    refine x_iconst (pc' := 40) (v := 0) K dX8_bears_39 rfl rfl ?_
    refine x_cVO (pc' := 43) (As := [xI v2, xI (0 : Int32)]) (en := (fun v => some (xI v))) (rest := [xI v3, xI x5, xR v0]) K (fun a hF => ct_X8_ofMint hF) rfl (by decide) q1626 q1628 qs59 q1629 q105 hy_X8_ofMint (Nat.le_of_ble_eq_true rfl) (Nat.le_of_ble_eq_true rfl) (Nat.le_of_ble_eq_true rfl) dX8_bears_40 rfl (fun x6 => ?_)
    refine x_imul (pc' := 44) K dX8_bears_43 rfl ?_
    refine x_isub (pc' := 45) K dX8_bears_44 rfl ?_
    refine x_aload_n (pc' := 46) K 0 dX8_bears_45 rfl rfl ?_
    refine x_iload_n (pc' := 47) K 1 dX8_bears_46 rfl rfl ?_
    refine x_iconst (pc' := 48) (v := 2) K dX8_bears_47 rfl rfl ?_
    refine x_cVO (pc' := 51) (As := [xI v1, xI (2 : Int32)]) (en := (fun v => some (xI v))) (rest := [xI (x5 - (v3 * x6)), xR v0]) K (fun a hF => ct_X8_ofCoin hF) rfl (by decide) q1610 q1612 qs56 q1613 q105 hy_X8_ofCoin (Nat.le_of_ble_eq_true rfl) (Nat.le_of_ble_eq_true rfl) (Nat.le_of_ble_eq_true rfl) dX8_bears_48 rfl (fun x7 => ?_)
    refine x_iload_n (pc' := 52) K 3 dX8_bears_51 rfl rfl ?_
    refine x_iadd (pc' := 53) K dX8_bears_52 rfl ?_
    refine x_iload_n (pc' := 54) K 2 dX8_bears_53 rfl rfl ?_
    refine x_cVO (pc' := 57) (As := [xI (x5 - (v3 * x6)), xI (x7 + v3), xI v2]) (en := (fun v => some (xI v))) (rest := []) K (fun a hF => ct_X8_wrongStroke hF) rfl (by decide) q1638 q1640 qs61 q1641 q105 hy_X8_wrongStroke (Nat.le_of_ble_eq_true rfl) (Nat.le_of_ble_eq_true rfl) (Nat.le_of_ble_eq_true rfl) dX8_bears_54 rfl (fun x8 => ?_)
    refine x_if_ne (tgt := 66) (pc' := 60) K dX8_bears_57 rfl (by decide) ?_ ?_
    · refine x_sub (lv' := [(3, xI v3)]) [3] rfl ?_
      exact x_jump (fun hz => he1 v3 hz)
    · refine x_iinc (pc' := 63) (y := 1) (lv' := [(3, xI (v3 + 1)), (0, xR v0), (1, xI v1), (2, xI v2)]) K 3 dX8_bears_60 rfl rfl (by decide) (by decide) rfl ?_
      refine x_goto (tgt := 29) K dX8_bears_63 (by decide) ?_
      refine x_sub (lv' := [(0, xR v0), (1, xI v1), (2, xI v2), (3, xI (v3 + 1))]) [1, 2, 3, 0] rfl ?_
      exact x_jump (fun hz => hj1 (v0, v1, v2, (v3 + 1)) hz)
  have hA66_0 : ∀ (v3 : Int32) (g : AH), XF p l e R s m args below meth c D 4 h0 Q 66 [(3, xI v3)] [] g (fM_bears_a66 v3 g) (XEnd below s D h0 (fun v => .inl (some (xI v))) Q) := by
    intro v3 g
    unfold fM_bears_a66
    refine x_iload_n (pc' := 67) K 0 dX8_bears_66 rfl rfl ?_
    exact x_iret K rfl hr dX8_bears_67
  refine (?_ : XF p l e R s m args below meth c D 4 h0 Q 0 [(0, xR v0), (1, xI v1), (2, xI v2)] [] h0 (fM_bears v0 v1 v2 h0) (XEnd below s D h0 (fun v => .inl (some (xI v))) Q)) (a, h1) hF hQ.symm
  unfold fM_bears
  refine x_aload_n (pc' := 1) K 0 dX8_bears_0 rfl rfl ?_
  refine x_iconst (pc' := 2) (v := 0) K dX8_bears_1 rfl rfl ?_
  refine x_puti (pc' := 5) K fp_14_0 (Or.inl (K.2.2.2.2.1 _ q1312)) (fun _ h9 => h9) (Or.inl rfl) dX8_bears_2 rfl (fun g1 => ?_)
  refine x_aload_n (pc' := 6) K 0 dX8_bears_5 rfl rfl ?_
  refine x_cV (pc' := 9) (As := []) (en := (fun _ => none)) (rest := []) K (fun a h1 hF => ct_X8_lay hF) rfl (by decide) q1479 q1481 qs31 q1482 q105 hy_X8_lay (Nat.le_of_ble_eq_true rfl) (Nat.le_of_ble_eq_true rfl) (Nat.le_of_ble_eq_true rfl) dX8_bears_6 rfl (fun x_ g2 => ?_)
  refine x_aload_n (pc' := 10) K 0 dX8_bears_9 rfl rfl ?_
  refine x_iload_n (pc' := 11) K 1 dX8_bears_10 rfl rfl ?_
  refine x_cVO (pc' := 14) (As := [xI v1]) (en := (fun v => some (xI v))) (rest := []) K (fun a hF => ct_X8_isCoin hF) rfl (by decide) q1654 q1656 qs64 q1657 q105 hy_X8_isCoin (Nat.le_of_ble_eq_true rfl) (Nat.le_of_ble_eq_true rfl) (Nat.le_of_ble_eq_true rfl) dX8_bears_11 rfl (fun x3 => ?_)
  refine x_if_eq (tgt := 25) (pc' := 17) K dX8_bears_14 rfl (by decide) ?_ ?_
  · refine x_iconst (pc' := 26) (v := (-1)) K dX8_bears_25 rfl rfl ?_
    exact x_iret K rfl hr dX8_bears_26
  · refine x_aload_n (pc' := 18) K 0 dX8_bears_17 rfl rfl ?_
    refine x_iload_n (pc' := 19) K 2 dX8_bears_18 rfl rfl ?_
    refine x_cVO (pc' := 22) (As := [xI v2]) (en := (fun v => some (xI v))) (rest := []) K (fun a hF => ct_X8_isMint hF) rfl (by decide) q1618 q1620 qs57 q1621 q105 hy_X8_isMint (Nat.le_of_ble_eq_true rfl) (Nat.le_of_ble_eq_true rfl) (Nat.le_of_ble_eq_true rfl) dX8_bears_19 rfl (fun x4 => ?_)
    refine x_if_ne (tgt := 27) (pc' := 25) K dX8_bears_22 rfl (by decide) ?_ ?_
    · refine x_iconst (pc' := 28) (v := 0) K dX8_bears_27 rfl rfl ?_
      refine x_istore_n (pc' := 29) (lv' := [(3, xI (0 : Int32)), (0, xR v0), (1, xI v1), (2, xI v2)]) K dX8_bears_28 rfl (by decide) rfl ?_
      refine x_sub (lv' := [(0, xR v0), (1, xI v1), (2, xI v2), (3, xI (0 : Int32))]) [1, 2, 3, 0] rfl ?_
      exact x_loop (pl := (fun s9 : (Nat × Int32 × Int32 × Int32) => [(0, xR s9.1), (1, xI s9.2.1), (2, xI s9.2.2.1), (3, xI s9.2.2.2)])) (ph := (fun s9 : (Nat × Int32 × Int32 × Int32) => g2)) (fun r9 : Int32 => XG p l e R s m args below meth c D 4 h0 Q 66 [(3, xI r9)] [] g2) (fun s9 => hL29 g2 _ (fun _ hz => hz) (fun _ hz => hz) s9.1 s9.2.1 s9.2.2.1 s9.2.2.2) (fun r9 x hx hc => hA66_0 r9 g2 x hx hc) (v0, v1, v2, (0 : Int32))
    · refine x_iconst (pc' := 26) (v := (-1)) K dX8_bears_25 rfl rfl ?_
      exact x_iret K rfl hr dX8_bears_26
/-! FaceCoinsModel.areUnfit(II)Z -/
noncomputable def fM_areUnfit (v0 : Nat) (v1 : Int32) (v2 : Int32) (h0 : AH) : Option Int32 :=
  if v1 = v2 then (
    some ((1 : Int32)))
  else (
    (xck h0 v0 14 (fM_ofWho v0 v1 (2 : Int32) h0)).bind fun x1 =>
    if 0 < x1 then (
      some ((1 : Int32)))
    else (
      (xck h0 v0 14 (fM_ofWho v0 v2 (2 : Int32) h0)).bind fun x2 =>
      if x2 ≤ 0 then (
        some ((0 : Int32)))
      else (
        some ((1 : Int32)))))
set_option maxHeartbeats 4000000 in
theorem ct_X8_areUnfit {l : Launch} {D : XD} {v0 : Nat} {v1 : Int32} {v2 : Int32} {h0 : AH} {a : Int32} (hF : fM_areUnfit v0 v1 v2 h0 = some a) : XCt l D yX8_areUnfit (ws_ yX8_areUnfit cX8_areUnfit 3 (some .boolean)) 1 22 [xR v0, xI v1, xI v2] h0 (.inl (some (xI a))) h0 := by
  refine x_method (by decide) (Nat.le_of_ble_eq_true rfl) fun p e R s m args below meth c K hr hnm hex => ?_
  have K : XO p R s m args meth c D 3 h0 cX8_areUnfit "FaceCoinsModel" 1 22 := K
  generalize hQ : XMQ below _ _ _ _ _ _ = Q
  refine (?_ : XF p l e R s m args below meth c D 3 h0 Q 0 [(0, xR v0), (1, xI v1), (2, xI v2)] [] h0 (fM_areUnfit v0 v1 v2 h0) (fun z => XEnd below s D h0 (fun v => .inl (some (xI v))) Q (z, h0))) a hF hQ.symm
  unfold fM_areUnfit
  refine x_iload_n (pc' := 1) K 1 dX8_areUnfit_0 rfl rfl ?_
  refine x_iload_n (pc' := 2) K 2 dX8_areUnfit_1 rfl rfl ?_
  refine x_icmp_eq (tgt := 23) (pc' := 5) K dX8_areUnfit_2 rfl (by decide) ?_ ?_
  · refine x_iconst (pc' := 24) (v := 1) K dX8_areUnfit_23 rfl rfl ?_
    refine x_goto (tgt := 28) K dX8_areUnfit_24 (by decide) ?_
    exact x_ro (C9 := XEnd below s D h0 (fun v => .inl (some (xI v))) Q) (x_zret K (Or.inr rfl) rfl hr dX8_areUnfit_28)
  · refine x_aload_n (pc' := 6) K 0 dX8_areUnfit_5 rfl rfl ?_
    refine x_iload_n (pc' := 7) K 1 dX8_areUnfit_6 rfl rfl ?_
    refine x_iconst (pc' := 8) (v := 2) K dX8_areUnfit_7 rfl rfl ?_
    refine x_cVO (pc' := 11) (As := [xI v1, xI (2 : Int32)]) (en := (fun v => some (xI v))) (rest := []) K (fun a hF => ct_X8_ofWho hF) rfl (by decide) q1598 q1600 qs53 q1601 q105 hy_X8_ofWho (Nat.le_of_ble_eq_true rfl) (Nat.le_of_ble_eq_true rfl) (Nat.le_of_ble_eq_true rfl) dX8_areUnfit_8 rfl (fun x1 => ?_)
    refine x_if_gt (tgt := 23) (pc' := 14) K dX8_areUnfit_11 rfl (by decide) ?_ ?_
    · refine x_iconst (pc' := 24) (v := 1) K dX8_areUnfit_23 rfl rfl ?_
      refine x_goto (tgt := 28) K dX8_areUnfit_24 (by decide) ?_
      exact x_ro (C9 := XEnd below s D h0 (fun v => .inl (some (xI v))) Q) (x_zret K (Or.inr rfl) rfl hr dX8_areUnfit_28)
    · refine x_aload_n (pc' := 15) K 0 dX8_areUnfit_14 rfl rfl ?_
      refine x_iload_n (pc' := 16) K 2 dX8_areUnfit_15 rfl rfl ?_
      refine x_iconst (pc' := 17) (v := 2) K dX8_areUnfit_16 rfl rfl ?_
      refine x_cVO (pc' := 20) (As := [xI v2, xI (2 : Int32)]) (en := (fun v => some (xI v))) (rest := []) K (fun a hF => ct_X8_ofWho hF) rfl (by decide) q1598 q1600 qs53 q1601 q105 hy_X8_ofWho (Nat.le_of_ble_eq_true rfl) (Nat.le_of_ble_eq_true rfl) (Nat.le_of_ble_eq_true rfl) dX8_areUnfit_17 rfl (fun x2 => ?_)
      refine x_if_le (tgt := 27) (pc' := 23) K dX8_areUnfit_20 rfl (by decide) ?_ ?_
      · refine x_iconst (pc' := 28) (v := 0) K dX8_areUnfit_27 rfl rfl ?_
        exact x_ro (C9 := XEnd below s D h0 (fun v => .inl (some (xI v))) Q) (x_zret K (Or.inl rfl) rfl hr dX8_areUnfit_28)
      · refine x_iconst (pc' := 24) (v := 1) K dX8_areUnfit_23 rfl rfl ?_
        refine x_goto (tgt := 28) K dX8_areUnfit_24 (by decide) ?_
        exact x_ro (C9 := XEnd below s D h0 (fun v => .inl (some (xI v))) Q) (x_zret K (Or.inr rfl) rfl hr dX8_areUnfit_28)
/-! FaceCoinsModel.keepSale(IIIIII)V -/
noncomputable def fM_keepSale (v0 : Nat) (v1 : Int32) (v2 : Int32) (v3 : Int32) (v4 : Int32) (v5 : Int32) (v6 : Int32) (h0 : AH) : Option (Unit × AH) :=
  (xgr h0 v0 [14] 14).bind fun x1 =>
  (xai h0 x1 100 (113 : Int32)).bind fun x2 =>
  (xgr h0 v0 [14] 14).bind fun x3 =>
  (xsi h0 x3 ((4400 : Int32) + ((7 : Int32) * x2)) v1).bind fun g4 =>
  (xgr g4 v0 [14] 14).bind fun x5 =>
  (xsi g4 x5 (((4400 : Int32) + ((7 : Int32) * x2)) + (1 : Int32)) v2).bind fun g6 =>
  (xgr g6 v0 [14] 14).bind fun x7 =>
  (xsi g6 x7 (((4400 : Int32) + ((7 : Int32) * x2)) + (2 : Int32)) v3).bind fun g8 =>
  (xgr g8 v0 [14] 14).bind fun x9 =>
  (xsi g8 x9 (((4400 : Int32) + ((7 : Int32) * x2)) + (3 : Int32)) v4).bind fun g10 =>
  (xgr g10 v0 [14] 14).bind fun x11 =>
  (xgr g10 v0 [14] 14).bind fun x12 =>
  (xai g10 x12 100 (109 : Int32)).bind fun x13 =>
  (xsi g10 x11 (((4400 : Int32) + ((7 : Int32) * x2)) + (4 : Int32)) x13).bind fun g14 =>
  (xgr g14 v0 [14] 14).bind fun x15 =>
  (xsi g14 x15 (((4400 : Int32) + ((7 : Int32) * x2)) + (5 : Int32)) v5).bind fun g16 =>
  (xgr g16 v0 [14] 14).bind fun x17 =>
  (xsi g16 x17 (((4400 : Int32) + ((7 : Int32) * x2)) + (6 : Int32)) v6).bind fun g18 =>
  (xgr g18 v0 [14] 14).bind fun x19 =>
  (xai g18 x19 100 (113 : Int32)).bind fun x20 =>
  (xsi g18 x19 (113 : Int32) (x20 + (1 : Int32))).bind fun g21 =>
  some (((), g21))
set_option maxHeartbeats 4000000 in
theorem ct_X8_keepSale {l : Launch} {D : XD} {v0 : Nat} {v1 : Int32} {v2 : Int32} {v3 : Int32} {v4 : Int32} {v5 : Int32} {v6 : Int32} {h0 : AH} {a : Unit} {h1 : AH} (hF : fM_keepSale v0 v1 v2 v3 v4 v5 v6 h0 = some (a, h1)) : XCt l D yX8_keepSale (ws_ yX8_keepSale cX8_keepSale 8 none) 0 0 [xR v0, xI v1, xI v2, xI v3, xI v4, xI v5, xI v6] h0 (.inl none) h1 := by
  refine x_method (by decide) (Nat.le_of_ble_eq_true rfl) fun p e R s m args below meth c K hr hnm hex => ?_
  have K : XO p R s m args meth c D 8 h0 cX8_keepSale "FaceCoinsModel" 0 0 := K
  generalize hQ : XMQ below _ _ _ _ _ _ = Q
  refine (?_ : XF p l e R s m args below meth c D 8 h0 Q 0 [(0, xR v0), (1, xI v1), (2, xI v2), (3, xI v3), (4, xI v4), (5, xI v5), (6, xI v6)] [] h0 (fM_keepSale v0 v1 v2 v3 v4 v5 v6 h0) (XEnd below s D h0 (fun _ => .inl none) Q)) (a, h1) hF hQ.symm
  unfold fM_keepSale
  refine x_sipush (pc' := 3) (v := 4400) K dX8_keepSale_0 rfl (by decide) ?_
  refine x_bipush (pc' := 5) (v := 7) K dX8_keepSale_3 rfl (by decide) ?_
  refine x_aload_n (pc' := 6) K 0 dX8_keepSale_5 rfl rfl ?_
  refine x_getr (pc' := 9) K fg_14_14 (Or.inl (K.2.2.2.2.1 _ q1326)) (fun _ h9 => h9) dX8_keepSale_6 rfl (fun x1 => ?_)
  refine x_bipush (pc' := 11) (v := 113) K dX8_keepSale_9 rfl (by decide) ?_
  refine x_iald (pc' := 12) K dX8_keepSale_11 rfl (fun x2 => ?_)
  refine x_imul (pc' := 13) K dX8_keepSale_12 rfl ?_
  refine x_iadd (pc' := 14) K dX8_keepSale_13 rfl ?_
  refine x_istore (pc' := 16) (lv' := [(7, xI ((4400 : Int32) + ((7 : Int32) * x2))), (0, xR v0), (1, xI v1), (2, xI v2), (3, xI v3), (4, xI v4), (5, xI v5), (6, xI v6)]) K dX8_keepSale_14 rfl (by decide) rfl ?_
  refine x_aload_n (pc' := 17) K 1 dX8_keepSale_16 rfl rfl ?_
  refine x_getr (pc' := 20) K fg_14_14 (Or.inl (K.2.2.2.2.1 _ q1326)) (fun _ h9 => h9) dX8_keepSale_17 rfl (fun x3 => ?_)
  refine x_iload (pc' := 22) K 0 dX8_keepSale_20 rfl rfl ?_
  refine x_iload_n (pc' := 23) K 2 dX8_keepSale_22 rfl rfl ?_
  refine x_iast (pc' := 24) K dX8_keepSale_23 rfl (fun g4 => ?_)
  refine x_aload_n (pc' := 25) K 1 dX8_keepSale_24 rfl rfl ?_
  refine x_getr (pc' := 28) K fg_14_14 (Or.inl (K.2.2.2.2.1 _ q1326)) (fun _ h9 => h9) dX8_keepSale_25 rfl (fun x5 => ?_)
  refine x_iload (pc' := 30) K 0 dX8_keepSale_28 rfl rfl ?_
  refine x_iconst (pc' := 31) (v := 1) K dX8_keepSale_30 rfl rfl ?_
  refine x_iadd (pc' := 32) K dX8_keepSale_31 rfl ?_
  refine x_iload_n (pc' := 33) K 3 dX8_keepSale_32 rfl rfl ?_
  refine x_iast (pc' := 34) K dX8_keepSale_33 rfl (fun g6 => ?_)
  refine x_aload_n (pc' := 35) K 1 dX8_keepSale_34 rfl rfl ?_
  refine x_getr (pc' := 38) K fg_14_14 (Or.inl (K.2.2.2.2.1 _ q1326)) (fun _ h9 => h9) dX8_keepSale_35 rfl (fun x7 => ?_)
  refine x_iload (pc' := 40) K 0 dX8_keepSale_38 rfl rfl ?_
  refine x_iconst (pc' := 41) (v := 2) K dX8_keepSale_40 rfl rfl ?_
  refine x_iadd (pc' := 42) K dX8_keepSale_41 rfl ?_
  refine x_iload_n (pc' := 43) K 4 dX8_keepSale_42 rfl rfl ?_
  refine x_iast (pc' := 44) K dX8_keepSale_43 rfl (fun g8 => ?_)
  refine x_aload_n (pc' := 45) K 1 dX8_keepSale_44 rfl rfl ?_
  refine x_getr (pc' := 48) K fg_14_14 (Or.inl (K.2.2.2.2.1 _ q1326)) (fun _ h9 => h9) dX8_keepSale_45 rfl (fun x9 => ?_)
  refine x_iload (pc' := 50) K 0 dX8_keepSale_48 rfl rfl ?_
  refine x_iconst (pc' := 51) (v := 3) K dX8_keepSale_50 rfl rfl ?_
  refine x_iadd (pc' := 52) K dX8_keepSale_51 rfl ?_
  refine x_iload (pc' := 54) K 5 dX8_keepSale_52 rfl rfl ?_
  refine x_iast (pc' := 55) K dX8_keepSale_54 rfl (fun g10 => ?_)
  refine x_aload_n (pc' := 56) K 1 dX8_keepSale_55 rfl rfl ?_
  refine x_getr (pc' := 59) K fg_14_14 (Or.inl (K.2.2.2.2.1 _ q1326)) (fun _ h9 => h9) dX8_keepSale_56 rfl (fun x11 => ?_)
  refine x_iload (pc' := 61) K 0 dX8_keepSale_59 rfl rfl ?_
  refine x_iconst (pc' := 62) (v := 4) K dX8_keepSale_61 rfl rfl ?_
  refine x_iadd (pc' := 63) K dX8_keepSale_62 rfl ?_
  refine x_aload_n (pc' := 64) K 1 dX8_keepSale_63 rfl rfl ?_
  refine x_getr (pc' := 67) K fg_14_14 (Or.inl (K.2.2.2.2.1 _ q1326)) (fun _ h9 => h9) dX8_keepSale_64 rfl (fun x12 => ?_)
  refine x_bipush (pc' := 69) (v := 109) K dX8_keepSale_67 rfl (by decide) ?_
  refine x_iald (pc' := 70) K dX8_keepSale_69 rfl (fun x13 => ?_)
  refine x_iast (pc' := 71) K dX8_keepSale_70 rfl (fun g14 => ?_)
  refine x_aload_n (pc' := 72) K 1 dX8_keepSale_71 rfl rfl ?_
  refine x_getr (pc' := 75) K fg_14_14 (Or.inl (K.2.2.2.2.1 _ q1326)) (fun _ h9 => h9) dX8_keepSale_72 rfl (fun x15 => ?_)
  refine x_iload (pc' := 77) K 0 dX8_keepSale_75 rfl rfl ?_
  refine x_iconst (pc' := 78) (v := 5) K dX8_keepSale_77 rfl rfl ?_
  refine x_iadd (pc' := 79) K dX8_keepSale_78 rfl ?_
  refine x_iload (pc' := 81) K 6 dX8_keepSale_79 rfl rfl ?_
  refine x_iast (pc' := 82) K dX8_keepSale_81 rfl (fun g16 => ?_)
  refine x_aload_n (pc' := 83) K 1 dX8_keepSale_82 rfl rfl ?_
  refine x_getr (pc' := 86) K fg_14_14 (Or.inl (K.2.2.2.2.1 _ q1326)) (fun _ h9 => h9) dX8_keepSale_83 rfl (fun x17 => ?_)
  refine x_iload (pc' := 88) K 0 dX8_keepSale_86 rfl rfl ?_
  refine x_bipush (pc' := 90) (v := 6) K dX8_keepSale_88 rfl (by decide) ?_
  refine x_iadd (pc' := 91) K dX8_keepSale_90 rfl ?_
  refine x_iload (pc' := 93) K 7 dX8_keepSale_91 rfl rfl ?_
  refine x_iast (pc' := 94) K dX8_keepSale_93 rfl (fun g18 => ?_)
  refine x_aload_n (pc' := 95) K 1 dX8_keepSale_94 rfl rfl ?_
  refine x_getr (pc' := 98) K fg_14_14 (Or.inl (K.2.2.2.2.1 _ q1326)) (fun _ h9 => h9) dX8_keepSale_95 rfl (fun x19 => ?_)
  refine x_bipush (pc' := 100) (v := 113) K dX8_keepSale_98 rfl (by decide) ?_
  refine x_dup2 (pc' := 101) K dX8_keepSale_100 rfl rfl rfl ?_
  refine x_iald (pc' := 102) K dX8_keepSale_101 rfl (fun x20 => ?_)
  refine x_iconst (pc' := 103) (v := 1) K dX8_keepSale_102 rfl rfl ?_
  refine x_iadd (pc' := 104) K dX8_keepSale_103 rfl ?_
  refine x_iast (pc' := 105) K dX8_keepSale_104 rfl (fun g21 => ?_)
  exact x_vret K rfl hr dX8_keepSale_105
/-! FaceCoinsModel.wrongAt(II)I -/
noncomputable def fM_wrongAt (v0 : Nat) (v1 : Int32) (v2 : Int32) (h0 : AH) : Option Int32 :=
  (xck h0 v0 14 (fM_ofCoin v0 v1 (0 : Int32) h0)).bind fun x1 =>
  (xck h0 v0 14 (fM_ofCoin v0 v1 (2 : Int32) h0)).bind fun x2 =>
  (xck h0 v0 14 (fM_wrongStroke v0 x1 x2 v2 h0)).bind fun x3 =>
  some (x3)
set_option maxHeartbeats 4000000 in
theorem ct_X8_wrongAt {l : Launch} {D : XD} {v0 : Nat} {v1 : Int32} {v2 : Int32} {h0 : AH} {a : Int32} (hF : fM_wrongAt v0 v1 v2 h0 = some a) : XCt l D yX8_wrongAt (ws_ yX8_wrongAt cX8_wrongAt 3 (some .int)) 2 45 [xR v0, xI v1, xI v2] h0 (.inl (some (xI a))) h0 := by
  refine x_method (by decide) (Nat.le_of_ble_eq_true rfl) fun p e R s m args below meth c K hr hnm hex => ?_
  have K : XO p R s m args meth c D 3 h0 cX8_wrongAt "FaceCoinsModel" 2 45 := K
  generalize hQ : XMQ below _ _ _ _ _ _ = Q
  refine (?_ : XF p l e R s m args below meth c D 3 h0 Q 0 [(0, xR v0), (1, xI v1), (2, xI v2)] [] h0 (fM_wrongAt v0 v1 v2 h0) (fun z => XEnd below s D h0 (fun v => .inl (some (xI v))) Q (z, h0))) a hF hQ.symm
  unfold fM_wrongAt
  refine x_aload_n (pc' := 1) K 0 dX8_wrongAt_0 rfl rfl ?_
  refine x_aload_n (pc' := 2) K 0 dX8_wrongAt_1 rfl rfl ?_
  refine x_iload_n (pc' := 3) K 1 dX8_wrongAt_2 rfl rfl ?_
  refine x_iconst (pc' := 4) (v := 0) K dX8_wrongAt_3 rfl rfl ?_
  refine x_cVO (pc' := 7) (As := [xI v1, xI (0 : Int32)]) (en := (fun v => some (xI v))) (rest := [xR v0]) K (fun a hF => ct_X8_ofCoin hF) rfl (by decide) q1610 q1612 qs56 q1613 q105 hy_X8_ofCoin (Nat.le_of_ble_eq_true rfl) (Nat.le_of_ble_eq_true rfl) (Nat.le_of_ble_eq_true rfl) dX8_wrongAt_4 rfl (fun x1 => ?_)
  refine x_aload_n (pc' := 8) K 0 dX8_wrongAt_7 rfl rfl ?_
  refine x_iload_n (pc' := 9) K 1 dX8_wrongAt_8 rfl rfl ?_
  refine x_iconst (pc' := 10) (v := 2) K dX8_wrongAt_9 rfl rfl ?_
  refine x_cVO (pc' := 13) (As := [xI v1, xI (2 : Int32)]) (en := (fun v => some (xI v))) (rest := [xI x1, xR v0]) K (fun a hF => ct_X8_ofCoin hF) rfl (by decide) q1610 q1612 qs56 q1613 q105 hy_X8_ofCoin (Nat.le_of_ble_eq_true rfl) (Nat.le_of_ble_eq_true rfl) (Nat.le_of_ble_eq_true rfl) dX8_wrongAt_10 rfl (fun x2 => ?_)
  refine x_iload_n (pc' := 14) K 2 dX8_wrongAt_13 rfl rfl ?_
  refine x_cVO (pc' := 17) (As := [xI x1, xI x2, xI v2]) (en := (fun v => some (xI v))) (rest := []) K (fun a hF => ct_X8_wrongStroke hF) rfl (by decide) q1638 q1640 qs61 q1641 q105 hy_X8_wrongStroke (Nat.le_of_ble_eq_true rfl) (Nat.le_of_ble_eq_true rfl) (Nat.le_of_ble_eq_true rfl) dX8_wrongAt_14 rfl (fun x3 => ?_)
  exact x_ro (C9 := XEnd below s D h0 (fun v => .inl (some (xI v))) Q) (x_iret K rfl hr dX8_wrongAt_17)
/-! FaceCoinsModel.sale(IIII)I -/
noncomputable def fM_sale_l80 (v0 : Nat) (v1 : Int32) (v2 : Int32) (v3 : Int32) (v4 : Int32) (v5 : Int32) (v6 : Int64) (v8 : Int32) (g : AH) : Option ((Nat × Int32 × Int32 × Int32 × Int32 × Int32 × Int64 × Int32 × AH) ⊕ ((Nat × Int32 × Int32 × Int32 × Int32 × Int32 × AH) ⊕ (Int32 × AH))) :=
  if v5 ≤ v8 then (
    some (Sum.inr (Sum.inl (v0, v1, v2, v3, v4, v5, g))))
  else (
    (xgr g v0 [14] 25).bind fun x10 =>
    (xgr g v0 [14] 1).bind fun x11 =>
    (xai g x11 100 v8).bind fun x12 =>
    (xsi g x10 v8 x12).bind fun g13 =>
    (xgr g13 v0 [14] 25).bind fun x14 =>
    (xai g13 x14 100 v8).bind fun x15 =>
    (xck g13 v0 14 (fM_isCoin v0 x15 g13)).bind fun x16 =>
    if x16 = 0 then (
      some (Sum.inr (Sum.inr ((((-1) : Int32), g13)))))
    else (
      (xgr g13 v0 [14] 25).bind fun x17 =>
      (xai g13 x17 100 v8).bind fun x18 =>
      if (lg_cmp ((v6 >>> (Int32.toInt64 x18 &&& 63)) &&& (1 : Int64)) (1 : Int64)) = 0 then (
        some (Sum.inr (Sum.inr ((((-1) : Int32), g13)))))
      else (
        (xgr g13 v0 [14] 25).bind fun x19 =>
        (xai g13 x19 100 v8).bind fun x20 =>
        some (Sum.inl (v0, v1, v2, v3, v4, v5, (v6 ||| ((1 : Int64) <<< (Int32.toInt64 x20 &&& 63))), (v8 + 1), g13)))))
noncomputable def fM_sale_b244_175 (v0 : Nat) (v1 : Int32) (v2 : Int32) (v3 : Int32) (v4 : Int32) (v5 : Int32) (v8 : Int32) (v9 : Int32) (v10 : Int32) (t0 : Int32) (g : AH) : Option ((Nat × Int32 × Int32 × Int32 × Int32 × Int32 × Int32 × Int32 × Int32) ⊕ (Nat × Int32 × Int32 × Int32 × Int32 × Int32 × Int32 × Int32)) :=
  if t0 ≤ 0 then (
    some (Sum.inl (v0, v1, v2, v3, v4, v5, v8, v9, (v10 + 1))))
  else (
    if v8 ≤ t0 then (
      some (Sum.inl (v0, v1, v2, v3, v4, v5, v8, v9, (v10 + 1))))
    else (
      some (Sum.inl (v0, v1, v2, v3, v4, v5, t0, v9, (v10 + 1)))))
noncomputable def fM_sale_l175 (v0 : Nat) (v1 : Int32) (v2 : Int32) (v3 : Int32) (v4 : Int32) (v5 : Int32) (v8 : Int32) (v9 : Int32) (v10 : Int32) (g : AH) : Option ((Nat × Int32 × Int32 × Int32 × Int32 × Int32 × Int32 × Int32 × Int32) ⊕ (Nat × Int32 × Int32 × Int32 × Int32 × Int32 × Int32 × Int32)) :=
  if v5 ≤ v10 then (
    some (Sum.inr (v0, v1, v2, v3, v4, v5, v8, v9)))
  else (
    (xgr g v0 [14] 25).bind fun x22 =>
    (xai g x22 100 v10).bind fun x23 =>
    (xck g v0 14 (fM_valueOf v0 v2 x23 g)).bind fun x24 =>
    (xgr g v0 [14] 25).bind fun x25 =>
    (xai g x25 100 v10).bind fun x26 =>
    (xck g v0 14 (fM_ofCoin v0 x26 (1 : Int32) g)).bind fun x27 =>
    if x27 = v1 then (
      if x24 = 0 then (
        fM_sale_b244_175 v0 v1 v2 v3 v4 v5 v8 (v9 + x24) v10 (3 : Int32) g)
      else (
        (xgr g v0 [14] 25).bind fun x28 =>
        (xai g x28 100 v10).bind fun x29 =>
        (xck g v0 14 (fM_wrongAt v0 x29 v3 g)).bind fun x30 =>
        fM_sale_b244_175 v0 v1 v2 v3 v4 v5 v8 (v9 + x24) v10 x30 g))
    else (
      fM_sale_b244_175 v0 v1 v2 v3 v4 v5 v8 (v9 + x24) v10 (2 : Int32) g))
noncomputable def fM_sale_l295 (v0 : Nat) (v1 : Int32) (v2 : Int32) (v3 : Int32) (v4 : Int32) (v5 : Int32) (v9 : Int32) (v10 : Int32) (g : AH) : Option ((Nat × Int32 × Int32 × Int32 × Int32 × Int32 × Int32 × Int32 × AH) ⊕ (Nat × Int32 × Int32 × Int32 × Int32 × Int32 × Int32 × AH)) :=
  if v5 ≤ v10 then (
    some (Sum.inr (v0, v1, v2, v3, v4, v5, v9, g)))
  else (
    (xgr g v0 [14] 25).bind fun x32 =>
    (xai g x32 100 v10).bind fun x33 =>
    (xgr g v0 [14] 14).bind fun x34 =>
    (xai g x34 100 (113 : Int32)).bind fun x35 =>
    xb2 (xck g v0 14 (fM_strike v0 x33 v2 v3 x35 (0 : Int32) g)) fun x_ g36 =>
    (xgr g36 v0 [14] 14).bind fun x37 =>
    (xgr g36 v0 [14] 25).bind fun x38 =>
    (xai g36 x38 100 v10).bind fun x39 =>
    (xsi g36 x37 (((120 : Int32) + ((32 : Int32) * x39)) + (1 : Int32)) v2).bind fun g40 =>
    some (Sum.inl (v0, v1, v2, v3, v4, v5, v9, (v10 + 1), g40)))
noncomputable def fM_sale_a350 (v0 : Nat) (v1 : Int32) (v2 : Int32) (v3 : Int32) (v4 : Int32) (v5 : Int32) (v9 : Int32) (g : AH) : Option (Int32 × AH) :=
  xb2 (xck g v0 14 (fM_keepSale v0 v1 v2 v3 v4 v5 v9 g)) fun x_ g41 =>
  some (((0 : Int32), g41))
noncomputable def fM_sale_a268 (v0 : Nat) (v1 : Int32) (v2 : Int32) (v3 : Int32) (v4 : Int32) (v5 : Int32) (v8 : Int32) (v9 : Int32) (g : AH) : Option (Int32 × AH) :=
  if (8 : Int32) ≤ v8 then (
    if v4 ≤ v9 then (
      xb2 (xck g v0 14 (fM_snap v0 g)) fun x_ g31 =>
      (xloop (fun s9 : (Nat × Int32 × Int32 × Int32 × Int32 × Int32 × Int32 × Int32 × AH) => fM_sale_l295 s9.1 s9.2.1 s9.2.2.1 s9.2.2.2.1 s9.2.2.2.2.1 s9.2.2.2.2.2.1 s9.2.2.2.2.2.2.1 s9.2.2.2.2.2.2.2.1 s9.2.2.2.2.2.2.2.2) (v0, v1, v2, v3, v4, v5, v9, (0 : Int32), g31)).bind (fun r9 : (Nat × Int32 × Int32 × Int32 × Int32 × Int32 × Int32 × AH) => fM_sale_a350 r9.1 r9.2.1 r9.2.2.1 r9.2.2.2.1 r9.2.2.2.2.1 r9.2.2.2.2.2.1 r9.2.2.2.2.2.2.1 r9.2.2.2.2.2.2.2))
    else (
      some (((7 : Int32), g))))
  else (
    some ((v8, g)))
noncomputable def fM_sale_a154 (v0 : Nat) (v1 : Int32) (v2 : Int32) (v3 : Int32) (v4 : Int32) (v5 : Int32) (g : AH) : Option (Int32 × AH) :=
  (xck g v0 14 (fM_areUnfit v0 v1 v2 g)).bind fun x21 =>
  if x21 = 0 then (
    (xloop (fun s9 : (Nat × Int32 × Int32 × Int32 × Int32 × Int32 × Int32 × Int32 × Int32) => fM_sale_l175 s9.1 s9.2.1 s9.2.2.1 s9.2.2.2.1 s9.2.2.2.2.1 s9.2.2.2.2.2.1 s9.2.2.2.2.2.2.1 s9.2.2.2.2.2.2.2.1 s9.2.2.2.2.2.2.2.2 g) (v0, v1, v2, v3, v4, v5, (8 : Int32), (0 : Int32), (0 : Int32))).bind (fun r9 : (Nat × Int32 × Int32 × Int32 × Int32 × Int32 × Int32 × Int32) => fM_sale_a268 r9.1 r9.2.1 r9.2.2.1 r9.2.2.2.1 r9.2.2.2.2.1 r9.2.2.2.2.2.1 r9.2.2.2.2.2.2.1 r9.2.2.2.2.2.2.2 g))
  else (
    some (((1 : Int32), g)))
noncomputable def fM_sale (v0 : Nat) (v1 : Int32) (v2 : Int32) (v3 : Int32) (v4 : Int32) (h0 : AH) : Option (Int32 × AH) :=
  (xpi h0 v0 [14] 0 (0 : Int32)).bind fun g1 =>
  xb2 (xck g1 v0 14 (fM_lay v0 g1)) fun x_ g2 =>
  xb2 (xck g2 v0 14 (fM_take v0 g2)) fun x3 g4 =>
  (xck g4 v0 14 (fM_isWho v0 v1 g4)).bind fun x5 =>
  if x5 = 0 then (
    some ((((-1) : Int32), g4)))
  else (
    (xck g4 v0 14 (fM_isWho v0 v2 g4)).bind fun x6 =>
    if x6 = 0 then (
      some ((((-1) : Int32), g4)))
    else (
      (xck g4 v0 14 (fM_isMint v0 v3 g4)).bind fun x7 =>
      if x7 = 0 then (
        some ((((-1) : Int32), g4)))
      else (
        (fM_isIn v4 (1 : Int32) (9999 : Int32) g4).bind fun x8 =>
        if x8 = 0 then (
          some ((((-1) : Int32), g4)))
        else (
          if x3 = 0 then (
            some ((((-1) : Int32), g4)))
          else (
            if (40 : Int32) < x3 then (
              some ((((-1) : Int32), g4)))
            else (
              (xck g4 v0 14 (fM_isFull v0 x3 g4)).bind fun x9 =>
              if x9 = 0 then (
                (xloop (fun s9 : (Nat × Int32 × Int32 × Int32 × Int32 × Int32 × Int64 × Int32 × AH) => fM_sale_l80 s9.1 s9.2.1 s9.2.2.1 s9.2.2.2.1 s9.2.2.2.2.1 s9.2.2.2.2.2.1 s9.2.2.2.2.2.2.1 s9.2.2.2.2.2.2.2.1 s9.2.2.2.2.2.2.2.2) (v0, v1, v2, v3, v4, x3, (0 : Int64), (0 : Int32), g4)).bind (Sum.elim (fun r9 : (Nat × Int32 × Int32 × Int32 × Int32 × Int32 × AH) => fM_sale_a154 r9.1 r9.2.1 r9.2.2.1 r9.2.2.2.1 r9.2.2.2.2.1 r9.2.2.2.2.2.1 r9.2.2.2.2.2.2) some))
              else (
                some ((((-1) : Int32), g4)))))))))
set_option maxHeartbeats 4000000 in
theorem ct_X8_sale {l : Launch} {D : XD} {v0 : Nat} {v1 : Int32} {v2 : Int32} {v3 : Int32} {v4 : Int32} {h0 : AH} {a : Int32} {h1 : AH} (hF : fM_sale v0 v1 v2 v3 v4 h0 = some (a, h1)) : XCt l D yX8_sale (ws_ yX8_sale cX8_sale 13 (some .int)) 4 87 [xR v0, xI v1, xI v2, xI v3, xI v4] h0 (.inl (some (xI a))) h1 := by
  refine x_method (by decide) (Nat.le_of_ble_eq_true rfl) fun p e R s m args below meth c K hr hnm hex => ?_
  have K : XO p R s m args meth c D 13 h0 cX8_sale "FaceCoinsModel" 4 87 := K
  generalize hQ : XMQ below _ _ _ _ _ _ = Q
  have hL80 : ∀ (C1 : ((Nat × Int32 × Int32 × Int32 × Int32 × Int32 × Int64 × Int32 × AH) ⊕ ((Nat × Int32 × Int32 × Int32 × Int32 × Int32 × AH) ⊕ (Int32 × AH))) → Prop) (hj1 : ∀ s9 : (Nat × Int32 × Int32 × Int32 × Int32 × Int32 × Int64 × Int32 × AH), C1 (Sum.inl s9) → XG p l e R s m args below meth c D 13 h0 Q 80 [(0, xR s9.1), (1, xI s9.2.1), (2, xI s9.2.2.1), (3, xI s9.2.2.2.1), (4, xI s9.2.2.2.2.1), (5, xI s9.2.2.2.2.2.1), (6, xJ s9.2.2.2.2.2.2.1), (8, xI s9.2.2.2.2.2.2.2.1)] [] s9.2.2.2.2.2.2.2.2) (he1 : ∀ r9 : (Nat × Int32 × Int32 × Int32 × Int32 × Int32 × AH), C1 (Sum.inr (Sum.inl r9)) → XG p l e R s m args below meth c D 13 h0 Q 154 [(0, xR r9.1), (1, xI r9.2.1), (2, xI r9.2.2.1), (3, xI r9.2.2.2.1), (4, xI r9.2.2.2.2.1), (5, xI r9.2.2.2.2.2.1)] [] r9.2.2.2.2.2.2) (hd1 : ∀ y9 : (Int32 × AH), C1 (Sum.inr (Sum.inr y9)) → (XEnd below s D h0 (fun v => .inl (some (xI v))) Q) y9) (v0 : Nat) (v1 : Int32) (v2 : Int32) (v3 : Int32) (v4 : Int32) (v5 : Int32) (v6 : Int64) (v8 : Int32) (g : AH), XF p l e R s m args below meth c D 13 h0 Q 80 [(0, xR v0), (1, xI v1), (2, xI v2), (3, xI v3), (4, xI v4), (5, xI v5), (6, xJ v6), (8, xI v8)] [] g (fM_sale_l80 v0 v1 v2 v3 v4 v5 v6 v8 g) C1 := by
    intro C1 hj1 he1 hd1
    intro v0 v1 v2 v3 v4 v5 v6 v8 g
    unfold fM_sale_l80
    refine x_iload (pc' := 82) K 7 dX8_sale_80 rfl rfl ?_
    refine x_iload (pc' := 84) K 5 dX8_sale_82 rfl rfl ?_
    refine x_icmp_ge (tgt := 154) (pc' := 87) K dX8_sale_84 rfl (by decide) ?_ ?_
    · refine x_sub (lv' := [(0, xR v0), (1, xI v1), (2, xI v2), (3, xI v3), (4, xI v4), (5, xI v5)]) [0, 1, 2, 3, 4, 5] rfl ?_
      exact x_jump (fun hz => he1 (v0, v1, v2, v3, v4, v5, g) hz)
    · refine x_aload_n (pc' := 88) K 0 dX8_sale_87 rfl rfl ?_
      refine x_getr (pc' := 91) K fg_14_25 (Or.inl (K.2.2.2.2.1 _ q1337)) (fun _ h9 => h9) dX8_sale_88 rfl (fun x10 => ?_)
      refine x_iload (pc' := 93) K 7 dX8_sale_91 rfl rfl ?_
      refine x_aload_n (pc' := 94) K 0 dX8_sale_93 rfl rfl ?_
      refine x_getr (pc' := 97) K fg_14_1 (Or.inl (K.2.2.2.2.1 _ q1313)) (fun _ h9 => h9) dX8_sale_94 rfl (fun x11 => ?_)
      refine x_iload (pc' := 99) K 7 dX8_sale_97 rfl rfl ?_
      refine x_iald (pc' := 100) K dX8_sale_99 rfl (fun x12 => ?_)
      refine x_iast (pc' := 101) K dX8_sale_100 rfl (fun g13 => ?_)
      refine x_aload_n (pc' := 102) K 0 dX8_sale_101 rfl rfl ?_
      refine x_aload_n (pc' := 103) K 0 dX8_sale_102 rfl rfl ?_
      refine x_getr (pc' := 106) K fg_14_25 (Or.inl (K.2.2.2.2.1 _ q1337)) (fun _ h9 => h9) dX8_sale_103 rfl (fun x14 => ?_)
      refine x_iload (pc' := 108) K 7 dX8_sale_106 rfl rfl ?_
      refine x_iald (pc' := 109) K dX8_sale_108 rfl (fun x15 => ?_)
      refine x_cVO (pc' := 112) (As := [xI x15]) (en := (fun v => some (xI v))) (rest := []) K (fun a hF => ct_X8_isCoin hF) rfl (by decide) q1654 q1656 qs64 q1657 q105 hy_X8_isCoin (Nat.le_of_ble_eq_true rfl) (Nat.le_of_ble_eq_true rfl) (Nat.le_of_ble_eq_true rfl) dX8_sale_109 rfl (fun x16 => ?_)
      refine x_if_eq (tgt := 132) (pc' := 115) K dX8_sale_112 rfl (by decide) ?_ ?_
      · refine x_iconst (pc' := 133) (v := (-1)) K dX8_sale_132 rfl rfl ?_
        refine x_g (fun z => Sum.inr (Sum.inr z)) (x_C (C8 := (XEnd below s D h0 (fun v => .inl (some (xI v))) Q)) (fun z hz => hd1 z hz) ?_)
        exact x_iret K rfl hr dX8_sale_133
      · refine x_lload (pc' := 117) K 6 dX8_sale_115 rfl rfl ?_
        refine x_aload_n (pc' := 118) K 0 dX8_sale_117 rfl rfl ?_
        refine x_getr (pc' := 121) K fg_14_25 (Or.inl (K.2.2.2.2.1 _ q1337)) (fun _ h9 => h9) dX8_sale_118 rfl (fun x17 => ?_)
        refine x_iload (pc' := 123) K 7 dX8_sale_121 rfl rfl ?_
        refine x_iald (pc' := 124) K dX8_sale_123 rfl (fun x18 => ?_)
        refine x_lshr (pc' := 125) K dX8_sale_124 rfl ?_
        refine x_lconst (pc' := 126) (v := 1) K dX8_sale_125 rfl rfl ?_
        refine x_land (pc' := 127) K dX8_sale_126 rfl ?_
        refine x_lconst (pc' := 128) (v := 1) K dX8_sale_127 rfl rfl ?_
        refine x_lcmp (pc' := 129) K dX8_sale_128 rfl ?_
        refine x_if_ne (tgt := 134) (pc' := 132) K dX8_sale_129 rfl (by decide) ?_ ?_
        · refine x_lload (pc' := 136) K 6 dX8_sale_134 rfl rfl ?_
          refine x_lconst (pc' := 137) (v := 1) K dX8_sale_136 rfl rfl ?_
          refine x_aload_n (pc' := 138) K 0 dX8_sale_137 rfl rfl ?_
          refine x_getr (pc' := 141) K fg_14_25 (Or.inl (K.2.2.2.2.1 _ q1337)) (fun _ h9 => h9) dX8_sale_138 rfl (fun x19 => ?_)
          refine x_iload (pc' := 143) K 7 dX8_sale_141 rfl rfl ?_
          refine x_iald (pc' := 144) K dX8_sale_143 rfl (fun x20 => ?_)
          refine x_lshl (pc' := 145) K dX8_sale_144 rfl ?_
          refine x_lor (pc' := 146) K dX8_sale_145 rfl ?_
          refine x_lstore (pc' := 148) (lv' := [(6, xJ (v6 ||| ((1 : Int64) <<< (Int32.toInt64 x20 &&& 63)))), (0, xR v0), (1, xI v1), (2, xI v2), (3, xI v3), (4, xI v4), (5, xI v5), (8, xI v8)]) K dX8_sale_146 rfl (by decide) rfl ?_
          refine x_iinc (pc' := 151) (y := 1) (lv' := [(8, xI (v8 + 1)), (6, xJ (v6 ||| ((1 : Int64) <<< (Int32.toInt64 x20 &&& 63)))), (0, xR v0), (1, xI v1), (2, xI v2), (3, xI v3), (4, xI v4), (5, xI v5)]) K 7 dX8_sale_148 rfl rfl (by decide) (by decide) rfl ?_
          refine x_goto (tgt := 80) K dX8_sale_151 (by decide) ?_
          refine x_sub (lv' := [(0, xR v0), (1, xI v1), (2, xI v2), (3, xI v3), (4, xI v4), (5, xI v5), (6, xJ (v6 ||| ((1 : Int64) <<< (Int32.toInt64 x20 &&& 63)))), (8, xI (v8 + 1))]) [2, 3, 4, 5, 6, 7, 1, 0] rfl ?_
          exact x_jump (fun hz => hj1 (v0, v1, v2, v3, v4, v5, (v6 ||| ((1 : Int64) <<< (Int32.toInt64 x20 &&& 63))), (v8 + 1), g13) hz)
        · refine x_iconst (pc' := 133) (v := (-1)) K dX8_sale_132 rfl rfl ?_
          refine x_g (fun z => Sum.inr (Sum.inr z)) (x_C (C8 := (XEnd below s D h0 (fun v => .inl (some (xI v))) Q)) (fun z hz => hd1 z hz) ?_)
          exact x_iret K rfl hr dX8_sale_133
  have hL175 : ∀ (g : AH) (C1 : ((Nat × Int32 × Int32 × Int32 × Int32 × Int32 × Int32 × Int32 × Int32) ⊕ (Nat × Int32 × Int32 × Int32 × Int32 × Int32 × Int32 × Int32)) → Prop) (hj1 : ∀ s9 : (Nat × Int32 × Int32 × Int32 × Int32 × Int32 × Int32 × Int32 × Int32), C1 (Sum.inl s9) → XG p l e R s m args below meth c D 13 h0 Q 175 [(0, xR s9.1), (1, xI s9.2.1), (2, xI s9.2.2.1), (3, xI s9.2.2.2.1), (4, xI s9.2.2.2.2.1), (5, xI s9.2.2.2.2.2.1), (8, xI s9.2.2.2.2.2.2.1), (9, xI s9.2.2.2.2.2.2.2.1), (10, xI s9.2.2.2.2.2.2.2.2)] [] g) (he1 : ∀ r9 : (Nat × Int32 × Int32 × Int32 × Int32 × Int32 × Int32 × Int32), C1 (Sum.inr r9) → XG p l e R s m args below meth c D 13 h0 Q 268 [(0, xR r9.1), (1, xI r9.2.1), (2, xI r9.2.2.1), (3, xI r9.2.2.2.1), (4, xI r9.2.2.2.2.1), (5, xI r9.2.2.2.2.2.1), (8, xI r9.2.2.2.2.2.2.1), (9, xI r9.2.2.2.2.2.2.2)] [] g) (v0 : Nat) (v1 : Int32) (v2 : Int32) (v3 : Int32) (v4 : Int32) (v5 : Int32) (v8 : Int32) (v9 : Int32) (v10 : Int32), XF p l e R s m args below meth c D 13 h0 Q 175 [(0, xR v0), (1, xI v1), (2, xI v2), (3, xI v3), (4, xI v4), (5, xI v5), (8, xI v8), (9, xI v9), (10, xI v10)] [] g (fM_sale_l175 v0 v1 v2 v3 v4 v5 v8 v9 v10 g) C1 := by
    intro g C1 hj1 he1
    have hB244 : ∀ (v0 : Nat) (v1 : Int32) (v2 : Int32) (v3 : Int32) (v4 : Int32) (v5 : Int32) (v8 : Int32) (v9 : Int32) (v10 : Int32) (t0 : Int32), XF p l e R s m args below meth c D 13 h0 Q 244 [(0, xR v0), (1, xI v1), (2, xI v2), (3, xI v3), (4, xI v4), (5, xI v5), (8, xI v8), (9, xI v9), (10, xI v10)] [xI t0] g (fM_sale_b244_175 v0 v1 v2 v3 v4 v5 v8 v9 v10 t0 g) C1 := by
      intro v0 v1 v2 v3 v4 v5 v8 v9 v10 t0
      unfold fM_sale_b244_175
      refine x_istore (pc' := 246) (lv' := [(12, xI t0), (0, xR v0), (1, xI v1), (2, xI v2), (3, xI v3), (4, xI v4), (5, xI v5), (8, xI v8), (9, xI v9), (10, xI v10)]) K dX8_sale_244 rfl (by decide) rfl ?_
      refine x_iload (pc' := 248) K 0 dX8_sale_246 rfl rfl ?_
      refine x_if_le (tgt := 262) (pc' := 251) K dX8_sale_248 rfl (by decide) ?_ ?_
      · refine x_iinc (pc' := 265) (y := 1) (lv' := [(10, xI (v10 + 1)), (12, xI t0), (0, xR v0), (1, xI v1), (2, xI v2), (3, xI v3), (4, xI v4), (5, xI v5), (8, xI v8), (9, xI v9)]) K 9 dX8_sale_262 rfl rfl (by decide) (by decide) rfl ?_
        refine x_goto (tgt := 175) K dX8_sale_265 (by decide) ?_
        refine x_sub (lv' := [(0, xR v0), (1, xI v1), (2, xI v2), (3, xI v3), (4, xI v4), (5, xI v5), (8, xI v8), (9, xI v9), (10, xI (v10 + 1))]) [2, 3, 4, 5, 6, 7, 8, 9, 0] rfl ?_
        exact x_jump (fun hz => hj1 (v0, v1, v2, v3, v4, v5, v8, v9, (v10 + 1)) hz)
      · refine x_iload (pc' := 253) K 0 dX8_sale_251 rfl rfl ?_
        refine x_iload (pc' := 255) K 7 dX8_sale_253 rfl rfl ?_
        refine x_icmp_ge (tgt := 262) (pc' := 258) K dX8_sale_255 rfl (by decide) ?_ ?_
        · refine x_iinc (pc' := 265) (y := 1) (lv' := [(10, xI (v10 + 1)), (12, xI t0), (0, xR v0), (1, xI v1), (2, xI v2), (3, xI v3), (4, xI v4), (5, xI v5), (8, xI v8), (9, xI v9)]) K 9 dX8_sale_262 rfl rfl (by decide) (by decide) rfl ?_
          refine x_goto (tgt := 175) K dX8_sale_265 (by decide) ?_
          refine x_sub (lv' := [(0, xR v0), (1, xI v1), (2, xI v2), (3, xI v3), (4, xI v4), (5, xI v5), (8, xI v8), (9, xI v9), (10, xI (v10 + 1))]) [2, 3, 4, 5, 6, 7, 8, 9, 0] rfl ?_
          exact x_jump (fun hz => hj1 (v0, v1, v2, v3, v4, v5, v8, v9, (v10 + 1)) hz)
        · refine x_iload (pc' := 260) K 0 dX8_sale_258 rfl rfl ?_
          refine x_istore (pc' := 262) (lv' := [(8, xI t0), (12, xI t0), (0, xR v0), (1, xI v1), (2, xI v2), (3, xI v3), (4, xI v4), (5, xI v5), (9, xI v9), (10, xI v10)]) K dX8_sale_260 rfl (by decide) rfl ?_
          refine x_iinc (pc' := 265) (y := 1) (lv' := [(10, xI (v10 + 1)), (8, xI t0), (12, xI t0), (0, xR v0), (1, xI v1), (2, xI v2), (3, xI v3), (4, xI v4), (5, xI v5), (9, xI v9)]) K 9 dX8_sale_262 rfl rfl (by decide) (by decide) rfl ?_
          refine x_goto (tgt := 175) K dX8_sale_265 (by decide) ?_
          refine x_sub (lv' := [(0, xR v0), (1, xI v1), (2, xI v2), (3, xI v3), (4, xI v4), (5, xI v5), (8, xI t0), (9, xI v9), (10, xI (v10 + 1))]) [3, 4, 5, 6, 7, 8, 1, 9, 0] rfl ?_
          exact x_jump (fun hz => hj1 (v0, v1, v2, v3, v4, v5, t0, v9, (v10 + 1)) hz)
    intro v0 v1 v2 v3 v4 v5 v8 v9 v10
    unfold fM_sale_l175
    refine x_iload (pc' := 177) K 8 dX8_sale_175 rfl rfl ?_
    refine x_iload (pc' := 179) K 5 dX8_sale_177 rfl rfl ?_
    refine x_icmp_ge (tgt := 268) (pc' := 182) K dX8_sale_179 rfl (by decide) ?_ ?_
    · refine x_sub (lv' := [(0, xR v0), (1, xI v1), (2, xI v2), (3, xI v3), (4, xI v4), (5, xI v5), (8, xI v8), (9, xI v9)]) [0, 1, 2, 3, 4, 5, 6, 7] rfl ?_
      exact x_jump (fun hz => he1 (v0, v1, v2, v3, v4, v5, v8, v9) hz)
    · refine x_aload_n (pc' := 183) K 0 dX8_sale_182 rfl rfl ?_
      refine x_iload_n (pc' := 184) K 2 dX8_sale_183 rfl rfl ?_
      refine x_aload_n (pc' := 185) K 0 dX8_sale_184 rfl rfl ?_
      refine x_getr (pc' := 188) K fg_14_25 (Or.inl (K.2.2.2.2.1 _ q1337)) (fun _ h9 => h9) dX8_sale_185 rfl (fun x22 => ?_)
      refine x_iload (pc' := 190) K 8 dX8_sale_188 rfl rfl ?_
      refine x_iald (pc' := 191) K dX8_sale_190 rfl (fun x23 => ?_)
      refine x_cVO (pc' := 194) (As := [xI v2, xI x23]) (en := (fun v => some (xI v))) (rest := []) K (fun a hF => ct_X8_valueOf hF) rfl (by decide) q1686 q1688 qs69 q1689 q105 hy_X8_valueOf (Nat.le_of_ble_eq_true rfl) (Nat.le_of_ble_eq_true rfl) (Nat.le_of_ble_eq_true rfl) dX8_sale_191 rfl (fun x24 => ?_)
      refine x_istore (pc' := 196) (lv' := [(11, xI x24), (0, xR v0), (1, xI v1), (2, xI v2), (3, xI v3), (4, xI v4), (5, xI v5), (8, xI v8), (9, xI v9), (10, xI v10)]) K dX8_sale_194 rfl (by decide) rfl ?_
      refine x_iload (pc' := 198) K 8 dX8_sale_196 rfl rfl ?_
      refine x_iload (pc' := 200) K 0 dX8_sale_198 rfl rfl ?_
      refine x_iadd (pc' := 201) K dX8_sale_200 rfl ?_
      refine x_istore (pc' := 203) (lv' := [(9, xI (v9 + x24)), (11, xI x24), (0, xR v0), (1, xI v1), (2, xI v2), (3, xI v3), (4, xI v4), (5, xI v5), (8, xI v8), (10, xI v10)]) K dX8_sale_201 rfl (by decide) rfl ?_
      refine x_aload_n (pc' := 204) K 2 dX8_sale_203 rfl rfl ?_
      refine x_aload_n (pc' := 205) K 2 dX8_sale_204 rfl rfl ?_
      refine x_getr (pc' := 208) K fg_14_25 (Or.inl (K.2.2.2.2.1 _ q1337)) (fun _ h9 => h9) dX8_sale_205 rfl (fun x25 => ?_)
      refine x_iload (pc' := 210) K 9 dX8_sale_208 rfl rfl ?_
      refine x_iald (pc' := 211) K dX8_sale_210 rfl (fun x26 => ?_)
      refine x_iconst (pc' := 212) (v := 1) K dX8_sale_211 rfl rfl ?_
      refine x_cVO (pc' := 215) (As := [xI x26, xI (1 : Int32)]) (en := (fun v => some (xI v))) (rest := []) K (fun a hF => ct_X8_ofCoin hF) rfl (by decide) q1610 q1612 qs56 q1613 q105 hy_X8_ofCoin (Nat.le_of_ble_eq_true rfl) (Nat.le_of_ble_eq_true rfl) (Nat.le_of_ble_eq_true rfl) dX8_sale_212 rfl (fun x27 => ?_)
      refine x_iload_n (pc' := 216) K 3 dX8_sale_215 rfl rfl ?_
      refine x_icmp_eq (tgt := 223) (pc' := 219) K dX8_sale_216 rfl (by decide) ?_ ?_
      · refine x_iload (pc' := 225) K 1 dX8_sale_223 rfl rfl ?_
        refine x_if_ne (tgt := 232) (pc' := 228) K dX8_sale_225 rfl (by decide) ?_ ?_
        · refine x_aload_n (pc' := 233) K 2 dX8_sale_232 rfl rfl ?_
          refine x_aload_n (pc' := 234) K 2 dX8_sale_233 rfl rfl ?_
          refine x_getr (pc' := 237) K fg_14_25 (Or.inl (K.2.2.2.2.1 _ q1337)) (fun _ h9 => h9) dX8_sale_234 rfl (fun x28 => ?_)
          refine x_iload (pc' := 239) K 9 dX8_sale_237 rfl rfl ?_
          refine x_iald (pc' := 240) K dX8_sale_239 rfl (fun x29 => ?_)
          refine x_iload_n (pc' := 241) K 5 dX8_sale_240 rfl rfl ?_
          refine x_cVO (pc' := 244) (As := [xI x29, xI v3]) (en := (fun v => some (xI v))) (rest := []) K (fun a hF => ct_X8_wrongAt hF) rfl (by decide) q1702 q1704 qs71 q1705 q105 hy_X8_wrongAt (Nat.le_of_ble_eq_true rfl) (Nat.le_of_ble_eq_true rfl) (Nat.le_of_ble_eq_true rfl) dX8_sale_241 rfl (fun x30 => ?_)
          refine x_sub (lv' := [(0, xR v0), (1, xI v1), (2, xI v2), (3, xI v3), (4, xI v4), (5, xI v5), (8, xI v8), (9, xI (v9 + x24)), (10, xI v10)]) [2, 3, 4, 5, 6, 7, 8, 0, 9] rfl ?_
          exact hB244 _ _ _ _ _ _ _ _ _ _
        · refine x_iconst (pc' := 229) (v := 3) K dX8_sale_228 rfl rfl ?_
          refine x_goto (tgt := 244) K dX8_sale_229 (by decide) ?_
          refine x_sub (lv' := [(0, xR v0), (1, xI v1), (2, xI v2), (3, xI v3), (4, xI v4), (5, xI v5), (8, xI v8), (9, xI (v9 + x24)), (10, xI v10)]) [2, 3, 4, 5, 6, 7, 8, 0, 9] rfl ?_
          exact hB244 _ _ _ _ _ _ _ _ _ _
      · refine x_iconst (pc' := 220) (v := 2) K dX8_sale_219 rfl rfl ?_
        refine x_goto (tgt := 244) K dX8_sale_220 (by decide) ?_
        refine x_sub (lv' := [(0, xR v0), (1, xI v1), (2, xI v2), (3, xI v3), (4, xI v4), (5, xI v5), (8, xI v8), (9, xI (v9 + x24)), (10, xI v10)]) [2, 3, 4, 5, 6, 7, 8, 0, 9] rfl ?_
        exact hB244 _ _ _ _ _ _ _ _ _ _
  have hL295 : ∀ (C1 : ((Nat × Int32 × Int32 × Int32 × Int32 × Int32 × Int32 × Int32 × AH) ⊕ (Nat × Int32 × Int32 × Int32 × Int32 × Int32 × Int32 × AH)) → Prop) (hj1 : ∀ s9 : (Nat × Int32 × Int32 × Int32 × Int32 × Int32 × Int32 × Int32 × AH), C1 (Sum.inl s9) → XG p l e R s m args below meth c D 13 h0 Q 295 [(0, xR s9.1), (1, xI s9.2.1), (2, xI s9.2.2.1), (3, xI s9.2.2.2.1), (4, xI s9.2.2.2.2.1), (5, xI s9.2.2.2.2.2.1), (9, xI s9.2.2.2.2.2.2.1), (10, xI s9.2.2.2.2.2.2.2.1)] [] s9.2.2.2.2.2.2.2.2) (he1 : ∀ r9 : (Nat × Int32 × Int32 × Int32 × Int32 × Int32 × Int32 × AH), C1 (Sum.inr r9) → XG p l e R s m args below meth c D 13 h0 Q 350 [(0, xR r9.1), (1, xI r9.2.1), (2, xI r9.2.2.1), (3, xI r9.2.2.2.1), (4, xI r9.2.2.2.2.1), (5, xI r9.2.2.2.2.2.1), (9, xI r9.2.2.2.2.2.2.1)] [] r9.2.2.2.2.2.2.2) (v0 : Nat) (v1 : Int32) (v2 : Int32) (v3 : Int32) (v4 : Int32) (v5 : Int32) (v9 : Int32) (v10 : Int32) (g : AH), XF p l e R s m args below meth c D 13 h0 Q 295 [(0, xR v0), (1, xI v1), (2, xI v2), (3, xI v3), (4, xI v4), (5, xI v5), (9, xI v9), (10, xI v10)] [] g (fM_sale_l295 v0 v1 v2 v3 v4 v5 v9 v10 g) C1 := by
    intro C1 hj1 he1
    intro v0 v1 v2 v3 v4 v5 v9 v10 g
    unfold fM_sale_l295
    refine x_iload (pc' := 297) K 7 dX8_sale_295 rfl rfl ?_
    refine x_iload (pc' := 299) K 5 dX8_sale_297 rfl rfl ?_
    refine x_icmp_ge (tgt := 350) (pc' := 302) K dX8_sale_299 rfl (by decide) ?_ ?_
    · refine x_sub (lv' := [(0, xR v0), (1, xI v1), (2, xI v2), (3, xI v3), (4, xI v4), (5, xI v5), (9, xI v9)]) [0, 1, 2, 3, 4, 5, 6] rfl ?_
      exact x_jump (fun hz => he1 (v0, v1, v2, v3, v4, v5, v9, g) hz)
    · refine x_aload_n (pc' := 303) K 0 dX8_sale_302 rfl rfl ?_
      refine x_aload_n (pc' := 304) K 0 dX8_sale_303 rfl rfl ?_
      refine x_getr (pc' := 307) K fg_14_25 (Or.inl (K.2.2.2.2.1 _ q1337)) (fun _ h9 => h9) dX8_sale_304 rfl (fun x32 => ?_)
      refine x_iload (pc' := 309) K 7 dX8_sale_307 rfl rfl ?_
      refine x_iald (pc' := 310) K dX8_sale_309 rfl (fun x33 => ?_)
      refine x_iload_n (pc' := 311) K 2 dX8_sale_310 rfl rfl ?_
      refine x_iload_n (pc' := 312) K 3 dX8_sale_311 rfl rfl ?_
      refine x_aload_n (pc' := 313) K 0 dX8_sale_312 rfl rfl ?_
      refine x_getr (pc' := 316) K fg_14_14 (Or.inl (K.2.2.2.2.1 _ q1326)) (fun _ h9 => h9) dX8_sale_313 rfl (fun x34 => ?_)
      refine x_bipush (pc' := 318) (v := 113) K dX8_sale_316 rfl (by decide) ?_
      refine x_iald (pc' := 319) K dX8_sale_318 rfl (fun x35 => ?_)
      refine x_iconst (pc' := 320) (v := 0) K dX8_sale_319 rfl rfl ?_
      refine x_cV (pc' := 323) (As := [xI x33, xI v2, xI v3, xI x35, xI (0 : Int32)]) (en := (fun _ => none)) (rest := []) K (fun a h1 hF => ct_X8_strike hF) rfl (by decide) q1646 q1648 qs63 q1649 q105 hy_X8_strike (Nat.le_of_ble_eq_true rfl) (Nat.le_of_ble_eq_true rfl) (Nat.le_of_ble_eq_true rfl) dX8_sale_320 rfl (fun x_ g36 => ?_)
      refine x_aload_n (pc' := 324) K 0 dX8_sale_323 rfl rfl ?_
      refine x_getr (pc' := 327) K fg_14_14 (Or.inl (K.2.2.2.2.1 _ q1326)) (fun _ h9 => h9) dX8_sale_324 rfl (fun x37 => ?_)
      refine x_bipush (pc' := 329) (v := 120) K dX8_sale_327 rfl (by decide) ?_
      refine x_bipush (pc' := 331) (v := 32) K dX8_sale_329 rfl (by decide) ?_
      refine x_aload_n (pc' := 332) K 0 dX8_sale_331 rfl rfl ?_
      refine x_getr (pc' := 335) K fg_14_25 (Or.inl (K.2.2.2.2.1 _ q1337)) (fun _ h9 => h9) dX8_sale_332 rfl (fun x38 => ?_)
      refine x_iload (pc' := 337) K 7 dX8_sale_335 rfl rfl ?_
      refine x_iald (pc' := 338) K dX8_sale_337 rfl (fun x39 => ?_)
      refine x_imul (pc' := 339) K dX8_sale_338 rfl ?_
      refine x_iadd (pc' := 340) K dX8_sale_339 rfl ?_
      refine x_iconst (pc' := 341) (v := 1) K dX8_sale_340 rfl rfl ?_
      refine x_iadd (pc' := 342) K dX8_sale_341 rfl ?_
      refine x_iload_n (pc' := 343) K 2 dX8_sale_342 rfl rfl ?_
      refine x_iast (pc' := 344) K dX8_sale_343 rfl (fun g40 => ?_)
      refine x_iinc (pc' := 347) (y := 1) (lv' := [(10, xI (v10 + 1)), (0, xR v0), (1, xI v1), (2, xI v2), (3, xI v3), (4, xI v4), (5, xI v5), (9, xI v9)]) K 7 dX8_sale_344 rfl rfl (by decide) (by decide) rfl ?_
      refine x_goto (tgt := 295) K dX8_sale_347 (by decide) ?_
      refine x_sub (lv' := [(0, xR v0), (1, xI v1), (2, xI v2), (3, xI v3), (4, xI v4), (5, xI v5), (9, xI v9), (10, xI (v10 + 1))]) [1, 2, 3, 4, 5, 6, 7, 0] rfl ?_
      exact x_jump (fun hz => hj1 (v0, v1, v2, v3, v4, v5, v9, (v10 + 1), g40) hz)
  have hA350_0 : ∀ (v0 : Nat) (v1 : Int32) (v2 : Int32) (v3 : Int32) (v4 : Int32) (v5 : Int32) (v9 : Int32) (g : AH), XF p l e R s m args below meth c D 13 h0 Q 350 [(0, xR v0), (1, xI v1), (2, xI v2), (3, xI v3), (4, xI v4), (5, xI v5), (9, xI v9)] [] g (fM_sale_a350 v0 v1 v2 v3 v4 v5 v9 g) (XEnd below s D h0 (fun v => .inl (some (xI v))) Q) := by
    intro v0 v1 v2 v3 v4 v5 v9 g
    unfold fM_sale_a350
    refine x_aload_n (pc' := 351) K 0 dX8_sale_350 rfl rfl ?_
    refine x_iload_n (pc' := 352) K 1 dX8_sale_351 rfl rfl ?_
    refine x_iload_n (pc' := 353) K 2 dX8_sale_352 rfl rfl ?_
    refine x_iload_n (pc' := 354) K 3 dX8_sale_353 rfl rfl ?_
    refine x_iload (pc' := 356) K 4 dX8_sale_354 rfl rfl ?_
    refine x_iload (pc' := 358) K 5 dX8_sale_356 rfl rfl ?_
    refine x_iload (pc' := 360) K 6 dX8_sale_358 rfl rfl ?_
    refine x_cV (pc' := 363) (As := [xI v1, xI v2, xI v3, xI v4, xI v5, xI v9]) (en := (fun _ => none)) (rest := []) K (fun a h1 hF => ct_X8_keepSale hF) rfl (by decide) q1706 q1708 qs72 q1709 q105 hy_X8_keepSale (Nat.le_of_ble_eq_true rfl) (Nat.le_of_ble_eq_true rfl) (Nat.le_of_ble_eq_true rfl) dX8_sale_360 rfl (fun x_ g41 => ?_)
    refine x_iconst (pc' := 364) (v := 0) K dX8_sale_363 rfl rfl ?_
    exact x_iret K rfl hr dX8_sale_364
  have hA268_0 : ∀ (v0 : Nat) (v1 : Int32) (v2 : Int32) (v3 : Int32) (v4 : Int32) (v5 : Int32) (v8 : Int32) (v9 : Int32) (g : AH), XF p l e R s m args below meth c D 13 h0 Q 268 [(0, xR v0), (1, xI v1), (2, xI v2), (3, xI v3), (4, xI v4), (5, xI v5), (8, xI v8), (9, xI v9)] [] g (fM_sale_a268 v0 v1 v2 v3 v4 v5 v8 v9 g) (XEnd below s D h0 (fun v => .inl (some (xI v))) Q) := by
    intro v0 v1 v2 v3 v4 v5 v8 v9 g
    unfold fM_sale_a268
    refine x_iload (pc' := 270) K 6 dX8_sale_268 rfl rfl ?_
    refine x_bipush (pc' := 272) (v := 8) K dX8_sale_270 rfl (by decide) ?_
    refine x_icmp_ge (tgt := 278) (pc' := 275) K dX8_sale_272 rfl (by decide) ?_ ?_
    · refine x_iload (pc' := 280) K 7 dX8_sale_278 rfl rfl ?_
      refine x_iload (pc' := 282) K 4 dX8_sale_280 rfl rfl ?_
      refine x_icmp_ge (tgt := 288) (pc' := 285) K dX8_sale_282 rfl (by decide) ?_ ?_
      · refine x_aload_n (pc' := 289) K 0 dX8_sale_288 rfl rfl ?_
        refine x_cV (pc' := 292) (As := []) (en := (fun _ => none)) (rest := []) K (fun a h1 hF => ct_X8_snap hF) rfl (by decide) q1642 q1644 qs62 q1645 q105 hy_X8_snap (Nat.le_of_ble_eq_true rfl) (Nat.le_of_ble_eq_true rfl) (Nat.le_of_ble_eq_true rfl) dX8_sale_289 rfl (fun x_ g31 => ?_)
        refine x_iconst (pc' := 293) (v := 0) K dX8_sale_292 rfl rfl ?_
        refine x_istore (pc' := 295) (lv' := [(10, xI (0 : Int32)), (0, xR v0), (1, xI v1), (2, xI v2), (3, xI v3), (4, xI v4), (5, xI v5), (8, xI v8), (9, xI v9)]) K dX8_sale_293 rfl (by decide) rfl ?_
        refine x_sub (lv' := [(0, xR v0), (1, xI v1), (2, xI v2), (3, xI v3), (4, xI v4), (5, xI v5), (9, xI v9), (10, xI (0 : Int32))]) [1, 2, 3, 4, 5, 6, 8, 0] rfl ?_
        exact x_loop (pl := (fun s9 : (Nat × Int32 × Int32 × Int32 × Int32 × Int32 × Int32 × Int32 × AH) => [(0, xR s9.1), (1, xI s9.2.1), (2, xI s9.2.2.1), (3, xI s9.2.2.2.1), (4, xI s9.2.2.2.2.1), (5, xI s9.2.2.2.2.2.1), (9, xI s9.2.2.2.2.2.2.1), (10, xI s9.2.2.2.2.2.2.2.1)])) (ph := (fun s9 : (Nat × Int32 × Int32 × Int32 × Int32 × Int32 × Int32 × Int32 × AH) => s9.2.2.2.2.2.2.2.2)) (fun r9 : (Nat × Int32 × Int32 × Int32 × Int32 × Int32 × Int32 × AH) => XG p l e R s m args below meth c D 13 h0 Q 350 [(0, xR r9.1), (1, xI r9.2.1), (2, xI r9.2.2.1), (3, xI r9.2.2.2.1), (4, xI r9.2.2.2.2.1), (5, xI r9.2.2.2.2.2.1), (9, xI r9.2.2.2.2.2.2.1)] [] r9.2.2.2.2.2.2.2) (fun s9 => hL295 _ (fun _ hz => hz) (fun _ hz => hz) s9.1 s9.2.1 s9.2.2.1 s9.2.2.2.1 s9.2.2.2.2.1 s9.2.2.2.2.2.1 s9.2.2.2.2.2.2.1 s9.2.2.2.2.2.2.2.1 s9.2.2.2.2.2.2.2.2) (fun r9 x hx hc => hA350_0 r9.1 r9.2.1 r9.2.2.1 r9.2.2.2.1 r9.2.2.2.2.1 r9.2.2.2.2.2.1 r9.2.2.2.2.2.2.1 r9.2.2.2.2.2.2.2 x hx hc) (v0, v1, v2, v3, v4, v5, v9, (0 : Int32), g31)
      · refine x_bipush (pc' := 287) (v := 7) K dX8_sale_285 rfl (by decide) ?_
        exact x_iret K rfl hr dX8_sale_287
    · refine x_iload (pc' := 277) K 6 dX8_sale_275 rfl rfl ?_
      exact x_iret K rfl hr dX8_sale_277
  have hA154_0 : ∀ (v0 : Nat) (v1 : Int32) (v2 : Int32) (v3 : Int32) (v4 : Int32) (v5 : Int32) (g : AH), XF p l e R s m args below meth c D 13 h0 Q 154 [(0, xR v0), (1, xI v1), (2, xI v2), (3, xI v3), (4, xI v4), (5, xI v5)] [] g (fM_sale_a154 v0 v1 v2 v3 v4 v5 g) (XEnd below s D h0 (fun v => .inl (some (xI v))) Q) := by
    intro v0 v1 v2 v3 v4 v5 g
    unfold fM_sale_a154
    refine x_aload_n (pc' := 155) K 0 dX8_sale_154 rfl rfl ?_
    refine x_iload_n (pc' := 156) K 1 dX8_sale_155 rfl rfl ?_
    refine x_iload_n (pc' := 157) K 2 dX8_sale_156 rfl rfl ?_
    refine x_cVO (pc' := 160) (As := [xI v1, xI v2]) (en := (fun v => some (xI v))) (rest := []) K (fun a hF => ct_X8_areUnfit hF) rfl (by decide) q1698 q1700 qs70 q1701 q105 hy_X8_areUnfit (Nat.le_of_ble_eq_true rfl) (Nat.le_of_ble_eq_true rfl) (Nat.le_of_ble_eq_true rfl) dX8_sale_157 rfl (fun x21 => ?_)
    refine x_if_eq (tgt := 165) (pc' := 163) K dX8_sale_160 rfl (by decide) ?_ ?_
    · refine x_bipush (pc' := 167) (v := 8) K dX8_sale_165 rfl (by decide) ?_
      refine x_istore (pc' := 169) (lv' := [(8, xI (8 : Int32)), (0, xR v0), (1, xI v1), (2, xI v2), (3, xI v3), (4, xI v4), (5, xI v5)]) K dX8_sale_167 rfl (by decide) rfl ?_
      refine x_iconst (pc' := 170) (v := 0) K dX8_sale_169 rfl rfl ?_
      refine x_istore (pc' := 172) (lv' := [(9, xI (0 : Int32)), (8, xI (8 : Int32)), (0, xR v0), (1, xI v1), (2, xI v2), (3, xI v3), (4, xI v4), (5, xI v5)]) K dX8_sale_170 rfl (by decide) rfl ?_
      refine x_iconst (pc' := 173) (v := 0) K dX8_sale_172 rfl rfl ?_
      refine x_istore (pc' := 175) (lv' := [(10, xI (0 : Int32)), (9, xI (0 : Int32)), (8, xI (8 : Int32)), (0, xR v0), (1, xI v1), (2, xI v2), (3, xI v3), (4, xI v4), (5, xI v5)]) K dX8_sale_173 rfl (by decide) rfl ?_
      refine x_sub (lv' := [(0, xR v0), (1, xI v1), (2, xI v2), (3, xI v3), (4, xI v4), (5, xI v5), (8, xI (8 : Int32)), (9, xI (0 : Int32)), (10, xI (0 : Int32))]) [3, 4, 5, 6, 7, 8, 2, 1, 0] rfl ?_
      exact x_loop (pl := (fun s9 : (Nat × Int32 × Int32 × Int32 × Int32 × Int32 × Int32 × Int32 × Int32) => [(0, xR s9.1), (1, xI s9.2.1), (2, xI s9.2.2.1), (3, xI s9.2.2.2.1), (4, xI s9.2.2.2.2.1), (5, xI s9.2.2.2.2.2.1), (8, xI s9.2.2.2.2.2.2.1), (9, xI s9.2.2.2.2.2.2.2.1), (10, xI s9.2.2.2.2.2.2.2.2)])) (ph := (fun s9 : (Nat × Int32 × Int32 × Int32 × Int32 × Int32 × Int32 × Int32 × Int32) => g)) (fun r9 : (Nat × Int32 × Int32 × Int32 × Int32 × Int32 × Int32 × Int32) => XG p l e R s m args below meth c D 13 h0 Q 268 [(0, xR r9.1), (1, xI r9.2.1), (2, xI r9.2.2.1), (3, xI r9.2.2.2.1), (4, xI r9.2.2.2.2.1), (5, xI r9.2.2.2.2.2.1), (8, xI r9.2.2.2.2.2.2.1), (9, xI r9.2.2.2.2.2.2.2)] [] g) (fun s9 => hL175 g _ (fun _ hz => hz) (fun _ hz => hz) s9.1 s9.2.1 s9.2.2.1 s9.2.2.2.1 s9.2.2.2.2.1 s9.2.2.2.2.2.1 s9.2.2.2.2.2.2.1 s9.2.2.2.2.2.2.2.1 s9.2.2.2.2.2.2.2.2) (fun r9 x hx hc => hA268_0 r9.1 r9.2.1 r9.2.2.1 r9.2.2.2.1 r9.2.2.2.2.1 r9.2.2.2.2.2.1 r9.2.2.2.2.2.2.1 r9.2.2.2.2.2.2.2 g x hx hc) (v0, v1, v2, v3, v4, v5, (8 : Int32), (0 : Int32), (0 : Int32))
    · refine x_iconst (pc' := 164) (v := 1) K dX8_sale_163 rfl rfl ?_
      exact x_iret K rfl hr dX8_sale_164
  refine (?_ : XF p l e R s m args below meth c D 13 h0 Q 0 [(0, xR v0), (1, xI v1), (2, xI v2), (3, xI v3), (4, xI v4)] [] h0 (fM_sale v0 v1 v2 v3 v4 h0) (XEnd below s D h0 (fun v => .inl (some (xI v))) Q)) (a, h1) hF hQ.symm
  unfold fM_sale
  refine x_aload_n (pc' := 1) K 0 dX8_sale_0 rfl rfl ?_
  refine x_iconst (pc' := 2) (v := 0) K dX8_sale_1 rfl rfl ?_
  refine x_puti (pc' := 5) K fp_14_0 (Or.inl (K.2.2.2.2.1 _ q1312)) (fun _ h9 => h9) (Or.inl rfl) dX8_sale_2 rfl (fun g1 => ?_)
  refine x_aload_n (pc' := 6) K 0 dX8_sale_5 rfl rfl ?_
  refine x_cV (pc' := 9) (As := []) (en := (fun _ => none)) (rest := []) K (fun a h1 hF => ct_X8_lay hF) rfl (by decide) q1479 q1481 qs31 q1482 q105 hy_X8_lay (Nat.le_of_ble_eq_true rfl) (Nat.le_of_ble_eq_true rfl) (Nat.le_of_ble_eq_true rfl) dX8_sale_6 rfl (fun x_ g2 => ?_)
  refine x_aload_n (pc' := 10) K 0 dX8_sale_9 rfl rfl ?_
  refine x_cV (pc' := 13) (As := []) (en := (fun v => some (xI v))) (rest := []) K (fun a h1 hF => ct_X8_take hF) rfl (by decide) q1487 q1489 qs33 q1490 q105 hy_X8_take (Nat.le_of_ble_eq_true rfl) (Nat.le_of_ble_eq_true rfl) (Nat.le_of_ble_eq_true rfl) dX8_sale_10 rfl (fun x3 g4 => ?_)
  refine x_istore (pc' := 15) (lv' := [(5, xI x3), (0, xR v0), (1, xI v1), (2, xI v2), (3, xI v3), (4, xI v4)]) K dX8_sale_13 rfl (by decide) rfl ?_
  refine x_aload_n (pc' := 16) K 1 dX8_sale_15 rfl rfl ?_
  refine x_iload_n (pc' := 17) K 2 dX8_sale_16 rfl rfl ?_
  refine x_cVO (pc' := 20) (As := [xI v1]) (en := (fun v => some (xI v))) (rest := []) K (fun a hF => ct_X8_isWho hF) rfl (by decide) q1586 q1588 qs50 q1589 q105 hy_X8_isWho (Nat.le_of_ble_eq_true rfl) (Nat.le_of_ble_eq_true rfl) (Nat.le_of_ble_eq_true rfl) dX8_sale_17 rfl (fun x5 => ?_)
  refine x_if_eq (tgt := 72) (pc' := 23) K dX8_sale_20 rfl (by decide) ?_ ?_
  · refine x_iconst (pc' := 73) (v := (-1)) K dX8_sale_72 rfl rfl ?_
    exact x_iret K rfl hr dX8_sale_73
  · refine x_aload_n (pc' := 24) K 1 dX8_sale_23 rfl rfl ?_
    refine x_iload_n (pc' := 25) K 3 dX8_sale_24 rfl rfl ?_
    refine x_cVO (pc' := 28) (As := [xI v2]) (en := (fun v => some (xI v))) (rest := []) K (fun a hF => ct_X8_isWho hF) rfl (by decide) q1586 q1588 qs50 q1589 q105 hy_X8_isWho (Nat.le_of_ble_eq_true rfl) (Nat.le_of_ble_eq_true rfl) (Nat.le_of_ble_eq_true rfl) dX8_sale_25 rfl (fun x6 => ?_)
    refine x_if_eq (tgt := 72) (pc' := 31) K dX8_sale_28 rfl (by decide) ?_ ?_
    · refine x_iconst (pc' := 73) (v := (-1)) K dX8_sale_72 rfl rfl ?_
      exact x_iret K rfl hr dX8_sale_73
    · refine x_aload_n (pc' := 32) K 1 dX8_sale_31 rfl rfl ?_
      refine x_iload_n (pc' := 33) K 4 dX8_sale_32 rfl rfl ?_
      refine x_cVO (pc' := 36) (As := [xI v3]) (en := (fun v => some (xI v))) (rest := []) K (fun a hF => ct_X8_isMint hF) rfl (by decide) q1618 q1620 qs57 q1621 q105 hy_X8_isMint (Nat.le_of_ble_eq_true rfl) (Nat.le_of_ble_eq_true rfl) (Nat.le_of_ble_eq_true rfl) dX8_sale_33 rfl (fun x7 => ?_)
      refine x_if_eq (tgt := 72) (pc' := 39) K dX8_sale_36 rfl (by decide) ?_ ?_
      · refine x_iconst (pc' := 73) (v := (-1)) K dX8_sale_72 rfl rfl ?_
        exact x_iret K rfl hr dX8_sale_73
      · refine x_iload (pc' := 41) K 5 dX8_sale_39 rfl rfl ?_
        refine x_iconst (pc' := 42) (v := 1) K dX8_sale_41 rfl rfl ?_
        refine x_sipush (pc' := 45) (v := 9999) K dX8_sale_42 rfl (by decide) ?_
        refine x_cSO (pc' := 48) (As := [xI v4, xI (1 : Int32), xI (9999 : Int32)]) (en := (fun v => some (xI v))) (rest := []) K (fun a hF => ct_X8_isIn hF) rfl q1552 q1553 q1554 q105 hy_X8_isIn (Nat.le_of_ble_eq_true rfl) (Nat.le_of_ble_eq_true rfl) (Nat.le_of_ble_eq_true rfl) dX8_sale_45 rfl (fun x8 => ?_)
        refine x_if_eq (tgt := 72) (pc' := 51) K dX8_sale_48 rfl (by decide) ?_ ?_
        · refine x_iconst (pc' := 73) (v := (-1)) K dX8_sale_72 rfl rfl ?_
          exact x_iret K rfl hr dX8_sale_73
        · refine x_iload (pc' := 53) K 0 dX8_sale_51 rfl rfl ?_
          refine x_if_eq (tgt := 72) (pc' := 56) K dX8_sale_53 rfl (by decide) ?_ ?_
          · refine x_iconst (pc' := 73) (v := (-1)) K dX8_sale_72 rfl rfl ?_
            exact x_iret K rfl hr dX8_sale_73
          · refine x_iload (pc' := 58) K 0 dX8_sale_56 rfl rfl ?_
            refine x_bipush (pc' := 60) (v := 40) K dX8_sale_58 rfl (by decide) ?_
            refine x_icmp_gt (tgt := 72) (pc' := 63) K dX8_sale_60 rfl (by decide) ?_ ?_
            · refine x_iconst (pc' := 73) (v := (-1)) K dX8_sale_72 rfl rfl ?_
              exact x_iret K rfl hr dX8_sale_73
            · refine x_aload_n (pc' := 64) K 1 dX8_sale_63 rfl rfl ?_
              refine x_iload (pc' := 66) K 0 dX8_sale_64 rfl rfl ?_
              refine x_cVO (pc' := 69) (As := [xI x3]) (en := (fun v => some (xI v))) (rest := []) K (fun a hF => ct_X8_isFull hF) rfl (by decide) q1634 q1636 qs60 q1637 q105 hy_X8_isFull (Nat.le_of_ble_eq_true rfl) (Nat.le_of_ble_eq_true rfl) (Nat.le_of_ble_eq_true rfl) dX8_sale_66 rfl (fun x9 => ?_)
              refine x_if_eq (tgt := 74) (pc' := 72) K dX8_sale_69 rfl (by decide) ?_ ?_
              · refine x_lconst (pc' := 75) (v := 0) K dX8_sale_74 rfl rfl ?_
                refine x_lstore (pc' := 77) (lv' := [(6, xJ (0 : Int64)), (5, xI x3), (0, xR v0), (1, xI v1), (2, xI v2), (3, xI v3), (4, xI v4)]) K dX8_sale_75 rfl (by decide) rfl ?_
                refine x_iconst (pc' := 78) (v := 0) K dX8_sale_77 rfl rfl ?_
                refine x_istore (pc' := 80) (lv' := [(8, xI (0 : Int32)), (6, xJ (0 : Int64)), (5, xI x3), (0, xR v0), (1, xI v1), (2, xI v2), (3, xI v3), (4, xI v4)]) K dX8_sale_78 rfl (by decide) rfl ?_
                refine x_sub (lv' := [(0, xR v0), (1, xI v1), (2, xI v2), (3, xI v3), (4, xI v4), (5, xI x3), (6, xJ (0 : Int64)), (8, xI (0 : Int32))]) [3, 4, 5, 6, 7, 2, 1, 0] rfl ?_
                exact x_loop (pl := (fun s9 : (Nat × Int32 × Int32 × Int32 × Int32 × Int32 × Int64 × Int32 × AH) => [(0, xR s9.1), (1, xI s9.2.1), (2, xI s9.2.2.1), (3, xI s9.2.2.2.1), (4, xI s9.2.2.2.2.1), (5, xI s9.2.2.2.2.2.1), (6, xJ s9.2.2.2.2.2.2.1), (8, xI s9.2.2.2.2.2.2.2.1)])) (ph := (fun s9 : (Nat × Int32 × Int32 × Int32 × Int32 × Int32 × Int64 × Int32 × AH) => s9.2.2.2.2.2.2.2.2)) (Sum.elim (fun r9 : (Nat × Int32 × Int32 × Int32 × Int32 × Int32 × AH) => XG p l e R s m args below meth c D 13 h0 Q 154 [(0, xR r9.1), (1, xI r9.2.1), (2, xI r9.2.2.1), (3, xI r9.2.2.2.1), (4, xI r9.2.2.2.2.1), (5, xI r9.2.2.2.2.2.1)] [] r9.2.2.2.2.2.2) (XEnd below s D h0 (fun v => .inl (some (xI v))) Q)) (fun s9 => hL80 _ (fun _ hz => hz) (fun _ hz => hz) (fun _ hz => hz) s9.1 s9.2.1 s9.2.2.1 s9.2.2.2.1 s9.2.2.2.2.1 s9.2.2.2.2.2.1 s9.2.2.2.2.2.2.1 s9.2.2.2.2.2.2.2.1 s9.2.2.2.2.2.2.2.2) (x_ex2 (fun r9 x hx hc => hA154_0 r9.1 r9.2.1 r9.2.2.1 r9.2.2.2.1 r9.2.2.2.2.1 r9.2.2.2.2.2.1 r9.2.2.2.2.2.2 x hx hc)) (v0, v1, v2, v3, v4, x3, (0 : Int64), (0 : Int32), g4)
              · refine x_iconst (pc' := 73) (v := (-1)) K dX8_sale_72 rfl rfl ?_
                exact x_iret K rfl hr dX8_sale_73
/-! FaceCoinsModel.sales()I -/
noncomputable def fM_sales (v0 : Nat) (h0 : AH) : Option (Int32 × AH) :=
  (xpi h0 v0 [14] 0 (0 : Int32)).bind fun g1 =>
  (xgr g1 v0 [14] 14).bind fun x2 =>
  (xai g1 x2 100 (113 : Int32)).bind fun x3 =>
  some ((x3, g1))
set_option maxHeartbeats 4000000 in
theorem ct_X8_sales {l : Launch} {D : XD} {v0 : Nat} {h0 : AH} {a : Int32} {h1 : AH} (hF : fM_sales v0 h0 = some (a, h1)) : XCt l D yX8_sales (ws_ yX8_sales cX8_sales 1 (some .int)) 0 0 [xR v0] h0 (.inl (some (xI a))) h1 := by
  refine x_method (by decide) (Nat.le_of_ble_eq_true rfl) fun p e R s m args below meth c K hr hnm hex => ?_
  have K : XO p R s m args meth c D 1 h0 cX8_sales "FaceCoinsModel" 0 0 := K
  generalize hQ : XMQ below _ _ _ _ _ _ = Q
  refine (?_ : XF p l e R s m args below meth c D 1 h0 Q 0 [(0, xR v0)] [] h0 (fM_sales v0 h0) (XEnd below s D h0 (fun v => .inl (some (xI v))) Q)) (a, h1) hF hQ.symm
  unfold fM_sales
  refine x_aload_n (pc' := 1) K 0 dX8_sales_0 rfl rfl ?_
  refine x_iconst (pc' := 2) (v := 0) K dX8_sales_1 rfl rfl ?_
  refine x_puti (pc' := 5) K fp_14_0 (Or.inl (K.2.2.2.2.1 _ q1312)) (fun _ h9 => h9) (Or.inl rfl) dX8_sales_2 rfl (fun g1 => ?_)
  refine x_aload_n (pc' := 6) K 0 dX8_sales_5 rfl rfl ?_
  refine x_getr (pc' := 9) K fg_14_14 (Or.inl (K.2.2.2.2.1 _ q1326)) (fun _ h9 => h9) dX8_sales_6 rfl (fun x2 => ?_)
  refine x_bipush (pc' := 11) (v := 113) K dX8_sales_9 rfl (by decide) ?_
  refine x_iald (pc' := 12) K dX8_sales_11 rfl (fun x3 => ?_)
  exact x_iret K rfl hr dX8_sales_12
/-! FaceCoinsModel.sold(II)I -/
noncomputable def fM_sold (v0 : Nat) (v1 : Int32) (v2 : Int32) (h0 : AH) : Option (Int32 × AH) :=
  if v1 < 0 then (
    xb2 (xck h0 v0 14 (fM_refuse v0 h0)) fun x1 g2 =>
    some ((x1, g2)))
  else (
    (xgr h0 v0 [14] 14).bind fun x3 =>
    (xai h0 x3 100 (113 : Int32)).bind fun x4 =>
    if x4 ≤ v1 then (
      xb2 (xck h0 v0 14 (fM_refuse v0 h0)) fun x5 g6 =>
      some ((x5, g6)))
    else (
      (fM_isIn v2 (0 : Int32) (6 : Int32) h0).bind fun x7 =>
      if x7 = 0 then (
        xb2 (xck h0 v0 14 (fM_refuse v0 h0)) fun x11 g12 =>
        some ((x11, g12)))
      else (
        (xpi h0 v0 [14] 0 (0 : Int32)).bind fun g8 =>
        (xgr g8 v0 [14] 14).bind fun x9 =>
        (xai g8 x9 100 (((4400 : Int32) + ((7 : Int32) * v1)) + v2)).bind fun x10 =>
        some ((x10, g8)))))
set_option maxHeartbeats 4000000 in
theorem ct_X8_sold {l : Launch} {D : XD} {v0 : Nat} {v1 : Int32} {v2 : Int32} {h0 : AH} {a : Int32} {h1 : AH} (hF : fM_sold v0 v1 v2 h0 = some (a, h1)) : XCt l D yX8_sold (ws_ yX8_sold cX8_sold 3 (some .int)) 1 22 [xR v0, xI v1, xI v2] h0 (.inl (some (xI a))) h1 := by
  refine x_method (by decide) (Nat.le_of_ble_eq_true rfl) fun p e R s m args below meth c K hr hnm hex => ?_
  have K : XO p R s m args meth c D 3 h0 cX8_sold "FaceCoinsModel" 1 22 := K
  generalize hQ : XMQ below _ _ _ _ _ _ = Q
  refine (?_ : XF p l e R s m args below meth c D 3 h0 Q 0 [(0, xR v0), (1, xI v1), (2, xI v2)] [] h0 (fM_sold v0 v1 v2 h0) (XEnd below s D h0 (fun v => .inl (some (xI v))) Q)) (a, h1) hF hQ.symm
  unfold fM_sold
  refine x_iload_n (pc' := 1) K 1 dX8_sold_0 rfl rfl ?_
  refine x_if_lt (tgt := 25) (pc' := 4) K dX8_sold_1 rfl (by decide) ?_ ?_
  · refine x_aload_n (pc' := 26) K 0 dX8_sold_25 rfl rfl ?_
    refine x_cV (pc' := 29) (As := []) (en := (fun v => some (xI v))) (rest := []) K (fun a h1 hF => ct_X8_refuse hF) rfl (by decide) q1594 q1596 qs52 q1597 q105 hy_X8_refuse (Nat.le_of_ble_eq_true rfl) (Nat.le_of_ble_eq_true rfl) (Nat.le_of_ble_eq_true rfl) dX8_sold_26 rfl (fun x1 g2 => ?_)
    exact x_iret K rfl hr dX8_sold_29
  · refine x_iload_n (pc' := 5) K 1 dX8_sold_4 rfl rfl ?_
    refine x_aload_n (pc' := 6) K 0 dX8_sold_5 rfl rfl ?_
    refine x_getr (pc' := 9) K fg_14_14 (Or.inl (K.2.2.2.2.1 _ q1326)) (fun _ h9 => h9) dX8_sold_6 rfl (fun x3 => ?_)
    refine x_bipush (pc' := 11) (v := 113) K dX8_sold_9 rfl (by decide) ?_
    refine x_iald (pc' := 12) K dX8_sold_11 rfl (fun x4 => ?_)
    refine x_icmp_ge (tgt := 25) (pc' := 15) K dX8_sold_12 rfl (by decide) ?_ ?_
    · refine x_aload_n (pc' := 26) K 0 dX8_sold_25 rfl rfl ?_
      refine x_cV (pc' := 29) (As := []) (en := (fun v => some (xI v))) (rest := []) K (fun a h1 hF => ct_X8_refuse hF) rfl (by decide) q1594 q1596 qs52 q1597 q105 hy_X8_refuse (Nat.le_of_ble_eq_true rfl) (Nat.le_of_ble_eq_true rfl) (Nat.le_of_ble_eq_true rfl) dX8_sold_26 rfl (fun x5 g6 => ?_)
      exact x_iret K rfl hr dX8_sold_29
    · refine x_iload_n (pc' := 16) K 2 dX8_sold_15 rfl rfl ?_
      refine x_iconst (pc' := 17) (v := 0) K dX8_sold_16 rfl rfl ?_
      refine x_bipush (pc' := 19) (v := 6) K dX8_sold_17 rfl (by decide) ?_
      refine x_cSO (pc' := 22) (As := [xI v2, xI (0 : Int32), xI (6 : Int32)]) (en := (fun v => some (xI v))) (rest := []) K (fun a hF => ct_X8_isIn hF) rfl q1552 q1553 q1554 q105 hy_X8_isIn (Nat.le_of_ble_eq_true rfl) (Nat.le_of_ble_eq_true rfl) (Nat.le_of_ble_eq_true rfl) dX8_sold_19 rfl (fun x7 => ?_)
      refine x_if_ne (tgt := 30) (pc' := 25) K dX8_sold_22 rfl (by decide) ?_ ?_
      · refine x_aload_n (pc' := 31) K 0 dX8_sold_30 rfl rfl ?_
        refine x_iconst (pc' := 32) (v := 0) K dX8_sold_31 rfl rfl ?_
        refine x_puti (pc' := 35) K fp_14_0 (Or.inl (K.2.2.2.2.1 _ q1312)) (fun _ h9 => h9) (Or.inl rfl) dX8_sold_32 rfl (fun g8 => ?_)
        refine x_aload_n (pc' := 36) K 0 dX8_sold_35 rfl rfl ?_
        refine x_getr (pc' := 39) K fg_14_14 (Or.inl (K.2.2.2.2.1 _ q1326)) (fun _ h9 => h9) dX8_sold_36 rfl (fun x9 => ?_)
        refine x_sipush (pc' := 42) (v := 4400) K dX8_sold_39 rfl (by decide) ?_
        refine x_bipush (pc' := 44) (v := 7) K dX8_sold_42 rfl (by decide) ?_
        refine x_iload_n (pc' := 45) K 1 dX8_sold_44 rfl rfl ?_
        refine x_imul (pc' := 46) K dX8_sold_45 rfl ?_
        refine x_iadd (pc' := 47) K dX8_sold_46 rfl ?_
        refine x_iload_n (pc' := 48) K 2 dX8_sold_47 rfl rfl ?_
        refine x_iadd (pc' := 49) K dX8_sold_48 rfl ?_
        refine x_iald (pc' := 50) K dX8_sold_49 rfl (fun x10 => ?_)
        exact x_iret K rfl hr dX8_sold_50
      · refine x_aload_n (pc' := 26) K 0 dX8_sold_25 rfl rfl ?_
        refine x_cV (pc' := 29) (As := []) (en := (fun v => some (xI v))) (rest := []) K (fun a h1 hF => ct_X8_refuse hF) rfl (by decide) q1594 q1596 qs52 q1597 q105 hy_X8_refuse (Nat.le_of_ble_eq_true rfl) (Nat.le_of_ble_eq_true rfl) (Nat.le_of_ble_eq_true rfl) dX8_sold_26 rfl (fun x11 g12 => ?_)
        exact x_iret K rfl hr dX8_sold_29
/-! FaceCoinsModel.costOf(III)I -/
noncomputable def fM_costOf_b69 (v0 : Nat) (v1 : Int32) (t0 : Nat) (t1 : Int32) (t2 : Int32) (h0 : AH) : Option Int32 :=
  (xai h0 t0 100 (t1 + t2)).bind fun x4 =>
  if x4 < (100000000 : Int32) then (
    (xgr h0 v0 [14] 26).bind fun x5 =>
    (xai h0 x5 100 v1).bind fun x6 =>
    (xck h0 v0 14 (fM_ofCoin v0 x6 (0 : Int32) h0)).bind fun x7 =>
    some (((x4 + ((16 : Int32) * x7)) + (1 : Int32))))
  else (
    some ((100000000 : Int32)))
noncomputable def fM_costOf (v0 : Nat) (v1 : Int32) (v2 : Int32) (v3 : Int32) (h0 : AH) : Option Int32 :=
  if v3 = 0 then (
    (xgr h0 v0 [14] 28).bind fun x8 =>
    (xai h0 x8 100 (((2001 : Int32) * (v1 + (1 : Int32))) + v2)).bind fun x9 =>
    some (x9))
  else (
    (xgr h0 v0 [14] 27).bind fun x1 =>
    (xai h0 x1 100 (((6 : Int32) * v1) + v3)).bind fun x2 =>
    if x2 = 0 then (
      some ((100000000 : Int32)))
    else (
      (xgr h0 v0 [14] 28).bind fun x3 =>
      if v2 ≤ x2 then (
        fM_costOf_b69 v0 v1 x3 ((2001 : Int32) * (v1 + (1 : Int32))) (0 : Int32) h0)
      else (
        fM_costOf_b69 v0 v1 x3 ((2001 : Int32) * (v1 + (1 : Int32))) (v2 - x2) h0)))
set_option maxHeartbeats 4000000 in
theorem ct_X8_costOf {l : Launch} {D : XD} {v0 : Nat} {v1 : Int32} {v2 : Int32} {v3 : Int32} {h0 : AH} {a : Int32} (hF : fM_costOf v0 v1 v2 v3 h0 = some a) : XCt l D yX8_costOf (ws_ yX8_costOf cX8_costOf 7 (some .int)) 1 22 [xR v0, xI v1, xI v2, xI v3] h0 (.inl (some (xI a))) h0 := by
  refine x_method (by decide) (Nat.le_of_ble_eq_true rfl) fun p e R s m args below meth c K hr hnm hex => ?_
  have K : XO p R s m args meth c D 7 h0 cX8_costOf "FaceCoinsModel" 1 22 := K
  generalize hQ : XMQ below _ _ _ _ _ _ = Q
  have hB69 : ∀ (v0 : Nat) (v1 : Int32) (t0 : Nat) (t1 : Int32) (t2 : Int32), XF p l e R s m args below meth c D 7 h0 Q 69 [(0, xR v0), (1, xI v1)] [xI t2, xI t1, xR t0] h0 (fM_costOf_b69 v0 v1 t0 t1 t2 h0) (fun z => XEnd below s D h0 (fun v => .inl (some (xI v))) Q (z, h0)) := by
    intro v0 v1 t0 t1 t2
    unfold fM_costOf_b69
    refine x_iadd (pc' := 70) K dX8_costOf_69 rfl ?_
    refine x_iald (pc' := 71) K dX8_costOf_70 rfl (fun x4 => ?_)
    refine x_istore (pc' := 73) (lv' := [(6, xI x4), (0, xR v0), (1, xI v1)]) K dX8_costOf_71 rfl (by decide) rfl ?_
    refine x_iload (pc' := 75) K 0 dX8_costOf_73 rfl rfl ?_
    refine x_ldcw (pc' := 78) K q1730 dX8_costOf_75 rfl ?_
    refine x_icmp_lt (tgt := 87) (pc' := 81) K dX8_costOf_78 rfl (by decide) ?_ ?_
    · refine x_iload (pc' := 89) K 0 dX8_costOf_87 rfl rfl ?_
      refine x_bipush (pc' := 91) (v := 16) K dX8_costOf_89 rfl (by decide) ?_
      refine x_aload_n (pc' := 92) K 1 dX8_costOf_91 rfl rfl ?_
      refine x_aload_n (pc' := 93) K 1 dX8_costOf_92 rfl rfl ?_
      refine x_getr (pc' := 96) K fg_14_26 (Or.inl (K.2.2.2.2.1 _ q1338)) (fun _ h9 => h9) dX8_costOf_93 rfl (fun x5 => ?_)
      refine x_iload_n (pc' := 97) K 2 dX8_costOf_96 rfl rfl ?_
      refine x_iald (pc' := 98) K dX8_costOf_97 rfl (fun x6 => ?_)
      refine x_iconst (pc' := 99) (v := 0) K dX8_costOf_98 rfl rfl ?_
      refine x_cVO (pc' := 102) (As := [xI x6, xI (0 : Int32)]) (en := (fun v => some (xI v))) (rest := [xI (16 : Int32), xI x4]) K (fun a hF => ct_X8_ofCoin hF) rfl (by decide) q1610 q1612 qs56 q1613 q105 hy_X8_ofCoin (Nat.le_of_ble_eq_true rfl) (Nat.le_of_ble_eq_true rfl) (Nat.le_of_ble_eq_true rfl) dX8_costOf_99 rfl (fun x7 => ?_)
      refine x_imul (pc' := 103) K dX8_costOf_102 rfl ?_
      refine x_iadd (pc' := 104) K dX8_costOf_103 rfl ?_
      refine x_iconst (pc' := 105) (v := 1) K dX8_costOf_104 rfl rfl ?_
      refine x_iadd (pc' := 106) K dX8_costOf_105 rfl ?_
      exact x_ro (C9 := XEnd below s D h0 (fun v => .inl (some (xI v))) Q) (x_iret K rfl hr dX8_costOf_106)
    · refine x_ldcw (pc' := 84) K q1730 dX8_costOf_81 rfl ?_
      refine x_goto (tgt := 106) K dX8_costOf_84 (by decide) ?_
      exact x_ro (C9 := XEnd below s D h0 (fun v => .inl (some (xI v))) Q) (x_iret K rfl hr dX8_costOf_106)
  refine (?_ : XF p l e R s m args below meth c D 7 h0 Q 0 [(0, xR v0), (1, xI v1), (2, xI v2), (3, xI v3)] [] h0 (fM_costOf v0 v1 v2 v3 h0) (fun z => XEnd below s D h0 (fun v => .inl (some (xI v))) Q (z, h0))) a hF hQ.symm
  unfold fM_costOf
  refine x_sipush (pc' := 3) (v := 2001) K dX8_costOf_0 rfl (by decide) ?_
  refine x_istore (pc' := 5) (lv' := [(4, xI (2001 : Int32)), (0, xR v0), (1, xI v1), (2, xI v2), (3, xI v3)]) K dX8_costOf_3 rfl (by decide) rfl ?_
  refine x_iload_n (pc' := 6) K 4 dX8_costOf_5 rfl rfl ?_
  refine x_if_ne (tgt := 23) (pc' := 9) K dX8_costOf_6 rfl (by decide) ?_ ?_
  · refine x_aload_n (pc' := 24) K 1 dX8_costOf_23 rfl rfl ?_
    refine x_getr (pc' := 27) K fg_14_27 (Or.inl (K.2.2.2.2.1 _ q1339)) (fun _ h9 => h9) dX8_costOf_24 rfl (fun x1 => ?_)
    refine x_bipush (pc' := 29) (v := 6) K dX8_costOf_27 rfl (by decide) ?_
    refine x_iload_n (pc' := 30) K 2 dX8_costOf_29 rfl rfl ?_
    refine x_imul (pc' := 31) K dX8_costOf_30 rfl ?_
    refine x_iload_n (pc' := 32) K 4 dX8_costOf_31 rfl rfl ?_
    refine x_iadd (pc' := 33) K dX8_costOf_32 rfl ?_
    refine x_iald (pc' := 34) K dX8_costOf_33 rfl (fun x2 => ?_)
    refine x_istore (pc' := 36) (lv' := [(5, xI x2), (4, xI (2001 : Int32)), (0, xR v0), (1, xI v1), (2, xI v2), (3, xI v3)]) K dX8_costOf_34 rfl (by decide) rfl ?_
    refine x_iload (pc' := 38) K 0 dX8_costOf_36 rfl rfl ?_
    refine x_if_ne (tgt := 45) (pc' := 41) K dX8_costOf_38 rfl (by decide) ?_ ?_
    · refine x_aload_n (pc' := 46) K 2 dX8_costOf_45 rfl rfl ?_
      refine x_getr (pc' := 49) K fg_14_28 (Or.inl (K.2.2.2.2.1 _ q1340)) (fun _ h9 => h9) dX8_costOf_46 rfl (fun x3 => ?_)
      refine x_iload (pc' := 51) K 1 dX8_costOf_49 rfl rfl ?_
      refine x_iload_n (pc' := 52) K 3 dX8_costOf_51 rfl rfl ?_
      refine x_iconst (pc' := 53) (v := 1) K dX8_costOf_52 rfl rfl ?_
      refine x_iadd (pc' := 54) K dX8_costOf_53 rfl ?_
      refine x_imul (pc' := 55) K dX8_costOf_54 rfl ?_
      refine x_iload_n (pc' := 56) K 4 dX8_costOf_55 rfl rfl ?_
      refine x_iload (pc' := 58) K 0 dX8_costOf_56 rfl rfl ?_
      refine x_icmp_le (tgt := 68) (pc' := 61) K dX8_costOf_58 rfl (by decide) ?_ ?_
      · refine x_iconst (pc' := 69) (v := 0) K dX8_costOf_68 rfl rfl ?_
        refine x_sub (lv' := [(0, xR v0), (1, xI v1)]) [2, 3] rfl ?_
        exact hB69 _ _ _ _ _
      · refine x_iload_n (pc' := 62) K 4 dX8_costOf_61 rfl rfl ?_
        refine x_iload (pc' := 64) K 0 dX8_costOf_62 rfl rfl ?_
        refine x_isub (pc' := 65) K dX8_costOf_64 rfl ?_
        refine x_goto (tgt := 69) K dX8_costOf_65 (by decide) ?_
        refine x_sub (lv' := [(0, xR v0), (1, xI v1)]) [2, 3] rfl ?_
        exact hB69 _ _ _ _ _
    · refine x_ldcw (pc' := 44) K q1730 dX8_costOf_41 rfl ?_
      exact x_ro (C9 := XEnd below s D h0 (fun v => .inl (some (xI v))) Q) (x_iret K rfl hr dX8_costOf_44)
  · refine x_aload_n (pc' := 10) K 1 dX8_costOf_9 rfl rfl ?_
    refine x_getr (pc' := 13) K fg_14_28 (Or.inl (K.2.2.2.2.1 _ q1340)) (fun _ h9 => h9) dX8_costOf_10 rfl (fun x8 => ?_)
    refine x_iload (pc' := 15) K 0 dX8_costOf_13 rfl rfl ?_
    refine x_iload_n (pc' := 16) K 2 dX8_costOf_15 rfl rfl ?_
    refine x_iconst (pc' := 17) (v := 1) K dX8_costOf_16 rfl rfl ?_
    refine x_iadd (pc' := 18) K dX8_costOf_17 rfl ?_
    refine x_imul (pc' := 19) K dX8_costOf_18 rfl ?_
    refine x_iload_n (pc' := 20) K 3 dX8_costOf_19 rfl rfl ?_
    refine x_iadd (pc' := 21) K dX8_costOf_20 rfl ?_
    refine x_iald (pc' := 22) K dX8_costOf_21 rfl (fun x9 => ?_)
    exact x_ro (C9 := XEnd below s D h0 (fun v => .inl (some (xI v))) Q) (x_iret K rfl hr dX8_costOf_22)
/-! FaceCoinsModel.bestOf(II)I -/
noncomputable def fM_bestOf_l7 (v0 : Nat) (v1 : Int32) (v2 : Int32) (v3 : Int32) (v4 : Int32) (h0 : AH) : Option ((Nat × Int32 × Int32 × Int32 × Int32) ⊕ Int32) :=
  (xck h0 v0 14 (fM_mints v0 h0)).bind fun x1 =>
  if ((2 : Int32) + x1) ≤ v4 then (
    some (Sum.inr v3))
  else (
    (xck h0 v0 14 (fM_costOf v0 v1 v2 v4 h0)).bind fun x2 =>
    if v3 ≤ x2 then (
      some (Sum.inl (v0, v1, v2, v3, (v4 + 1))))
    else (
      some (Sum.inl (v0, v1, v2, x2, (v4 + 1)))))
noncomputable def fM_bestOf_a43 (v3 : Int32) (h0 : AH) : Option Int32 :=
  some (v3)
noncomputable def fM_bestOf (v0 : Nat) (v1 : Int32) (v2 : Int32) (h0 : AH) : Option Int32 :=
  (xloop (fun s9 : (Nat × Int32 × Int32 × Int32 × Int32) => fM_bestOf_l7 s9.1 s9.2.1 s9.2.2.1 s9.2.2.2.1 s9.2.2.2.2 h0) (v0, v1, v2, (100000000 : Int32), (0 : Int32))).bind (fun r9 : Int32 => fM_bestOf_a43 r9 h0)
set_option maxHeartbeats 4000000 in
theorem ct_X8_bestOf {l : Launch} {D : XD} {v0 : Nat} {v1 : Int32} {v2 : Int32} {h0 : AH} {a : Int32} (hF : fM_bestOf v0 v1 v2 h0 = some a) : XCt l D yX8_bestOf (ws_ yX8_bestOf cX8_bestOf 6 (some .int)) 2 48 [xR v0, xI v1, xI v2] h0 (.inl (some (xI a))) h0 := by
  refine x_method (by decide) (Nat.le_of_ble_eq_true rfl) fun p e R s m args below meth c K hr hnm hex => ?_
  have K : XO p R s m args meth c D 6 h0 cX8_bestOf "FaceCoinsModel" 2 48 := K
  generalize hQ : XMQ below _ _ _ _ _ _ = Q
  have hL7 : ∀ (C1 : ((Nat × Int32 × Int32 × Int32 × Int32) ⊕ Int32) → Prop) (hj1 : ∀ s9 : (Nat × Int32 × Int32 × Int32 × Int32), C1 (Sum.inl s9) → XG p l e R s m args below meth c D 6 h0 Q 7 [(0, xR s9.1), (1, xI s9.2.1), (2, xI s9.2.2.1), (3, xI s9.2.2.2.1), (4, xI s9.2.2.2.2)] [] h0) (he1 : ∀ r9 : Int32, C1 (Sum.inr r9) → XG p l e R s m args below meth c D 6 h0 Q 43 [(3, xI r9)] [] h0) (v0 : Nat) (v1 : Int32) (v2 : Int32) (v3 : Int32) (v4 : Int32), XF p l e R s m args below meth c D 6 h0 Q 7 [(0, xR v0), (1, xI v1), (2, xI v2), (3, xI v3), (4, xI v4)] [] h0 (fM_bestOf_l7 v0 v1 v2 v3 v4 h0) C1 := by
    intro C1 hj1 he1
    intro v0 v1 v2 v3 v4
    unfold fM_bestOf_l7
    refine x_iload (pc' := 9) K 4 dX8_bestOf_7 rfl rfl ?_
    refine x_iconst (pc' := 10) (v := 2) K dX8_bestOf_9 rfl rfl ?_
    refine x_aload_n (pc' := 11) K 0 dX8_bestOf_10 rfl rfl ?_
    refine x_cVO (pc' := 14) (As := []) (en := (fun v => some (xI v))) (rest := [xI (2 : Int32), xI v4]) K (fun a hF => ct_X8_mints hF) rfl (by decide) q1622 q1624 qs58 q1625 q105 hy_X8_mints (Nat.le_of_ble_eq_true rfl) (Nat.le_of_ble_eq_true rfl) (Nat.le_of_ble_eq_true rfl) dX8_bestOf_11 rfl (fun x1 => ?_)
    refine x_iadd (pc' := 15) K dX8_bestOf_14 rfl ?_
    refine x_icmp_ge (tgt := 43) (pc' := 18) K dX8_bestOf_15 rfl (by decide) ?_ ?_
    · refine x_sub (lv' := [(3, xI v3)]) [3] rfl ?_
      exact x_jump (fun hz => he1 v3 hz)
    · refine x_aload_n (pc' := 19) K 0 dX8_bestOf_18 rfl rfl ?_
      refine x_iload_n (pc' := 20) K 1 dX8_bestOf_19 rfl rfl ?_
      refine x_iload_n (pc' := 21) K 2 dX8_bestOf_20 rfl rfl ?_
      refine x_iload (pc' := 23) K 4 dX8_bestOf_21 rfl rfl ?_
      refine x_cVO (pc' := 26) (As := [xI v1, xI v2, xI v4]) (en := (fun v => some (xI v))) (rest := []) K (fun a hF => ct_X8_costOf hF) rfl (by decide) q1735 q1737 qs76 q1738 q105 hy_X8_costOf (Nat.le_of_ble_eq_true rfl) (Nat.le_of_ble_eq_true rfl) (Nat.le_of_ble_eq_true rfl) dX8_bestOf_23 rfl (fun x2 => ?_)
      refine x_istore (pc' := 28) (lv' := [(5, xI x2), (0, xR v0), (1, xI v1), (2, xI v2), (3, xI v3), (4, xI v4)]) K dX8_bestOf_26 rfl (by decide) rfl ?_
      refine x_iload (pc' := 30) K 0 dX8_bestOf_28 rfl rfl ?_
      refine x_iload_n (pc' := 31) K 4 dX8_bestOf_30 rfl rfl ?_
      refine x_icmp_ge (tgt := 37) (pc' := 34) K dX8_bestOf_31 rfl (by decide) ?_ ?_
      · refine x_iinc (pc' := 40) (y := 1) (lv' := [(4, xI (v4 + 1)), (5, xI x2), (0, xR v0), (1, xI v1), (2, xI v2), (3, xI v3)]) K 5 dX8_bestOf_37 rfl rfl (by decide) (by decide) rfl ?_
        refine x_goto (tgt := 7) K dX8_bestOf_40 (by decide) ?_
        refine x_sub (lv' := [(0, xR v0), (1, xI v1), (2, xI v2), (3, xI v3), (4, xI (v4 + 1))]) [2, 3, 4, 5, 0] rfl ?_
        exact x_jump (fun hz => hj1 (v0, v1, v2, v3, (v4 + 1)) hz)
      · refine x_iload (pc' := 36) K 0 dX8_bestOf_34 rfl rfl ?_
        refine x_istore_n (pc' := 37) (lv' := [(3, xI x2), (5, xI x2), (0, xR v0), (1, xI v1), (2, xI v2), (4, xI v4)]) K dX8_bestOf_36 rfl (by decide) rfl ?_
        refine x_iinc (pc' := 40) (y := 1) (lv' := [(4, xI (v4 + 1)), (3, xI x2), (5, xI x2), (0, xR v0), (1, xI v1), (2, xI v2)]) K 5 dX8_bestOf_37 rfl rfl (by decide) (by decide) rfl ?_
        refine x_goto (tgt := 7) K dX8_bestOf_40 (by decide) ?_
        refine x_sub (lv' := [(0, xR v0), (1, xI v1), (2, xI v2), (3, xI x2), (4, xI (v4 + 1))]) [3, 4, 5, 1, 0] rfl ?_
        exact x_jump (fun hz => hj1 (v0, v1, v2, x2, (v4 + 1)) hz)
  have hA43_0 : ∀ (v3 : Int32), XF p l e R s m args below meth c D 6 h0 Q 43 [(3, xI v3)] [] h0 (fM_bestOf_a43 v3 h0) (fun z => XEnd below s D h0 (fun v => .inl (some (xI v))) Q (z, h0)) := by
    intro v3
    unfold fM_bestOf_a43
    refine x_iload_n (pc' := 44) K 0 dX8_bestOf_43 rfl rfl ?_
    exact x_ro (C9 := XEnd below s D h0 (fun v => .inl (some (xI v))) Q) (x_iret K rfl hr dX8_bestOf_44)
  refine (?_ : XF p l e R s m args below meth c D 6 h0 Q 0 [(0, xR v0), (1, xI v1), (2, xI v2)] [] h0 (fM_bestOf v0 v1 v2 h0) (fun z => XEnd below s D h0 (fun v => .inl (some (xI v))) Q (z, h0))) a hF hQ.symm
  unfold fM_bestOf
  refine x_ldcw (pc' := 3) K q1730 dX8_bestOf_0 rfl ?_
  refine x_istore_n (pc' := 4) (lv' := [(3, xI (100000000 : Int32)), (0, xR v0), (1, xI v1), (2, xI v2)]) K dX8_bestOf_3 rfl (by decide) rfl ?_
  refine x_iconst (pc' := 5) (v := 0) K dX8_bestOf_4 rfl rfl ?_
  refine x_istore (pc' := 7) (lv' := [(4, xI (0 : Int32)), (3, xI (100000000 : Int32)), (0, xR v0), (1, xI v1), (2, xI v2)]) K dX8_bestOf_5 rfl (by decide) rfl ?_
  refine x_sub (lv' := [(0, xR v0), (1, xI v1), (2, xI v2), (3, xI (100000000 : Int32)), (4, xI (0 : Int32))]) [2, 3, 4, 1, 0] rfl ?_
  exact x_loop (pl := (fun s9 : (Nat × Int32 × Int32 × Int32 × Int32) => [(0, xR s9.1), (1, xI s9.2.1), (2, xI s9.2.2.1), (3, xI s9.2.2.2.1), (4, xI s9.2.2.2.2)])) (ph := (fun s9 : (Nat × Int32 × Int32 × Int32 × Int32) => h0)) (fun r9 : Int32 => XG p l e R s m args below meth c D 6 h0 Q 43 [(3, xI r9)] [] h0) (fun s9 => hL7 _ (fun _ hz => hz) (fun _ hz => hz) s9.1 s9.2.1 s9.2.2.1 s9.2.2.2.1 s9.2.2.2.2) (fun r9 x hx hc => hA43_0 r9 x hx hc) (v0, v1, v2, (100000000 : Int32), (0 : Int32))
/-! FaceCoinsModel.worthOf(IIIIII)I -/
noncomputable def fM_worthOf_b63 (v0 : Nat) (v4 : Int32) (v5 : Int32) (v6 : Int32) (v7 : Int32) (v8 : Int32) (v9 : Int32)  (h0 : AH) : Option Int32 :=
  (xck h0 v0 14 (fM_wrongStroke v0 v7 v8 v5 h0)).bind fun x4 =>
  if x4 = 0 then (
    (xck h0 v0 14 (fM_hundredths v0 v4 v9 v6 h0)).bind fun x5 =>
    (xdiv (v7 * x5) (100 : Int32)).bind fun x6 =>
    some (x6))
  else (
    some ((0 : Int32)))
noncomputable def fM_worthOf (v0 : Nat) (v1 : Int32) (v2 : Int32) (v3 : Int32) (v4 : Int32) (v5 : Int32) (v6 : Int32) (h0 : AH) : Option Int32 :=
  (xck h0 v0 14 (fM_ofCoin v0 v1 (0 : Int32) h0)).bind fun x1 =>
  (xck h0 v0 14 (fM_ofCoin v0 v1 (2 : Int32) h0)).bind fun x2 =>
  (xck h0 v0 14 (fM_topOf v0 v1 h0)).bind fun x3 =>
  if v2 ≤ (1 : Int32) then (
    fM_worthOf_b63 v0 v4 v5 v6 x1 x2 x3 h0)
  else (
    (xck h0 v0 14 (fM_wrongStroke v0 x1 x2 (v2 - (2 : Int32)) h0)).bind fun x7 =>
    if x7 = 0 then (
      (xck h0 v0 14 (fM_ofMint v0 (v2 - (2 : Int32)) (0 : Int32) h0)).bind fun x8 =>
      fM_worthOf_b63 v0 v4 v5 v6 (x1 - x8) (x2 + 1) v3 h0)
    else (
      some ((0 : Int32))))
set_option maxHeartbeats 4000000 in
theorem ct_X8_worthOf {l : Launch} {D : XD} {v0 : Nat} {v1 : Int32} {v2 : Int32} {v3 : Int32} {v4 : Int32} {v5 : Int32} {v6 : Int32} {h0 : AH} {a : Int32} (hF : fM_worthOf v0 v1 v2 v3 v4 v5 v6 h0 = some a) : XCt l D yX8_worthOf (ws_ yX8_worthOf cX8_worthOf 10 (some .int)) 2 47 [xR v0, xI v1, xI v2, xI v3, xI v4, xI v5, xI v6] h0 (.inl (some (xI a))) h0 := by
  refine x_method (by decide) (Nat.le_of_ble_eq_true rfl) fun p e R s m args below meth c K hr hnm hex => ?_
  have K : XO p R s m args meth c D 10 h0 cX8_worthOf "FaceCoinsModel" 2 47 := K
  generalize hQ : XMQ below _ _ _ _ _ _ = Q
  have hB63 : ∀ (v0 : Nat) (v4 : Int32) (v5 : Int32) (v6 : Int32) (v7 : Int32) (v8 : Int32) (v9 : Int32) , XF p l e R s m args below meth c D 10 h0 Q 63 [(0, xR v0), (4, xI v4), (5, xI v5), (6, xI v6), (7, xI v7), (8, xI v8), (9, xI v9)] [] h0 (fM_worthOf_b63 v0 v4 v5 v6 v7 v8 v9 h0) (fun z => XEnd below s D h0 (fun v => .inl (some (xI v))) Q (z, h0)) := by
    intro v0 v4 v5 v6 v7 v8 v9
    unfold fM_worthOf_b63
    refine x_aload_n (pc' := 64) K 0 dX8_worthOf_63 rfl rfl ?_
    refine x_iload (pc' := 66) K 4 dX8_worthOf_64 rfl rfl ?_
    refine x_iload (pc' := 68) K 5 dX8_worthOf_66 rfl rfl ?_
    refine x_iload (pc' := 70) K 2 dX8_worthOf_68 rfl rfl ?_
    refine x_cVO (pc' := 73) (As := [xI v7, xI v8, xI v5]) (en := (fun v => some (xI v))) (rest := []) K (fun a hF => ct_X8_wrongStroke hF) rfl (by decide) q1638 q1640 qs61 q1641 q105 hy_X8_wrongStroke (Nat.le_of_ble_eq_true rfl) (Nat.le_of_ble_eq_true rfl) (Nat.le_of_ble_eq_true rfl) dX8_worthOf_70 rfl (fun x4 => ?_)
    refine x_if_eq (tgt := 80) (pc' := 76) K dX8_worthOf_73 rfl (by decide) ?_ ?_
    · refine x_iload (pc' := 82) K 4 dX8_worthOf_80 rfl rfl ?_
      refine x_aload_n (pc' := 83) K 0 dX8_worthOf_82 rfl rfl ?_
      refine x_iload (pc' := 85) K 1 dX8_worthOf_83 rfl rfl ?_
      refine x_iload (pc' := 87) K 6 dX8_worthOf_85 rfl rfl ?_
      refine x_iload (pc' := 89) K 3 dX8_worthOf_87 rfl rfl ?_
      refine x_cVO (pc' := 92) (As := [xI v4, xI v9, xI v6]) (en := (fun v => some (xI v))) (rest := [xI v7]) K (fun a hF => ct_X8_hundredths hF) rfl (by decide) q1682 q1684 qs68 q1685 q105 hy_X8_hundredths (Nat.le_of_ble_eq_true rfl) (Nat.le_of_ble_eq_true rfl) (Nat.le_of_ble_eq_true rfl) dX8_worthOf_89 rfl (fun x5 => ?_)
      refine x_imul (pc' := 93) K dX8_worthOf_92 rfl ?_
      refine x_bipush (pc' := 95) (v := 100) K dX8_worthOf_93 rfl (by decide) ?_
      refine x_idiv (pc' := 96) K dX8_worthOf_95 rfl (fun x6 => ?_)
      exact x_ro (C9 := XEnd below s D h0 (fun v => .inl (some (xI v))) Q) (x_iret K rfl hr dX8_worthOf_96)
    · refine x_iconst (pc' := 77) (v := 0) K dX8_worthOf_76 rfl rfl ?_
      refine x_goto (tgt := 96) K dX8_worthOf_77 (by decide) ?_
      exact x_ro (C9 := XEnd below s D h0 (fun v => .inl (some (xI v))) Q) (x_iret K rfl hr dX8_worthOf_96)
  refine (?_ : XF p l e R s m args below meth c D 10 h0 Q 0 [(0, xR v0), (1, xI v1), (2, xI v2), (3, xI v3), (4, xI v4), (5, xI v5), (6, xI v6)] [] h0 (fM_worthOf v0 v1 v2 v3 v4 v5 v6 h0) (fun z => XEnd below s D h0 (fun v => .inl (some (xI v))) Q (z, h0))) a hF hQ.symm
  unfold fM_worthOf
  refine x_aload_n (pc' := 1) K 0 dX8_worthOf_0 rfl rfl ?_
  refine x_iload_n (pc' := 2) K 1 dX8_worthOf_1 rfl rfl ?_
  refine x_iconst (pc' := 3) (v := 0) K dX8_worthOf_2 rfl rfl ?_
  refine x_cVO (pc' := 6) (As := [xI v1, xI (0 : Int32)]) (en := (fun v => some (xI v))) (rest := []) K (fun a hF => ct_X8_ofCoin hF) rfl (by decide) q1610 q1612 qs56 q1613 q105 hy_X8_ofCoin (Nat.le_of_ble_eq_true rfl) (Nat.le_of_ble_eq_true rfl) (Nat.le_of_ble_eq_true rfl) dX8_worthOf_3 rfl (fun x1 => ?_)
  refine x_istore (pc' := 8) (lv' := [(7, xI x1), (0, xR v0), (1, xI v1), (2, xI v2), (3, xI v3), (4, xI v4), (5, xI v5), (6, xI v6)]) K dX8_worthOf_6 rfl (by decide) rfl ?_
  refine x_aload_n (pc' := 9) K 1 dX8_worthOf_8 rfl rfl ?_
  refine x_iload_n (pc' := 10) K 2 dX8_worthOf_9 rfl rfl ?_
  refine x_iconst (pc' := 11) (v := 2) K dX8_worthOf_10 rfl rfl ?_
  refine x_cVO (pc' := 14) (As := [xI v1, xI (2 : Int32)]) (en := (fun v => some (xI v))) (rest := []) K (fun a hF => ct_X8_ofCoin hF) rfl (by decide) q1610 q1612 qs56 q1613 q105 hy_X8_ofCoin (Nat.le_of_ble_eq_true rfl) (Nat.le_of_ble_eq_true rfl) (Nat.le_of_ble_eq_true rfl) dX8_worthOf_11 rfl (fun x2 => ?_)
  refine x_istore (pc' := 16) (lv' := [(8, xI x2), (7, xI x1), (0, xR v0), (1, xI v1), (2, xI v2), (3, xI v3), (4, xI v4), (5, xI v5), (6, xI v6)]) K dX8_worthOf_14 rfl (by decide) rfl ?_
  refine x_aload_n (pc' := 17) K 2 dX8_worthOf_16 rfl rfl ?_
  refine x_iload_n (pc' := 18) K 3 dX8_worthOf_17 rfl rfl ?_
  refine x_cVO (pc' := 21) (As := [xI v1]) (en := (fun v => some (xI v))) (rest := []) K (fun a hF => ct_X8_topOf hF) rfl (by decide) q1606 q1608 qs55 q1609 q105 hy_X8_topOf (Nat.le_of_ble_eq_true rfl) (Nat.le_of_ble_eq_true rfl) (Nat.le_of_ble_eq_true rfl) dX8_worthOf_18 rfl (fun x3 => ?_)
  refine x_istore (pc' := 23) (lv' := [(9, xI x3), (8, xI x2), (7, xI x1), (0, xR v0), (1, xI v1), (2, xI v2), (3, xI v3), (4, xI v4), (5, xI v5), (6, xI v6)]) K dX8_worthOf_21 rfl (by decide) rfl ?_
  refine x_iload_n (pc' := 24) K 5 dX8_worthOf_23 rfl rfl ?_
  refine x_iconst (pc' := 25) (v := 1) K dX8_worthOf_24 rfl rfl ?_
  refine x_icmp_le (tgt := 63) (pc' := 28) K dX8_worthOf_25 rfl (by decide) ?_ ?_
  · refine x_sub (lv' := [(0, xR v0), (4, xI v4), (5, xI v5), (6, xI v6), (7, xI x1), (8, xI x2), (9, xI x3)]) [3, 7, 8, 9, 2, 1, 0] rfl ?_
    exact hB63 _ _ _ _ _ _ _
  · refine x_aload_n (pc' := 29) K 3 dX8_worthOf_28 rfl rfl ?_
    refine x_iload (pc' := 31) K 2 dX8_worthOf_29 rfl rfl ?_
    refine x_iload (pc' := 33) K 1 dX8_worthOf_31 rfl rfl ?_
    refine x_iload_n (pc' := 34) K 5 dX8_worthOf_33 rfl rfl ?_
    refine x_iconst (pc' := 35) (v := 2) K dX8_worthOf_34 rfl rfl ?_
    refine x_isub (pc' := 36) K dX8_worthOf_35 rfl ?_
    refine x_cVO (pc' := 39) (As := [xI x1, xI x2, xI (v2 - (2 : Int32))]) (en := (fun v => some (xI v))) (rest := []) K (fun a hF => ct_X8_wrongStroke hF) rfl (by decide) q1638 q1640 qs61 q1641 q105 hy_X8_wrongStroke (Nat.le_of_ble_eq_true rfl) (Nat.le_of_ble_eq_true rfl) (Nat.le_of_ble_eq_true rfl) dX8_worthOf_36 rfl (fun x7 => ?_)
    refine x_if_eq (tgt := 44) (pc' := 42) K dX8_worthOf_39 rfl (by decide) ?_ ?_
    · refine x_iload (pc' := 46) K 2 dX8_worthOf_44 rfl rfl ?_
      refine x_aload_n (pc' := 47) K 3 dX8_worthOf_46 rfl rfl ?_
      refine x_iload_n (pc' := 48) K 5 dX8_worthOf_47 rfl rfl ?_
      refine x_iconst (pc' := 49) (v := 2) K dX8_worthOf_48 rfl rfl ?_
      refine x_isub (pc' := 50) K dX8_worthOf_49 rfl ?_
      refine x_iconst (pc' := 51) (v := 0) K dX8_worthOf_50 rfl rfl ?_
      refine x_cVO (pc' := 54) (As := [xI (v2 - (2 : Int32)), xI (0 : Int32)]) (en := (fun v => some (xI v))) (rest := [xI x1]) K (fun a hF => ct_X8_ofMint hF) rfl (by decide) q1626 q1628 qs59 q1629 q105 hy_X8_ofMint (Nat.le_of_ble_eq_true rfl) (Nat.le_of_ble_eq_true rfl) (Nat.le_of_ble_eq_true rfl) dX8_worthOf_51 rfl (fun x8 => ?_)
      refine x_isub (pc' := 55) K dX8_worthOf_54 rfl ?_
      refine x_istore (pc' := 57) (lv' := [(7, xI (x1 - x8)), (9, xI x3), (8, xI x2), (0, xR v0), (1, xI v1), (2, xI v2), (3, xI v3), (4, xI v4), (5, xI v5), (6, xI v6)]) K dX8_worthOf_55 rfl (by decide) rfl ?_
      refine x_iinc (pc' := 60) (y := 1) (lv' := [(8, xI (x2 + 1)), (7, xI (x1 - x8)), (9, xI x3), (0, xR v0), (1, xI v1), (2, xI v2), (3, xI v3), (4, xI v4), (5, xI v5), (6, xI v6)]) K 2 dX8_worthOf_57 rfl rfl (by decide) (by decide) rfl ?_
      refine x_iload_n (pc' := 61) K 6 dX8_worthOf_60 rfl rfl ?_
      refine x_istore (pc' := 63) (lv' := [(9, xI v3), (8, xI (x2 + 1)), (7, xI (x1 - x8)), (0, xR v0), (1, xI v1), (2, xI v2), (3, xI v3), (4, xI v4), (5, xI v5), (6, xI v6)]) K dX8_worthOf_61 rfl (by decide) rfl ?_
      refine x_sub (lv' := [(0, xR v0), (4, xI v4), (5, xI v5), (6, xI v6), (7, xI (x1 - x8)), (8, xI (x2 + 1)), (9, xI v3)]) [3, 7, 8, 9, 2, 1, 0] rfl ?_
      exact hB63 _ _ _ _ _ _ _
    · refine x_iconst (pc' := 43) (v := 0) K dX8_worthOf_42 rfl rfl ?_
      exact x_ro (C9 := XEnd below s D h0 (fun v => .inl (some (xI v))) Q) (x_iret K rfl hr dX8_worthOf_43)
/-! FaceCoinsModel.layPayment(IIII)I -/
noncomputable def fM_layPayment_l108 (v0 : Nat) (v1 : Int32) (v2 : Int32) (v3 : Int32) (v4 : Int32) (v5 : Int32) (v6 : Int32) (v7 : Int32) (g : AH) : Option ((Nat × Int32 × Int32 × Int32 × Int32 × Int32 × Int32 × Int32 × AH) ⊕ (Nat × Int32 × Int32 × Int32 × Int32 × Int32 × Int32 × AH)) :=
  (xck g v0 14 (fM_mints v0 g)).bind fun x14 =>
  if ((2 : Int32) + x14) ≤ v7 then (
    some (Sum.inr (v0, v1, v2, v3, v4, v5, v6, g)))
  else (
    (xgr g v0 [14] 27).bind fun x15 =>
    (xgi g v0 [14] 31).bind fun x16 =>
    (xck g v0 14 (fM_worthOf v0 v6 v7 v1 v2 v3 v5 g)).bind fun x17 =>
    (xsi g x15 (((6 : Int32) * x16) + v7) x17).bind fun g18 =>
    some (Sum.inl (v0, v1, v2, v3, v4, v5, v6, (v7 + 1), g18)))
noncomputable def fM_layPayment_a153_62 (v0 : Nat) (v1 : Int32) (v2 : Int32) (v3 : Int32) (v4 : Int32) (v5 : Int32) (v6 : Int32) (g : AH) : Option ((Nat × Int32 × Int32 × Int32 × Int32 × Int32 × Int32 × AH) ⊕ (Nat × Int32 × AH)) :=
  (xgi g v0 [14] 31).bind fun x19 =>
  (xpi g v0 [14] 31 (x19 + (1 : Int32))).bind fun g20 =>
  some (Sum.inl (v0, v1, v2, v3, v4, v5, (v6 + 1), g20))
noncomputable def fM_layPayment_l62 (v0 : Nat) (v1 : Int32) (v2 : Int32) (v3 : Int32) (v4 : Int32) (v5 : Int32) (v6 : Int32) (g : AH) : Option ((Nat × Int32 × Int32 × Int32 × Int32 × Int32 × Int32 × AH) ⊕ (Nat × Int32 × AH)) :=
  (xck g v0 14 (fM_coins v0 g)).bind fun x8 =>
  if x8 ≤ v6 then (
    some (Sum.inr (v0, v4, g)))
  else (
    (xgi g v0 [14] 31).bind fun x9 =>
    if (12 : Int32) ≤ x9 then (
      some (Sum.inr (v0, v4, g)))
    else (
      (xck g v0 14 (fM_ofCoin v0 v6 (1 : Int32) g)).bind fun x10 =>
      if x10 = v1 then (
        (xgr g v0 [14] 26).bind fun x11 =>
        (xgi g v0 [14] 31).bind fun x12 =>
        (xsi g x11 x12 v6).bind fun g13 =>
        (xloop (fun s9 : (Nat × Int32 × Int32 × Int32 × Int32 × Int32 × Int32 × Int32 × AH) => fM_layPayment_l108 s9.1 s9.2.1 s9.2.2.1 s9.2.2.2.1 s9.2.2.2.2.1 s9.2.2.2.2.2.1 s9.2.2.2.2.2.2.1 s9.2.2.2.2.2.2.2.1 s9.2.2.2.2.2.2.2.2) (v0, v1, v2, v3, v4, v5, v6, (1 : Int32), g13)).bind (fun r9 : (Nat × Int32 × Int32 × Int32 × Int32 × Int32 × Int32 × AH) => fM_layPayment_a153_62 r9.1 r9.2.1 r9.2.2.1 r9.2.2.2.1 r9.2.2.2.2.1 r9.2.2.2.2.2.1 r9.2.2.2.2.2.2.1 r9.2.2.2.2.2.2.2))
      else (
        some (Sum.inl (v0, v1, v2, v3, v4, v5, (v6 + 1), g)))))
noncomputable def fM_layPayment_l177 (v0 : Nat) (v4 : Int32) (v6 : Int32) (v7 : Int32) (g : AH) : Option ((Nat × Int32 × Int32 × Int32 × AH) ⊕ (Nat × Int32 × Int32 × AH)) :=
  if v4 < v7 then (
    some (Sum.inr (v0, v4, v6, g)))
  else (
    (xgr g v0 [14] 28).bind fun x21 =>
    (xgi g v0 [14] 31).bind fun x22 =>
    if v7 = 0 then (
      (xsi g x21 ((v6 * x22) + v7) (0 : Int32)).bind fun g24 =>
      some (Sum.inl (v0, v4, v6, (v7 + 1), g24)))
    else (
      (xsi g x21 ((v6 * x22) + v7) (100000000 : Int32)).bind fun g23 =>
      some (Sum.inl (v0, v4, v6, (v7 + 1), g23))))
noncomputable def fM_layPayment_l233 (v0 : Nat) (v4 : Int32) (v6 : Int32) (v7 : Int32) (v8 : Int32) (g : AH) : Option ((Nat × Int32 × Int32 × Int32 × Int32 × AH) ⊕ (Nat × Int32 × Int32 × Int32 × AH)) :=
  if v4 < v8 then (
    some (Sum.inr (v0, v4, v6, v7, g)))
  else (
    (xgr g v0 [14] 28).bind fun x26 =>
    (xck g v0 14 (fM_bestOf v0 v7 v8 g)).bind fun x27 =>
    (xsi g x26 ((v6 * v7) + v8) x27).bind fun g28 =>
    some (Sum.inl (v0, v4, v6, v7, (v8 + 1), g28)))
noncomputable def fM_layPayment_a267_225 (v0 : Nat) (v4 : Int32) (v6 : Int32) (v7 : Int32) (g : AH) : Option ((Nat × Int32 × Int32 × Int32 × AH) ⊕ (Nat × Int32 × Int32 × AH)) :=
  some (Sum.inl (v0, v4, v6, (v7 + (-1)), g))
noncomputable def fM_layPayment_l225 (v0 : Nat) (v4 : Int32) (v6 : Int32) (v7 : Int32) (g : AH) : Option ((Nat × Int32 × Int32 × Int32 × AH) ⊕ (Nat × Int32 × Int32 × AH)) :=
  if v7 < 0 then (
    some (Sum.inr (v0, v4, v6, g)))
  else (
    (xloop (fun s9 : (Nat × Int32 × Int32 × Int32 × Int32 × AH) => fM_layPayment_l233 s9.1 s9.2.1 s9.2.2.1 s9.2.2.2.1 s9.2.2.2.2.1 s9.2.2.2.2.2) (v0, v4, v6, v7, (0 : Int32), g)).bind (fun r9 : (Nat × Int32 × Int32 × Int32 × AH) => fM_layPayment_a267_225 r9.1 r9.2.1 r9.2.2.1 r9.2.2.2.1 r9.2.2.2.2))
noncomputable def fM_layPayment_l307 (v0 : Nat) (v4 : Int32) (v6 : Int32) (v7 : Int32) (v8 : Int32) (v9 : Int32) (g : AH) : Option ((Nat × Int32 × Int32 × Int32 × Int32 × Int32) ⊕ (Nat × Int32 × Int32 × Int32 × Int32 × Int32)) :=
  (xck g v0 14 (fM_costOf v0 v8 v7 v9 g)).bind fun x32 =>
  (xgr g v0 [14] 28).bind fun x33 =>
  (xai g x33 100 ((v6 * v8) + v7)).bind fun x34 =>
  if x32 = x34 then (
    some (Sum.inr (v0, v4, v6, v7, v8, v9)))
  else (
    some (Sum.inl (v0, v4, v6, v7, v8, (v9 + 1))))
noncomputable def fM_layPayment_a339_295 (v0 : Nat) (v4 : Int32) (v6 : Int32) (v7 : Int32) (v8 : Int32) (v9 : Int32) (g : AH) : Option ((Nat × Int32 × Int32 × Int32 × Int32 × AH) ⊕ (Nat × Int32 × AH)) :=
  (xgr g v0 [14] 30).bind fun x35 =>
  (xsi g x35 v8 v9).bind fun g36 =>
  if v9 ≤ 0 then (
    some (Sum.inl (v0, v4, v6, v7, (v8 + 1), g36)))
  else (
    (xgr g36 v0 [14] 27).bind fun x37 =>
    (xai g36 x37 100 (((6 : Int32) * v8) + v9)).bind fun x38 =>
    if v7 ≤ x38 then (
      some (Sum.inl (v0, v4, v6, (0 : Int32), (v8 + 1), g36)))
    else (
      (xgr g36 v0 [14] 27).bind fun x39 =>
      (xai g36 x39 100 (((6 : Int32) * v8) + v9)).bind fun x40 =>
      some (Sum.inl (v0, v4, v6, (v7 - x40), (v8 + 1), g36))))
noncomputable def fM_layPayment_l295 (v0 : Nat) (v4 : Int32) (v6 : Int32) (v7 : Int32) (v8 : Int32) (g : AH) : Option ((Nat × Int32 × Int32 × Int32 × Int32 × AH) ⊕ (Nat × Int32 × AH)) :=
  (xgi g v0 [14] 31).bind fun x31 =>
  if x31 ≤ v8 then (
    some (Sum.inr (v0, v4, g)))
  else (
    (xloop (fun s9 : (Nat × Int32 × Int32 × Int32 × Int32 × Int32) => fM_layPayment_l307 s9.1 s9.2.1 s9.2.2.1 s9.2.2.2.1 s9.2.2.2.2.1 s9.2.2.2.2.2 g) (v0, v4, v6, v7, v8, (0 : Int32))).bind (fun r9 : (Nat × Int32 × Int32 × Int32 × Int32 × Int32) => fM_layPayment_a339_295 r9.1 r9.2.1 r9.2.2.1 r9.2.2.2.1 r9.2.2.2.2.1 r9.2.2.2.2.2 g))
noncomputable def fM_layPayment_a399 (v0 : Nat) (v4 : Int32) (g : AH) : Option (Int32 × AH) :=
  (xgr g v0 [14] 28).bind fun x41 =>
  (xai g x41 100 v4).bind fun x42 =>
  (xdiv x42 (16 : Int32)).bind fun x43 =>
  some ((x43, g))
noncomputable def fM_layPayment_a273 (v0 : Nat) (v4 : Int32) (v6 : Int32) (g : AH) : Option (Int32 × AH) :=
  (xgr g v0 [14] 28).bind fun x29 =>
  (xai g x29 100 v4).bind fun x30 =>
  if x30 < (100000000 : Int32) then (
    (xloop (fun s9 : (Nat × Int32 × Int32 × Int32 × Int32 × AH) => fM_layPayment_l295 s9.1 s9.2.1 s9.2.2.1 s9.2.2.2.1 s9.2.2.2.2.1 s9.2.2.2.2.2) (v0, v4, v6, v4, (0 : Int32), g)).bind (fun r9 : (Nat × Int32 × AH) => fM_layPayment_a399 r9.1 r9.2.1 r9.2.2))
  else (
    some ((((-1) : Int32), g)))
noncomputable def fM_layPayment_a217 (v0 : Nat) (v4 : Int32) (v6 : Int32) (g : AH) : Option (Int32 × AH) :=
  (xgi g v0 [14] 31).bind fun x25 =>
  (xloop (fun s9 : (Nat × Int32 × Int32 × Int32 × AH) => fM_layPayment_l225 s9.1 s9.2.1 s9.2.2.1 s9.2.2.2.1 s9.2.2.2.2) (v0, v4, v6, (x25 - (1 : Int32)), g)).bind (fun r9 : (Nat × Int32 × Int32 × AH) => fM_layPayment_a273 r9.1 r9.2.1 r9.2.2.1 r9.2.2.2)
noncomputable def fM_layPayment_a169 (v0 : Nat) (v4 : Int32) (g : AH) : Option (Int32 × AH) :=
  (xloop (fun s9 : (Nat × Int32 × Int32 × Int32 × AH) => fM_layPayment_l177 s9.1 s9.2.1 s9.2.2.1 s9.2.2.2.1 s9.2.2.2.2) (v0, v4, (2001 : Int32), (0 : Int32), g)).bind (fun r9 : (Nat × Int32 × Int32 × AH) => fM_layPayment_a217 r9.1 r9.2.1 r9.2.2.1 r9.2.2.2)
noncomputable def fM_layPayment (v0 : Nat) (v1 : Int32) (v2 : Int32) (v3 : Int32) (v4 : Int32) (h0 : AH) : Option (Int32 × AH) :=
  (xck h0 v0 14 (fM_isWho v0 v1 h0)).bind fun x1 =>
  if x1 = 0 then (
    some ((((-2) : Int32), h0)))
  else (
    (xck h0 v0 14 (fM_isWho v0 v2 h0)).bind fun x2 =>
    if x2 = 0 then (
      some ((((-2) : Int32), h0)))
    else (
      (xck h0 v0 14 (fM_isMint v0 v3 h0)).bind fun x3 =>
      if x3 = 0 then (
        some ((((-2) : Int32), h0)))
      else (
        (fM_isIn v4 (1 : Int32) (2000 : Int32) h0).bind fun x4 =>
        if x4 = 0 then (
          some ((((-2) : Int32), h0)))
        else (
          (xck h0 v0 14 (fM_areUnfit v0 v1 v2 h0)).bind fun x5 =>
          if x5 = 0 then (
            (xck h0 v0 14 (fM_luckOf v0 h0)).bind fun x6 =>
            (xpi h0 v0 [14] 31 (0 : Int32)).bind fun g7 =>
            (xloop (fun s9 : (Nat × Int32 × Int32 × Int32 × Int32 × Int32 × Int32 × AH) => fM_layPayment_l62 s9.1 s9.2.1 s9.2.2.1 s9.2.2.2.1 s9.2.2.2.2.1 s9.2.2.2.2.2.1 s9.2.2.2.2.2.2.1 s9.2.2.2.2.2.2.2) (v0, v1, v2, v3, v4, x6, (0 : Int32), g7)).bind (fun r9 : (Nat × Int32 × AH) => fM_layPayment_a169 r9.1 r9.2.1 r9.2.2))
          else (
            some ((((-2) : Int32), h0)))))))
set_option maxHeartbeats 4000000 in
theorem ct_X8_layPayment {l : Launch} {D : XD} {v0 : Nat} {v1 : Int32} {v2 : Int32} {v3 : Int32} {v4 : Int32} {h0 : AH} {a : Int32} {h1 : AH} (hF : fM_layPayment v0 v1 v2 v3 v4 h0 = some (a, h1)) : XCt l D yX8_layPayment (ws_ yX8_layPayment cX8_layPayment 10 (some .int)) 3 76 [xR v0, xI v1, xI v2, xI v3, xI v4] h0 (.inl (some (xI a))) h1 := by
  refine x_method (by decide) (Nat.le_of_ble_eq_true rfl) fun p e R s m args below meth c K hr hnm hex => ?_
  have K : XO p R s m args meth c D 10 h0 cX8_layPayment "FaceCoinsModel" 3 76 := K
  generalize hQ : XMQ below _ _ _ _ _ _ = Q
  have hL62 : ∀ (C1 : ((Nat × Int32 × Int32 × Int32 × Int32 × Int32 × Int32 × AH) ⊕ (Nat × Int32 × AH)) → Prop) (hj1 : ∀ s9 : (Nat × Int32 × Int32 × Int32 × Int32 × Int32 × Int32 × AH), C1 (Sum.inl s9) → XG p l e R s m args below meth c D 10 h0 Q 62 [(0, xR s9.1), (1, xI s9.2.1), (2, xI s9.2.2.1), (3, xI s9.2.2.2.1), (4, xI s9.2.2.2.2.1), (5, xI s9.2.2.2.2.2.1), (6, xI s9.2.2.2.2.2.2.1)] [] s9.2.2.2.2.2.2.2) (he1 : ∀ r9 : (Nat × Int32 × AH), C1 (Sum.inr r9) → XG p l e R s m args below meth c D 10 h0 Q 169 [(0, xR r9.1), (4, xI r9.2.1)] [] r9.2.2) (v0 : Nat) (v1 : Int32) (v2 : Int32) (v3 : Int32) (v4 : Int32) (v5 : Int32) (v6 : Int32) (g : AH), XF p l e R s m args below meth c D 10 h0 Q 62 [(0, xR v0), (1, xI v1), (2, xI v2), (3, xI v3), (4, xI v4), (5, xI v5), (6, xI v6)] [] g (fM_layPayment_l62 v0 v1 v2 v3 v4 v5 v6 g) C1 := by
    intro C1 hj1 he1
    have hL108 : ∀ (C2 : ((Nat × Int32 × Int32 × Int32 × Int32 × Int32 × Int32 × Int32 × AH) ⊕ (Nat × Int32 × Int32 × Int32 × Int32 × Int32 × Int32 × AH)) → Prop) (hj2 : ∀ s9 : (Nat × Int32 × Int32 × Int32 × Int32 × Int32 × Int32 × Int32 × AH), C2 (Sum.inl s9) → XG p l e R s m args below meth c D 10 h0 Q 108 [(0, xR s9.1), (1, xI s9.2.1), (2, xI s9.2.2.1), (3, xI s9.2.2.2.1), (4, xI s9.2.2.2.2.1), (5, xI s9.2.2.2.2.2.1), (6, xI s9.2.2.2.2.2.2.1), (7, xI s9.2.2.2.2.2.2.2.1)] [] s9.2.2.2.2.2.2.2.2) (he2 : ∀ r9 : (Nat × Int32 × Int32 × Int32 × Int32 × Int32 × Int32 × AH), C2 (Sum.inr r9) → XG p l e R s m args below meth c D 10 h0 Q 153 [(0, xR r9.1), (1, xI r9.2.1), (2, xI r9.2.2.1), (3, xI r9.2.2.2.1), (4, xI r9.2.2.2.2.1), (5, xI r9.2.2.2.2.2.1), (6, xI r9.2.2.2.2.2.2.1)] [] r9.2.2.2.2.2.2.2) (v0 : Nat) (v1 : Int32) (v2 : Int32) (v3 : Int32) (v4 : Int32) (v5 : Int32) (v6 : Int32) (v7 : Int32) (g : AH), XF p l e R s m args below meth c D 10 h0 Q 108 [(0, xR v0), (1, xI v1), (2, xI v2), (3, xI v3), (4, xI v4), (5, xI v5), (6, xI v6), (7, xI v7)] [] g (fM_layPayment_l108 v0 v1 v2 v3 v4 v5 v6 v7 g) C2 := by
      intro C2 hj2 he2
      intro v0 v1 v2 v3 v4 v5 v6 v7 g
      unfold fM_layPayment_l108
      refine x_iload (pc' := 110) K 7 dX8_layPayment_108 rfl rfl ?_
      refine x_iconst (pc' := 111) (v := 2) K dX8_layPayment_110 rfl rfl ?_
      refine x_aload_n (pc' := 112) K 0 dX8_layPayment_111 rfl rfl ?_
      refine x_cVO (pc' := 115) (As := []) (en := (fun v => some (xI v))) (rest := [xI (2 : Int32), xI v7]) K (fun a hF => ct_X8_mints hF) rfl (by decide) q1622 q1624 qs58 q1625 q105 hy_X8_mints (Nat.le_of_ble_eq_true rfl) (Nat.le_of_ble_eq_true rfl) (Nat.le_of_ble_eq_true rfl) dX8_layPayment_112 rfl (fun x14 => ?_)
      refine x_iadd (pc' := 116) K dX8_layPayment_115 rfl ?_
      refine x_icmp_ge (tgt := 153) (pc' := 119) K dX8_layPayment_116 rfl (by decide) ?_ ?_
      · refine x_sub (lv' := [(0, xR v0), (1, xI v1), (2, xI v2), (3, xI v3), (4, xI v4), (5, xI v5), (6, xI v6)]) [0, 1, 2, 3, 4, 5, 6] rfl ?_
        exact x_jump (fun hz => he2 (v0, v1, v2, v3, v4, v5, v6, g) hz)
      · refine x_aload_n (pc' := 120) K 0 dX8_layPayment_119 rfl rfl ?_
        refine x_getr (pc' := 123) K fg_14_27 (Or.inl (K.2.2.2.2.1 _ q1339)) (fun _ h9 => h9) dX8_layPayment_120 rfl (fun x15 => ?_)
        refine x_bipush (pc' := 125) (v := 6) K dX8_layPayment_123 rfl (by decide) ?_
        refine x_aload_n (pc' := 126) K 0 dX8_layPayment_125 rfl rfl ?_
        refine x_geti (pc' := 129) K fg_14_31 (Or.inl (K.2.2.2.2.1 _ q1343)) (fun _ h9 => h9) dX8_layPayment_126 rfl (fun x16 => ?_)
        refine x_imul (pc' := 130) K dX8_layPayment_129 rfl ?_
        refine x_iload (pc' := 132) K 7 dX8_layPayment_130 rfl rfl ?_
        refine x_iadd (pc' := 133) K dX8_layPayment_132 rfl ?_
        refine x_aload_n (pc' := 134) K 0 dX8_layPayment_133 rfl rfl ?_
        refine x_iload (pc' := 136) K 6 dX8_layPayment_134 rfl rfl ?_
        refine x_iload (pc' := 138) K 7 dX8_layPayment_136 rfl rfl ?_
        refine x_iload_n (pc' := 139) K 1 dX8_layPayment_138 rfl rfl ?_
        refine x_iload_n (pc' := 140) K 2 dX8_layPayment_139 rfl rfl ?_
        refine x_iload_n (pc' := 141) K 3 dX8_layPayment_140 rfl rfl ?_
        refine x_iload (pc' := 143) K 5 dX8_layPayment_141 rfl rfl ?_
        refine x_cVO (pc' := 146) (As := [xI v6, xI v7, xI v1, xI v2, xI v3, xI v5]) (en := (fun v => some (xI v))) (rest := [xI (((6 : Int32) * x16) + v7), xR x15]) K (fun a hF => ct_X8_worthOf hF) rfl (by decide) q1726 q1728 qs74 q1729 q105 hy_X8_worthOf (Nat.le_of_ble_eq_true rfl) (Nat.le_of_ble_eq_true rfl) (Nat.le_of_ble_eq_true rfl) dX8_layPayment_143 rfl (fun x17 => ?_)
        refine x_iast (pc' := 147) K dX8_layPayment_146 rfl (fun g18 => ?_)
        refine x_iinc (pc' := 150) (y := 1) (lv' := [(7, xI (v7 + 1)), (0, xR v0), (1, xI v1), (2, xI v2), (3, xI v3), (4, xI v4), (5, xI v5), (6, xI v6)]) K 7 dX8_layPayment_147 rfl rfl (by decide) (by decide) rfl ?_
        refine x_goto (tgt := 108) K dX8_layPayment_150 (by decide) ?_
        refine x_sub (lv' := [(0, xR v0), (1, xI v1), (2, xI v2), (3, xI v3), (4, xI v4), (5, xI v5), (6, xI v6), (7, xI (v7 + 1))]) [1, 2, 3, 4, 5, 6, 7, 0] rfl ?_
        exact x_jump (fun hz => hj2 (v0, v1, v2, v3, v4, v5, v6, (v7 + 1), g18) hz)
    have hA153_1 : ∀ (v0 : Nat) (v1 : Int32) (v2 : Int32) (v3 : Int32) (v4 : Int32) (v5 : Int32) (v6 : Int32) (g : AH), XF p l e R s m args below meth c D 10 h0 Q 153 [(0, xR v0), (1, xI v1), (2, xI v2), (3, xI v3), (4, xI v4), (5, xI v5), (6, xI v6)] [] g (fM_layPayment_a153_62 v0 v1 v2 v3 v4 v5 v6 g) C1 := by
      intro v0 v1 v2 v3 v4 v5 v6 g
      unfold fM_layPayment_a153_62
      refine x_aload_n (pc' := 154) K 0 dX8_layPayment_153 rfl rfl ?_
      refine x_dup (pc' := 155) K dX8_layPayment_154 rfl rfl ?_
      refine x_geti (pc' := 158) K fg_14_31 (Or.inl (K.2.2.2.2.1 _ q1343)) (fun _ h9 => h9) dX8_layPayment_155 rfl (fun x19 => ?_)
      refine x_iconst (pc' := 159) (v := 1) K dX8_layPayment_158 rfl rfl ?_
      refine x_iadd (pc' := 160) K dX8_layPayment_159 rfl ?_
      refine x_puti (pc' := 163) K fp_14_31 (Or.inl (K.2.2.2.2.1 _ q1343)) (fun _ h9 => h9) (Or.inl rfl) dX8_layPayment_160 rfl (fun g20 => ?_)
      refine x_iinc (pc' := 166) (y := 1) (lv' := [(6, xI (v6 + 1)), (0, xR v0), (1, xI v1), (2, xI v2), (3, xI v3), (4, xI v4), (5, xI v5)]) K 6 dX8_layPayment_163 rfl rfl (by decide) (by decide) rfl ?_
      refine x_goto (tgt := 62) K dX8_layPayment_166 (by decide) ?_
      refine x_sub (lv' := [(0, xR v0), (1, xI v1), (2, xI v2), (3, xI v3), (4, xI v4), (5, xI v5), (6, xI (v6 + 1))]) [1, 2, 3, 4, 5, 6, 0] rfl ?_
      exact x_jump (fun hz => hj1 (v0, v1, v2, v3, v4, v5, (v6 + 1), g20) hz)
    intro v0 v1 v2 v3 v4 v5 v6 g
    unfold fM_layPayment_l62
    refine x_iload (pc' := 64) K 6 dX8_layPayment_62 rfl rfl ?_
    refine x_aload_n (pc' := 65) K 0 dX8_layPayment_64 rfl rfl ?_
    refine x_cVO (pc' := 68) (As := []) (en := (fun v => some (xI v))) (rest := [xI v6]) K (fun a hF => ct_X8_coins hF) rfl (by decide) q1602 q1604 qs54 q1605 q105 hy_X8_coins (Nat.le_of_ble_eq_true rfl) (Nat.le_of_ble_eq_true rfl) (Nat.le_of_ble_eq_true rfl) dX8_layPayment_65 rfl (fun x8 => ?_)
    refine x_icmp_ge (tgt := 169) (pc' := 71) K dX8_layPayment_68 rfl (by decide) ?_ ?_
    · refine x_sub (lv' := [(0, xR v0), (4, xI v4)]) [0, 4] rfl ?_
      exact x_jump (fun hz => he1 (v0, v4, g) hz)
    · refine x_aload_n (pc' := 72) K 0 dX8_layPayment_71 rfl rfl ?_
      refine x_geti (pc' := 75) K fg_14_31 (Or.inl (K.2.2.2.2.1 _ q1343)) (fun _ h9 => h9) dX8_layPayment_72 rfl (fun x9 => ?_)
      refine x_bipush (pc' := 77) (v := 12) K dX8_layPayment_75 rfl (by decide) ?_
      refine x_icmp_ge (tgt := 169) (pc' := 80) K dX8_layPayment_77 rfl (by decide) ?_ ?_
      · refine x_sub (lv' := [(0, xR v0), (4, xI v4)]) [0, 4] rfl ?_
        exact x_jump (fun hz => he1 (v0, v4, g) hz)
      · refine x_aload_n (pc' := 81) K 0 dX8_layPayment_80 rfl rfl ?_
        refine x_iload (pc' := 83) K 6 dX8_layPayment_81 rfl rfl ?_
        refine x_iconst (pc' := 84) (v := 1) K dX8_layPayment_83 rfl rfl ?_
        refine x_cVO (pc' := 87) (As := [xI v6, xI (1 : Int32)]) (en := (fun v => some (xI v))) (rest := []) K (fun a hF => ct_X8_ofCoin hF) rfl (by decide) q1610 q1612 qs56 q1613 q105 hy_X8_ofCoin (Nat.le_of_ble_eq_true rfl) (Nat.le_of_ble_eq_true rfl) (Nat.le_of_ble_eq_true rfl) dX8_layPayment_84 rfl (fun x10 => ?_)
        refine x_iload_n (pc' := 88) K 1 dX8_layPayment_87 rfl rfl ?_
        refine x_icmp_eq (tgt := 94) (pc' := 91) K dX8_layPayment_88 rfl (by decide) ?_ ?_
        · refine x_aload_n (pc' := 95) K 0 dX8_layPayment_94 rfl rfl ?_
          refine x_getr (pc' := 98) K fg_14_26 (Or.inl (K.2.2.2.2.1 _ q1338)) (fun _ h9 => h9) dX8_layPayment_95 rfl (fun x11 => ?_)
          refine x_aload_n (pc' := 99) K 0 dX8_layPayment_98 rfl rfl ?_
          refine x_geti (pc' := 102) K fg_14_31 (Or.inl (K.2.2.2.2.1 _ q1343)) (fun _ h9 => h9) dX8_layPayment_99 rfl (fun x12 => ?_)
          refine x_iload (pc' := 104) K 6 dX8_layPayment_102 rfl rfl ?_
          refine x_iast (pc' := 105) K dX8_layPayment_104 rfl (fun g13 => ?_)
          refine x_iconst (pc' := 106) (v := 1) K dX8_layPayment_105 rfl rfl ?_
          refine x_istore (pc' := 108) (lv' := [(7, xI (1 : Int32)), (0, xR v0), (1, xI v1), (2, xI v2), (3, xI v3), (4, xI v4), (5, xI v5), (6, xI v6)]) K dX8_layPayment_106 rfl (by decide) rfl ?_
          refine x_sub (lv' := [(0, xR v0), (1, xI v1), (2, xI v2), (3, xI v3), (4, xI v4), (5, xI v5), (6, xI v6), (7, xI (1 : Int32))]) [1, 2, 3, 4, 5, 6, 7, 0] rfl ?_
          exact x_loop (pl := (fun s9 : (Nat × Int32 × Int32 × Int32 × Int32 × Int32 × Int32 × Int32 × AH) => [(0, xR s9.1), (1, xI s9.2.1), (2, xI s9.2.2.1), (3, xI s9.2.2.2.1), (4, xI s9.2.2.2.2.1), (5, xI s9.2.2.2.2.2.1), (6, xI s9.2.2.2.2.2.2.1), (7, xI s9.2.2.2.2.2.2.2.1)])) (ph := (fun s9 : (Nat × Int32 × Int32 × Int32 × Int32 × Int32 × Int32 × Int32 × AH) => s9.2.2.2.2.2.2.2.2)) (fun r9 : (Nat × Int32 × Int32 × Int32 × Int32 × Int32 × Int32 × AH) => XG p l e R s m args below meth c D 10 h0 Q 153 [(0, xR r9.1), (1, xI r9.2.1), (2, xI r9.2.2.1), (3, xI r9.2.2.2.1), (4, xI r9.2.2.2.2.1), (5, xI r9.2.2.2.2.2.1), (6, xI r9.2.2.2.2.2.2.1)] [] r9.2.2.2.2.2.2.2) (fun s9 => hL108 _ (fun _ hz => hz) (fun _ hz => hz) s9.1 s9.2.1 s9.2.2.1 s9.2.2.2.1 s9.2.2.2.2.1 s9.2.2.2.2.2.1 s9.2.2.2.2.2.2.1 s9.2.2.2.2.2.2.2.1 s9.2.2.2.2.2.2.2.2) (fun r9 x hx hc => hA153_1 r9.1 r9.2.1 r9.2.2.1 r9.2.2.2.1 r9.2.2.2.2.1 r9.2.2.2.2.2.1 r9.2.2.2.2.2.2.1 r9.2.2.2.2.2.2.2 x hx hc) (v0, v1, v2, v3, v4, v5, v6, (1 : Int32), g13)
        · refine x_goto (tgt := 163) K dX8_layPayment_91 (by decide) ?_
          refine x_iinc (pc' := 166) (y := 1) (lv' := [(6, xI (v6 + 1)), (0, xR v0), (1, xI v1), (2, xI v2), (3, xI v3), (4, xI v4), (5, xI v5)]) K 6 dX8_layPayment_163 rfl rfl (by decide) (by decide) rfl ?_
          refine x_goto (tgt := 62) K dX8_layPayment_166 (by decide) ?_
          refine x_sub (lv' := [(0, xR v0), (1, xI v1), (2, xI v2), (3, xI v3), (4, xI v4), (5, xI v5), (6, xI (v6 + 1))]) [1, 2, 3, 4, 5, 6, 0] rfl ?_
          exact x_jump (fun hz => hj1 (v0, v1, v2, v3, v4, v5, (v6 + 1), g) hz)
  have hL177 : ∀ (C1 : ((Nat × Int32 × Int32 × Int32 × AH) ⊕ (Nat × Int32 × Int32 × AH)) → Prop) (hj1 : ∀ s9 : (Nat × Int32 × Int32 × Int32 × AH), C1 (Sum.inl s9) → XG p l e R s m args below meth c D 10 h0 Q 177 [(0, xR s9.1), (4, xI s9.2.1), (6, xI s9.2.2.1), (7, xI s9.2.2.2.1)] [] s9.2.2.2.2) (he1 : ∀ r9 : (Nat × Int32 × Int32 × AH), C1 (Sum.inr r9) → XG p l e R s m args below meth c D 10 h0 Q 217 [(0, xR r9.1), (4, xI r9.2.1), (6, xI r9.2.2.1)] [] r9.2.2.2) (v0 : Nat) (v4 : Int32) (v6 : Int32) (v7 : Int32) (g : AH), XF p l e R s m args below meth c D 10 h0 Q 177 [(0, xR v0), (4, xI v4), (6, xI v6), (7, xI v7)] [] g (fM_layPayment_l177 v0 v4 v6 v7 g) C1 := by
    intro C1 hj1 he1
    intro v0 v4 v6 v7 g
    unfold fM_layPayment_l177
    refine x_iload (pc' := 179) K 3 dX8_layPayment_177 rfl rfl ?_
    refine x_iload (pc' := 181) K 1 dX8_layPayment_179 rfl rfl ?_
    refine x_icmp_gt (tgt := 217) (pc' := 184) K dX8_layPayment_181 rfl (by decide) ?_ ?_
    · refine x_sub (lv' := [(0, xR v0), (4, xI v4), (6, xI v6)]) [0, 1, 2] rfl ?_
      exact x_jump (fun hz => he1 (v0, v4, v6, g) hz)
    · refine x_aload_n (pc' := 185) K 0 dX8_layPayment_184 rfl rfl ?_
      refine x_getr (pc' := 188) K fg_14_28 (Or.inl (K.2.2.2.2.1 _ q1340)) (fun _ h9 => h9) dX8_layPayment_185 rfl (fun x21 => ?_)
      refine x_iload (pc' := 190) K 2 dX8_layPayment_188 rfl rfl ?_
      refine x_aload_n (pc' := 191) K 0 dX8_layPayment_190 rfl rfl ?_
      refine x_geti (pc' := 194) K fg_14_31 (Or.inl (K.2.2.2.2.1 _ q1343)) (fun _ h9 => h9) dX8_layPayment_191 rfl (fun x22 => ?_)
      refine x_imul (pc' := 195) K dX8_layPayment_194 rfl ?_
      refine x_iload (pc' := 197) K 3 dX8_layPayment_195 rfl rfl ?_
      refine x_iadd (pc' := 198) K dX8_layPayment_197 rfl ?_
      refine x_iload (pc' := 200) K 3 dX8_layPayment_198 rfl rfl ?_
      refine x_if_ne (tgt := 207) (pc' := 203) K dX8_layPayment_200 rfl (by decide) ?_ ?_
      · refine x_ldcw (pc' := 210) K q1730 dX8_layPayment_207 rfl ?_
        refine x_iast (pc' := 211) K dX8_layPayment_210 rfl (fun g23 => ?_)
        refine x_iinc (pc' := 214) (y := 1) (lv' := [(7, xI (v7 + 1)), (0, xR v0), (4, xI v4), (6, xI v6)]) K 3 dX8_layPayment_211 rfl rfl (by decide) (by decide) rfl ?_
        refine x_goto (tgt := 177) K dX8_layPayment_214 (by decide) ?_
        refine x_sub (lv' := [(0, xR v0), (4, xI v4), (6, xI v6), (7, xI (v7 + 1))]) [1, 2, 3, 0] rfl ?_
        exact x_jump (fun hz => hj1 (v0, v4, v6, (v7 + 1), g23) hz)
      · refine x_iconst (pc' := 204) (v := 0) K dX8_layPayment_203 rfl rfl ?_
        refine x_goto (tgt := 210) K dX8_layPayment_204 (by decide) ?_
        refine x_iast (pc' := 211) K dX8_layPayment_210 rfl (fun g24 => ?_)
        refine x_iinc (pc' := 214) (y := 1) (lv' := [(7, xI (v7 + 1)), (0, xR v0), (4, xI v4), (6, xI v6)]) K 3 dX8_layPayment_211 rfl rfl (by decide) (by decide) rfl ?_
        refine x_goto (tgt := 177) K dX8_layPayment_214 (by decide) ?_
        refine x_sub (lv' := [(0, xR v0), (4, xI v4), (6, xI v6), (7, xI (v7 + 1))]) [1, 2, 3, 0] rfl ?_
        exact x_jump (fun hz => hj1 (v0, v4, v6, (v7 + 1), g24) hz)
  have hL225 : ∀ (C1 : ((Nat × Int32 × Int32 × Int32 × AH) ⊕ (Nat × Int32 × Int32 × AH)) → Prop) (hj1 : ∀ s9 : (Nat × Int32 × Int32 × Int32 × AH), C1 (Sum.inl s9) → XG p l e R s m args below meth c D 10 h0 Q 225 [(0, xR s9.1), (4, xI s9.2.1), (6, xI s9.2.2.1), (7, xI s9.2.2.2.1)] [] s9.2.2.2.2) (he1 : ∀ r9 : (Nat × Int32 × Int32 × AH), C1 (Sum.inr r9) → XG p l e R s m args below meth c D 10 h0 Q 273 [(0, xR r9.1), (4, xI r9.2.1), (6, xI r9.2.2.1)] [] r9.2.2.2) (v0 : Nat) (v4 : Int32) (v6 : Int32) (v7 : Int32) (g : AH), XF p l e R s m args below meth c D 10 h0 Q 225 [(0, xR v0), (4, xI v4), (6, xI v6), (7, xI v7)] [] g (fM_layPayment_l225 v0 v4 v6 v7 g) C1 := by
    intro C1 hj1 he1
    have hL233 : ∀ (C2 : ((Nat × Int32 × Int32 × Int32 × Int32 × AH) ⊕ (Nat × Int32 × Int32 × Int32 × AH)) → Prop) (hj2 : ∀ s9 : (Nat × Int32 × Int32 × Int32 × Int32 × AH), C2 (Sum.inl s9) → XG p l e R s m args below meth c D 10 h0 Q 233 [(0, xR s9.1), (4, xI s9.2.1), (6, xI s9.2.2.1), (7, xI s9.2.2.2.1), (8, xI s9.2.2.2.2.1)] [] s9.2.2.2.2.2) (he2 : ∀ r9 : (Nat × Int32 × Int32 × Int32 × AH), C2 (Sum.inr r9) → XG p l e R s m args below meth c D 10 h0 Q 267 [(0, xR r9.1), (4, xI r9.2.1), (6, xI r9.2.2.1), (7, xI r9.2.2.2.1)] [] r9.2.2.2.2) (v0 : Nat) (v4 : Int32) (v6 : Int32) (v7 : Int32) (v8 : Int32) (g : AH), XF p l e R s m args below meth c D 10 h0 Q 233 [(0, xR v0), (4, xI v4), (6, xI v6), (7, xI v7), (8, xI v8)] [] g (fM_layPayment_l233 v0 v4 v6 v7 v8 g) C2 := by
      intro C2 hj2 he2
      intro v0 v4 v6 v7 v8 g
      unfold fM_layPayment_l233
      refine x_iload (pc' := 235) K 4 dX8_layPayment_233 rfl rfl ?_
      refine x_iload (pc' := 237) K 1 dX8_layPayment_235 rfl rfl ?_
      refine x_icmp_gt (tgt := 267) (pc' := 240) K dX8_layPayment_237 rfl (by decide) ?_ ?_
      · refine x_sub (lv' := [(0, xR v0), (4, xI v4), (6, xI v6), (7, xI v7)]) [0, 1, 2, 3] rfl ?_
        exact x_jump (fun hz => he2 (v0, v4, v6, v7, g) hz)
      · refine x_aload_n (pc' := 241) K 0 dX8_layPayment_240 rfl rfl ?_
        refine x_getr (pc' := 244) K fg_14_28 (Or.inl (K.2.2.2.2.1 _ q1340)) (fun _ h9 => h9) dX8_layPayment_241 rfl (fun x26 => ?_)
        refine x_iload (pc' := 246) K 2 dX8_layPayment_244 rfl rfl ?_
        refine x_iload (pc' := 248) K 3 dX8_layPayment_246 rfl rfl ?_
        refine x_imul (pc' := 249) K dX8_layPayment_248 rfl ?_
        refine x_iload (pc' := 251) K 4 dX8_layPayment_249 rfl rfl ?_
        refine x_iadd (pc' := 252) K dX8_layPayment_251 rfl ?_
        refine x_aload_n (pc' := 253) K 0 dX8_layPayment_252 rfl rfl ?_
        refine x_iload (pc' := 255) K 3 dX8_layPayment_253 rfl rfl ?_
        refine x_iload (pc' := 257) K 4 dX8_layPayment_255 rfl rfl ?_
        refine x_cVO (pc' := 260) (As := [xI v7, xI v8]) (en := (fun v => some (xI v))) (rest := [xI ((v6 * v7) + v8), xR x26]) K (fun a hF => ct_X8_bestOf hF) rfl (by decide) q1731 q1733 qs75 q1734 q105 hy_X8_bestOf (Nat.le_of_ble_eq_true rfl) (Nat.le_of_ble_eq_true rfl) (Nat.le_of_ble_eq_true rfl) dX8_layPayment_257 rfl (fun x27 => ?_)
        refine x_iast (pc' := 261) K dX8_layPayment_260 rfl (fun g28 => ?_)
        refine x_iinc (pc' := 264) (y := 1) (lv' := [(8, xI (v8 + 1)), (0, xR v0), (4, xI v4), (6, xI v6), (7, xI v7)]) K 4 dX8_layPayment_261 rfl rfl (by decide) (by decide) rfl ?_
        refine x_goto (tgt := 233) K dX8_layPayment_264 (by decide) ?_
        refine x_sub (lv' := [(0, xR v0), (4, xI v4), (6, xI v6), (7, xI v7), (8, xI (v8 + 1))]) [1, 2, 3, 4, 0] rfl ?_
        exact x_jump (fun hz => hj2 (v0, v4, v6, v7, (v8 + 1), g28) hz)
    have hA267_1 : ∀ (v0 : Nat) (v4 : Int32) (v6 : Int32) (v7 : Int32) (g : AH), XF p l e R s m args below meth c D 10 h0 Q 267 [(0, xR v0), (4, xI v4), (6, xI v6), (7, xI v7)] [] g (fM_layPayment_a267_225 v0 v4 v6 v7 g) C1 := by
      intro v0 v4 v6 v7 g
      unfold fM_layPayment_a267_225
      refine x_iinc (pc' := 270) (y := (-1)) (lv' := [(7, xI (v7 + (-1))), (0, xR v0), (4, xI v4), (6, xI v6)]) K 3 dX8_layPayment_267 rfl rfl (by decide) (by decide) rfl ?_
      refine x_goto (tgt := 225) K dX8_layPayment_270 (by decide) ?_
      refine x_sub (lv' := [(0, xR v0), (4, xI v4), (6, xI v6), (7, xI (v7 + (-1)))]) [1, 2, 3, 0] rfl ?_
      exact x_jump (fun hz => hj1 (v0, v4, v6, (v7 + (-1)), g) hz)
    intro v0 v4 v6 v7 g
    unfold fM_layPayment_l225
    refine x_iload (pc' := 227) K 3 dX8_layPayment_225 rfl rfl ?_
    refine x_if_lt (tgt := 273) (pc' := 230) K dX8_layPayment_227 rfl (by decide) ?_ ?_
    · refine x_sub (lv' := [(0, xR v0), (4, xI v4), (6, xI v6)]) [0, 1, 2] rfl ?_
      exact x_jump (fun hz => he1 (v0, v4, v6, g) hz)
    · refine x_iconst (pc' := 231) (v := 0) K dX8_layPayment_230 rfl rfl ?_
      refine x_istore (pc' := 233) (lv' := [(8, xI (0 : Int32)), (0, xR v0), (4, xI v4), (6, xI v6), (7, xI v7)]) K dX8_layPayment_231 rfl (by decide) rfl ?_
      refine x_sub (lv' := [(0, xR v0), (4, xI v4), (6, xI v6), (7, xI v7), (8, xI (0 : Int32))]) [1, 2, 3, 4, 0] rfl ?_
      exact x_loop (pl := (fun s9 : (Nat × Int32 × Int32 × Int32 × Int32 × AH) => [(0, xR s9.1), (4, xI s9.2.1), (6, xI s9.2.2.1), (7, xI s9.2.2.2.1), (8, xI s9.2.2.2.2.1)])) (ph := (fun s9 : (Nat × Int32 × Int32 × Int32 × Int32 × AH) => s9.2.2.2.2.2)) (fun r9 : (Nat × Int32 × Int32 × Int32 × AH) => XG p l e R s m args below meth c D 10 h0 Q 267 [(0, xR r9.1), (4, xI r9.2.1), (6, xI r9.2.2.1), (7, xI r9.2.2.2.1)] [] r9.2.2.2.2) (fun s9 => hL233 _ (fun _ hz => hz) (fun _ hz => hz) s9.1 s9.2.1 s9.2.2.1 s9.2.2.2.1 s9.2.2.2.2.1 s9.2.2.2.2.2) (fun r9 x hx hc => hA267_1 r9.1 r9.2.1 r9.2.2.1 r9.2.2.2.1 r9.2.2.2.2 x hx hc) (v0, v4, v6, v7, (0 : Int32), g)
  have hL295 : ∀ (C1 : ((Nat × Int32 × Int32 × Int32 × Int32 × AH) ⊕ (Nat × Int32 × AH)) → Prop) (hj1 : ∀ s9 : (Nat × Int32 × Int32 × Int32 × Int32 × AH), C1 (Sum.inl s9) → XG p l e R s m args below meth c D 10 h0 Q 295 [(0, xR s9.1), (4, xI s9.2.1), (6, xI s9.2.2.1), (7, xI s9.2.2.2.1), (8, xI s9.2.2.2.2.1)] [] s9.2.2.2.2.2) (he1 : ∀ r9 : (Nat × Int32 × AH), C1 (Sum.inr r9) → XG p l e R s m args below meth c D 10 h0 Q 399 [(0, xR r9.1), (4, xI r9.2.1)] [] r9.2.2) (v0 : Nat) (v4 : Int32) (v6 : Int32) (v7 : Int32) (v8 : Int32) (g : AH), XF p l e R s m args below meth c D 10 h0 Q 295 [(0, xR v0), (4, xI v4), (6, xI v6), (7, xI v7), (8, xI v8)] [] g (fM_layPayment_l295 v0 v4 v6 v7 v8 g) C1 := by
    intro C1 hj1 he1
    have hL307 : ∀ (g : AH) (C2 : ((Nat × Int32 × Int32 × Int32 × Int32 × Int32) ⊕ (Nat × Int32 × Int32 × Int32 × Int32 × Int32)) → Prop) (hj2 : ∀ s9 : (Nat × Int32 × Int32 × Int32 × Int32 × Int32), C2 (Sum.inl s9) → XG p l e R s m args below meth c D 10 h0 Q 307 [(0, xR s9.1), (4, xI s9.2.1), (6, xI s9.2.2.1), (7, xI s9.2.2.2.1), (8, xI s9.2.2.2.2.1), (9, xI s9.2.2.2.2.2)] [] g) (he2 : ∀ r9 : (Nat × Int32 × Int32 × Int32 × Int32 × Int32), C2 (Sum.inr r9) → XG p l e R s m args below meth c D 10 h0 Q 339 [(0, xR r9.1), (4, xI r9.2.1), (6, xI r9.2.2.1), (7, xI r9.2.2.2.1), (8, xI r9.2.2.2.2.1), (9, xI r9.2.2.2.2.2)] [] g) (v0 : Nat) (v4 : Int32) (v6 : Int32) (v7 : Int32) (v8 : Int32) (v9 : Int32), XF p l e R s m args below meth c D 10 h0 Q 307 [(0, xR v0), (4, xI v4), (6, xI v6), (7, xI v7), (8, xI v8), (9, xI v9)] [] g (fM_layPayment_l307 v0 v4 v6 v7 v8 v9 g) C2 := by
      intro g C2 hj2 he2
      intro v0 v4 v6 v7 v8 v9
      unfold fM_layPayment_l307
      refine x_aload_n (pc' := 308) K 0 dX8_layPayment_307 rfl rfl ?_
      refine x_iload (pc' := 310) K 4 dX8_layPayment_308 rfl rfl ?_
      refine x_iload (pc' := 312) K 3 dX8_layPayment_310 rfl rfl ?_
      refine x_iload (pc' := 314) K 5 dX8_layPayment_312 rfl rfl ?_
      refine x_cVO (pc' := 317) (As := [xI v8, xI v7, xI v9]) (en := (fun v => some (xI v))) (rest := []) K (fun a hF => ct_X8_costOf hF) rfl (by decide) q1735 q1737 qs76 q1738 q105 hy_X8_costOf (Nat.le_of_ble_eq_true rfl) (Nat.le_of_ble_eq_true rfl) (Nat.le_of_ble_eq_true rfl) dX8_layPayment_314 rfl (fun x32 => ?_)
      refine x_aload_n (pc' := 318) K 0 dX8_layPayment_317 rfl rfl ?_
      refine x_getr (pc' := 321) K fg_14_28 (Or.inl (K.2.2.2.2.1 _ q1340)) (fun _ h9 => h9) dX8_layPayment_318 rfl (fun x33 => ?_)
      refine x_iload (pc' := 323) K 2 dX8_layPayment_321 rfl rfl ?_
      refine x_iload (pc' := 325) K 4 dX8_layPayment_323 rfl rfl ?_
      refine x_imul (pc' := 326) K dX8_layPayment_325 rfl ?_
      refine x_iload (pc' := 328) K 3 dX8_layPayment_326 rfl rfl ?_
      refine x_iadd (pc' := 329) K dX8_layPayment_328 rfl ?_
      refine x_iald (pc' := 330) K dX8_layPayment_329 rfl (fun x34 => ?_)
      refine x_icmp_eq (tgt := 339) (pc' := 333) K dX8_layPayment_330 rfl (by decide) ?_ ?_
      · exact x_jump (fun hz => he2 (v0, v4, v6, v7, v8, v9) hz)
      · refine x_iinc (pc' := 336) (y := 1) (lv' := [(9, xI (v9 + 1)), (0, xR v0), (4, xI v4), (6, xI v6), (7, xI v7), (8, xI v8)]) K 5 dX8_layPayment_333 rfl rfl (by decide) (by decide) rfl ?_
        refine x_goto (tgt := 307) K dX8_layPayment_336 (by decide) ?_
        refine x_sub (lv' := [(0, xR v0), (4, xI v4), (6, xI v6), (7, xI v7), (8, xI v8), (9, xI (v9 + 1))]) [1, 2, 3, 4, 5, 0] rfl ?_
        exact x_jump (fun hz => hj2 (v0, v4, v6, v7, v8, (v9 + 1)) hz)
    have hA339_1 : ∀ (v0 : Nat) (v4 : Int32) (v6 : Int32) (v7 : Int32) (v8 : Int32) (v9 : Int32) (g : AH), XF p l e R s m args below meth c D 10 h0 Q 339 [(0, xR v0), (4, xI v4), (6, xI v6), (7, xI v7), (8, xI v8), (9, xI v9)] [] g (fM_layPayment_a339_295 v0 v4 v6 v7 v8 v9 g) C1 := by
      intro v0 v4 v6 v7 v8 v9 g
      unfold fM_layPayment_a339_295
      refine x_aload_n (pc' := 340) K 0 dX8_layPayment_339 rfl rfl ?_
      refine x_getr (pc' := 343) K fg_14_30 (Or.inl (K.2.2.2.2.1 _ q1342)) (fun _ h9 => h9) dX8_layPayment_340 rfl (fun x35 => ?_)
      refine x_iload (pc' := 345) K 4 dX8_layPayment_343 rfl rfl ?_
      refine x_iload (pc' := 347) K 5 dX8_layPayment_345 rfl rfl ?_
      refine x_iast (pc' := 348) K dX8_layPayment_347 rfl (fun g36 => ?_)
      refine x_iload (pc' := 350) K 5 dX8_layPayment_348 rfl rfl ?_
      refine x_if_le (tgt := 393) (pc' := 353) K dX8_layPayment_350 rfl (by decide) ?_ ?_
      · refine x_iinc (pc' := 396) (y := 1) (lv' := [(8, xI (v8 + 1)), (0, xR v0), (4, xI v4), (6, xI v6), (7, xI v7), (9, xI v9)]) K 4 dX8_layPayment_393 rfl rfl (by decide) (by decide) rfl ?_
        refine x_goto (tgt := 295) K dX8_layPayment_396 (by decide) ?_
        refine x_sub (lv' := [(0, xR v0), (4, xI v4), (6, xI v6), (7, xI v7), (8, xI (v8 + 1))]) [1, 2, 3, 4, 0] rfl ?_
        exact x_jump (fun hz => hj1 (v0, v4, v6, v7, (v8 + 1), g36) hz)
      · refine x_iload (pc' := 355) K 3 dX8_layPayment_353 rfl rfl ?_
        refine x_aload_n (pc' := 356) K 0 dX8_layPayment_355 rfl rfl ?_
        refine x_getr (pc' := 359) K fg_14_27 (Or.inl (K.2.2.2.2.1 _ q1339)) (fun _ h9 => h9) dX8_layPayment_356 rfl (fun x37 => ?_)
        refine x_bipush (pc' := 361) (v := 6) K dX8_layPayment_359 rfl (by decide) ?_
        refine x_iload (pc' := 363) K 4 dX8_layPayment_361 rfl rfl ?_
        refine x_imul (pc' := 364) K dX8_layPayment_363 rfl ?_
        refine x_iload (pc' := 366) K 5 dX8_layPayment_364 rfl rfl ?_
        refine x_iadd (pc' := 367) K dX8_layPayment_366 rfl ?_
        refine x_iald (pc' := 368) K dX8_layPayment_367 rfl (fun x38 => ?_)
        refine x_icmp_le (tgt := 390) (pc' := 371) K dX8_layPayment_368 rfl (by decide) ?_ ?_
        · refine x_iconst (pc' := 391) (v := 0) K dX8_layPayment_390 rfl rfl ?_
          refine x_istore (pc' := 393) (lv' := [(7, xI (0 : Int32)), (0, xR v0), (4, xI v4), (6, xI v6), (8, xI v8), (9, xI v9)]) K dX8_layPayment_391 rfl (by decide) rfl ?_
          refine x_iinc (pc' := 396) (y := 1) (lv' := [(8, xI (v8 + 1)), (7, xI (0 : Int32)), (0, xR v0), (4, xI v4), (6, xI v6), (9, xI v9)]) K 4 dX8_layPayment_393 rfl rfl (by decide) (by decide) rfl ?_
          refine x_goto (tgt := 295) K dX8_layPayment_396 (by decide) ?_
          refine x_sub (lv' := [(0, xR v0), (4, xI v4), (6, xI v6), (7, xI (0 : Int32)), (8, xI (v8 + 1))]) [2, 3, 4, 1, 0] rfl ?_
          exact x_jump (fun hz => hj1 (v0, v4, v6, (0 : Int32), (v8 + 1), g36) hz)
        · refine x_iload (pc' := 373) K 3 dX8_layPayment_371 rfl rfl ?_
          refine x_aload_n (pc' := 374) K 0 dX8_layPayment_373 rfl rfl ?_
          refine x_getr (pc' := 377) K fg_14_27 (Or.inl (K.2.2.2.2.1 _ q1339)) (fun _ h9 => h9) dX8_layPayment_374 rfl (fun x39 => ?_)
          refine x_bipush (pc' := 379) (v := 6) K dX8_layPayment_377 rfl (by decide) ?_
          refine x_iload (pc' := 381) K 4 dX8_layPayment_379 rfl rfl ?_
          refine x_imul (pc' := 382) K dX8_layPayment_381 rfl ?_
          refine x_iload (pc' := 384) K 5 dX8_layPayment_382 rfl rfl ?_
          refine x_iadd (pc' := 385) K dX8_layPayment_384 rfl ?_
          refine x_iald (pc' := 386) K dX8_layPayment_385 rfl (fun x40 => ?_)
          refine x_isub (pc' := 387) K dX8_layPayment_386 rfl ?_
          refine x_goto (tgt := 391) K dX8_layPayment_387 (by decide) ?_
          refine x_istore (pc' := 393) (lv' := [(7, xI (v7 - x40)), (0, xR v0), (4, xI v4), (6, xI v6), (8, xI v8), (9, xI v9)]) K dX8_layPayment_391 rfl (by decide) rfl ?_
          refine x_iinc (pc' := 396) (y := 1) (lv' := [(8, xI (v8 + 1)), (7, xI (v7 - x40)), (0, xR v0), (4, xI v4), (6, xI v6), (9, xI v9)]) K 4 dX8_layPayment_393 rfl rfl (by decide) (by decide) rfl ?_
          refine x_goto (tgt := 295) K dX8_layPayment_396 (by decide) ?_
          refine x_sub (lv' := [(0, xR v0), (4, xI v4), (6, xI v6), (7, xI (v7 - x40)), (8, xI (v8 + 1))]) [2, 3, 4, 1, 0] rfl ?_
          exact x_jump (fun hz => hj1 (v0, v4, v6, (v7 - x40), (v8 + 1), g36) hz)
    intro v0 v4 v6 v7 v8 g
    unfold fM_layPayment_l295
    refine x_iload (pc' := 297) K 4 dX8_layPayment_295 rfl rfl ?_
    refine x_aload_n (pc' := 298) K 0 dX8_layPayment_297 rfl rfl ?_
    refine x_geti (pc' := 301) K fg_14_31 (Or.inl (K.2.2.2.2.1 _ q1343)) (fun _ h9 => h9) dX8_layPayment_298 rfl (fun x31 => ?_)
    refine x_icmp_ge (tgt := 399) (pc' := 304) K dX8_layPayment_301 rfl (by decide) ?_ ?_
    · refine x_sub (lv' := [(0, xR v0), (4, xI v4)]) [0, 1] rfl ?_
      exact x_jump (fun hz => he1 (v0, v4, g) hz)
    · refine x_iconst (pc' := 305) (v := 0) K dX8_layPayment_304 rfl rfl ?_
      refine x_istore (pc' := 307) (lv' := [(9, xI (0 : Int32)), (0, xR v0), (4, xI v4), (6, xI v6), (7, xI v7), (8, xI v8)]) K dX8_layPayment_305 rfl (by decide) rfl ?_
      refine x_sub (lv' := [(0, xR v0), (4, xI v4), (6, xI v6), (7, xI v7), (8, xI v8), (9, xI (0 : Int32))]) [1, 2, 3, 4, 5, 0] rfl ?_
      exact x_loop (pl := (fun s9 : (Nat × Int32 × Int32 × Int32 × Int32 × Int32) => [(0, xR s9.1), (4, xI s9.2.1), (6, xI s9.2.2.1), (7, xI s9.2.2.2.1), (8, xI s9.2.2.2.2.1), (9, xI s9.2.2.2.2.2)])) (ph := (fun s9 : (Nat × Int32 × Int32 × Int32 × Int32 × Int32) => g)) (fun r9 : (Nat × Int32 × Int32 × Int32 × Int32 × Int32) => XG p l e R s m args below meth c D 10 h0 Q 339 [(0, xR r9.1), (4, xI r9.2.1), (6, xI r9.2.2.1), (7, xI r9.2.2.2.1), (8, xI r9.2.2.2.2.1), (9, xI r9.2.2.2.2.2)] [] g) (fun s9 => hL307 g _ (fun _ hz => hz) (fun _ hz => hz) s9.1 s9.2.1 s9.2.2.1 s9.2.2.2.1 s9.2.2.2.2.1 s9.2.2.2.2.2) (fun r9 x hx hc => hA339_1 r9.1 r9.2.1 r9.2.2.1 r9.2.2.2.1 r9.2.2.2.2.1 r9.2.2.2.2.2 g x hx hc) (v0, v4, v6, v7, v8, (0 : Int32))
  have hA399_0 : ∀ (v0 : Nat) (v4 : Int32) (g : AH), XF p l e R s m args below meth c D 10 h0 Q 399 [(0, xR v0), (4, xI v4)] [] g (fM_layPayment_a399 v0 v4 g) (XEnd below s D h0 (fun v => .inl (some (xI v))) Q) := by
    intro v0 v4 g
    unfold fM_layPayment_a399
    refine x_aload_n (pc' := 400) K 0 dX8_layPayment_399 rfl rfl ?_
    refine x_getr (pc' := 403) K fg_14_28 (Or.inl (K.2.2.2.2.1 _ q1340)) (fun _ h9 => h9) dX8_layPayment_400 rfl (fun x41 => ?_)
    refine x_iload (pc' := 405) K 1 dX8_layPayment_403 rfl rfl ?_
    refine x_iald (pc' := 406) K dX8_layPayment_405 rfl (fun x42 => ?_)
    refine x_bipush (pc' := 408) (v := 16) K dX8_layPayment_406 rfl (by decide) ?_
    refine x_idiv (pc' := 409) K dX8_layPayment_408 rfl (fun x43 => ?_)
    exact x_iret K rfl hr dX8_layPayment_409
  have hA273_0 : ∀ (v0 : Nat) (v4 : Int32) (v6 : Int32) (g : AH), XF p l e R s m args below meth c D 10 h0 Q 273 [(0, xR v0), (4, xI v4), (6, xI v6)] [] g (fM_layPayment_a273 v0 v4 v6 g) (XEnd below s D h0 (fun v => .inl (some (xI v))) Q) := by
    intro v0 v4 v6 g
    unfold fM_layPayment_a273
    refine x_aload_n (pc' := 274) K 0 dX8_layPayment_273 rfl rfl ?_
    refine x_getr (pc' := 277) K fg_14_28 (Or.inl (K.2.2.2.2.1 _ q1340)) (fun _ h9 => h9) dX8_layPayment_274 rfl (fun x29 => ?_)
    refine x_iload (pc' := 279) K 1 dX8_layPayment_277 rfl rfl ?_
    refine x_iald (pc' := 280) K dX8_layPayment_279 rfl (fun x30 => ?_)
    refine x_ldcw (pc' := 283) K q1730 dX8_layPayment_280 rfl ?_
    refine x_icmp_lt (tgt := 288) (pc' := 286) K dX8_layPayment_283 rfl (by decide) ?_ ?_
    · refine x_iload (pc' := 290) K 1 dX8_layPayment_288 rfl rfl ?_
      refine x_istore (pc' := 292) (lv' := [(7, xI v4), (0, xR v0), (4, xI v4), (6, xI v6)]) K dX8_layPayment_290 rfl (by decide) rfl ?_
      refine x_iconst (pc' := 293) (v := 0) K dX8_layPayment_292 rfl rfl ?_
      refine x_istore (pc' := 295) (lv' := [(8, xI (0 : Int32)), (7, xI v4), (0, xR v0), (4, xI v4), (6, xI v6)]) K dX8_layPayment_293 rfl (by decide) rfl ?_
      refine x_sub (lv' := [(0, xR v0), (4, xI v4), (6, xI v6), (7, xI v4), (8, xI (0 : Int32))]) [2, 3, 4, 1, 0] rfl ?_
      exact x_loop (pl := (fun s9 : (Nat × Int32 × Int32 × Int32 × Int32 × AH) => [(0, xR s9.1), (4, xI s9.2.1), (6, xI s9.2.2.1), (7, xI s9.2.2.2.1), (8, xI s9.2.2.2.2.1)])) (ph := (fun s9 : (Nat × Int32 × Int32 × Int32 × Int32 × AH) => s9.2.2.2.2.2)) (fun r9 : (Nat × Int32 × AH) => XG p l e R s m args below meth c D 10 h0 Q 399 [(0, xR r9.1), (4, xI r9.2.1)] [] r9.2.2) (fun s9 => hL295 _ (fun _ hz => hz) (fun _ hz => hz) s9.1 s9.2.1 s9.2.2.1 s9.2.2.2.1 s9.2.2.2.2.1 s9.2.2.2.2.2) (fun r9 x hx hc => hA399_0 r9.1 r9.2.1 r9.2.2 x hx hc) (v0, v4, v6, v4, (0 : Int32), g)
    · refine x_iconst (pc' := 287) (v := (-1)) K dX8_layPayment_286 rfl rfl ?_
      exact x_iret K rfl hr dX8_layPayment_287
  have hA217_0 : ∀ (v0 : Nat) (v4 : Int32) (v6 : Int32) (g : AH), XF p l e R s m args below meth c D 10 h0 Q 217 [(0, xR v0), (4, xI v4), (6, xI v6)] [] g (fM_layPayment_a217 v0 v4 v6 g) (XEnd below s D h0 (fun v => .inl (some (xI v))) Q) := by
    intro v0 v4 v6 g
    unfold fM_layPayment_a217
    refine x_aload_n (pc' := 218) K 0 dX8_layPayment_217 rfl rfl ?_
    refine x_geti (pc' := 221) K fg_14_31 (Or.inl (K.2.2.2.2.1 _ q1343)) (fun _ h9 => h9) dX8_layPayment_218 rfl (fun x25 => ?_)
    refine x_iconst (pc' := 222) (v := 1) K dX8_layPayment_221 rfl rfl ?_
    refine x_isub (pc' := 223) K dX8_layPayment_222 rfl ?_
    refine x_istore (pc' := 225) (lv' := [(7, xI (x25 - (1 : Int32))), (0, xR v0), (4, xI v4), (6, xI v6)]) K dX8_layPayment_223 rfl (by decide) rfl ?_
    refine x_sub (lv' := [(0, xR v0), (4, xI v4), (6, xI v6), (7, xI (x25 - (1 : Int32)))]) [1, 2, 3, 0] rfl ?_
    exact x_loop (pl := (fun s9 : (Nat × Int32 × Int32 × Int32 × AH) => [(0, xR s9.1), (4, xI s9.2.1), (6, xI s9.2.2.1), (7, xI s9.2.2.2.1)])) (ph := (fun s9 : (Nat × Int32 × Int32 × Int32 × AH) => s9.2.2.2.2)) (fun r9 : (Nat × Int32 × Int32 × AH) => XG p l e R s m args below meth c D 10 h0 Q 273 [(0, xR r9.1), (4, xI r9.2.1), (6, xI r9.2.2.1)] [] r9.2.2.2) (fun s9 => hL225 _ (fun _ hz => hz) (fun _ hz => hz) s9.1 s9.2.1 s9.2.2.1 s9.2.2.2.1 s9.2.2.2.2) (fun r9 x hx hc => hA273_0 r9.1 r9.2.1 r9.2.2.1 r9.2.2.2 x hx hc) (v0, v4, v6, (x25 - (1 : Int32)), g)
  have hA169_0 : ∀ (v0 : Nat) (v4 : Int32) (g : AH), XF p l e R s m args below meth c D 10 h0 Q 169 [(0, xR v0), (4, xI v4)] [] g (fM_layPayment_a169 v0 v4 g) (XEnd below s D h0 (fun v => .inl (some (xI v))) Q) := by
    intro v0 v4 g
    unfold fM_layPayment_a169
    refine x_sipush (pc' := 172) (v := 2001) K dX8_layPayment_169 rfl (by decide) ?_
    refine x_istore (pc' := 174) (lv' := [(6, xI (2001 : Int32)), (0, xR v0), (4, xI v4)]) K dX8_layPayment_172 rfl (by decide) rfl ?_
    refine x_iconst (pc' := 175) (v := 0) K dX8_layPayment_174 rfl rfl ?_
    refine x_istore (pc' := 177) (lv' := [(7, xI (0 : Int32)), (6, xI (2001 : Int32)), (0, xR v0), (4, xI v4)]) K dX8_layPayment_175 rfl (by decide) rfl ?_
    refine x_sub (lv' := [(0, xR v0), (4, xI v4), (6, xI (2001 : Int32)), (7, xI (0 : Int32))]) [2, 3, 1, 0] rfl ?_
    exact x_loop (pl := (fun s9 : (Nat × Int32 × Int32 × Int32 × AH) => [(0, xR s9.1), (4, xI s9.2.1), (6, xI s9.2.2.1), (7, xI s9.2.2.2.1)])) (ph := (fun s9 : (Nat × Int32 × Int32 × Int32 × AH) => s9.2.2.2.2)) (fun r9 : (Nat × Int32 × Int32 × AH) => XG p l e R s m args below meth c D 10 h0 Q 217 [(0, xR r9.1), (4, xI r9.2.1), (6, xI r9.2.2.1)] [] r9.2.2.2) (fun s9 => hL177 _ (fun _ hz => hz) (fun _ hz => hz) s9.1 s9.2.1 s9.2.2.1 s9.2.2.2.1 s9.2.2.2.2) (fun r9 x hx hc => hA217_0 r9.1 r9.2.1 r9.2.2.1 r9.2.2.2 x hx hc) (v0, v4, (2001 : Int32), (0 : Int32), g)
  refine (?_ : XF p l e R s m args below meth c D 10 h0 Q 0 [(0, xR v0), (1, xI v1), (2, xI v2), (3, xI v3), (4, xI v4)] [] h0 (fM_layPayment v0 v1 v2 v3 v4 h0) (XEnd below s D h0 (fun v => .inl (some (xI v))) Q)) (a, h1) hF hQ.symm
  unfold fM_layPayment
  refine x_aload_n (pc' := 1) K 0 dX8_layPayment_0 rfl rfl ?_
  refine x_iload_n (pc' := 2) K 1 dX8_layPayment_1 rfl rfl ?_
  refine x_cVO (pc' := 5) (As := [xI v1]) (en := (fun v => some (xI v))) (rest := []) K (fun a hF => ct_X8_isWho hF) rfl (by decide) q1586 q1588 qs50 q1589 q105 hy_X8_isWho (Nat.le_of_ble_eq_true rfl) (Nat.le_of_ble_eq_true rfl) (Nat.le_of_ble_eq_true rfl) dX8_layPayment_2 rfl (fun x1 => ?_)
  refine x_if_eq (tgt := 45) (pc' := 8) K dX8_layPayment_5 rfl (by decide) ?_ ?_
  · refine x_bipush (pc' := 47) (v := (-2)) K dX8_layPayment_45 rfl (by decide) ?_
    exact x_iret K rfl hr dX8_layPayment_47
  · refine x_aload_n (pc' := 9) K 0 dX8_layPayment_8 rfl rfl ?_
    refine x_iload_n (pc' := 10) K 2 dX8_layPayment_9 rfl rfl ?_
    refine x_cVO (pc' := 13) (As := [xI v2]) (en := (fun v => some (xI v))) (rest := []) K (fun a hF => ct_X8_isWho hF) rfl (by decide) q1586 q1588 qs50 q1589 q105 hy_X8_isWho (Nat.le_of_ble_eq_true rfl) (Nat.le_of_ble_eq_true rfl) (Nat.le_of_ble_eq_true rfl) dX8_layPayment_10 rfl (fun x2 => ?_)
    refine x_if_eq (tgt := 45) (pc' := 16) K dX8_layPayment_13 rfl (by decide) ?_ ?_
    · refine x_bipush (pc' := 47) (v := (-2)) K dX8_layPayment_45 rfl (by decide) ?_
      exact x_iret K rfl hr dX8_layPayment_47
    · refine x_aload_n (pc' := 17) K 0 dX8_layPayment_16 rfl rfl ?_
      refine x_iload_n (pc' := 18) K 3 dX8_layPayment_17 rfl rfl ?_
      refine x_cVO (pc' := 21) (As := [xI v3]) (en := (fun v => some (xI v))) (rest := []) K (fun a hF => ct_X8_isMint hF) rfl (by decide) q1618 q1620 qs57 q1621 q105 hy_X8_isMint (Nat.le_of_ble_eq_true rfl) (Nat.le_of_ble_eq_true rfl) (Nat.le_of_ble_eq_true rfl) dX8_layPayment_18 rfl (fun x3 => ?_)
      refine x_if_eq (tgt := 45) (pc' := 24) K dX8_layPayment_21 rfl (by decide) ?_ ?_
      · refine x_bipush (pc' := 47) (v := (-2)) K dX8_layPayment_45 rfl (by decide) ?_
        exact x_iret K rfl hr dX8_layPayment_47
      · refine x_iload (pc' := 26) K 4 dX8_layPayment_24 rfl rfl ?_
        refine x_iconst (pc' := 27) (v := 1) K dX8_layPayment_26 rfl rfl ?_
        refine x_sipush (pc' := 30) (v := 2000) K dX8_layPayment_27 rfl (by decide) ?_
        refine x_cSO (pc' := 33) (As := [xI v4, xI (1 : Int32), xI (2000 : Int32)]) (en := (fun v => some (xI v))) (rest := []) K (fun a hF => ct_X8_isIn hF) rfl q1552 q1553 q1554 q105 hy_X8_isIn (Nat.le_of_ble_eq_true rfl) (Nat.le_of_ble_eq_true rfl) (Nat.le_of_ble_eq_true rfl) dX8_layPayment_30 rfl (fun x4 => ?_)
        refine x_if_eq (tgt := 45) (pc' := 36) K dX8_layPayment_33 rfl (by decide) ?_ ?_
        · refine x_bipush (pc' := 47) (v := (-2)) K dX8_layPayment_45 rfl (by decide) ?_
          exact x_iret K rfl hr dX8_layPayment_47
        · refine x_aload_n (pc' := 37) K 0 dX8_layPayment_36 rfl rfl ?_
          refine x_iload_n (pc' := 38) K 1 dX8_layPayment_37 rfl rfl ?_
          refine x_iload_n (pc' := 39) K 2 dX8_layPayment_38 rfl rfl ?_
          refine x_cVO (pc' := 42) (As := [xI v1, xI v2]) (en := (fun v => some (xI v))) (rest := []) K (fun a hF => ct_X8_areUnfit hF) rfl (by decide) q1698 q1700 qs70 q1701 q105 hy_X8_areUnfit (Nat.le_of_ble_eq_true rfl) (Nat.le_of_ble_eq_true rfl) (Nat.le_of_ble_eq_true rfl) dX8_layPayment_39 rfl (fun x5 => ?_)
          refine x_if_eq (tgt := 48) (pc' := 45) K dX8_layPayment_42 rfl (by decide) ?_ ?_
          · refine x_aload_n (pc' := 49) K 0 dX8_layPayment_48 rfl rfl ?_
            refine x_cVO (pc' := 52) (As := []) (en := (fun v => some (xI v))) (rest := []) K (fun a hF => ct_X8_luckOf hF) rfl (by decide) q1674 q1676 qs67 q1677 q105 hy_X8_luckOf (Nat.le_of_ble_eq_true rfl) (Nat.le_of_ble_eq_true rfl) (Nat.le_of_ble_eq_true rfl) dX8_layPayment_49 rfl (fun x6 => ?_)
            refine x_istore (pc' := 54) (lv' := [(5, xI x6), (0, xR v0), (1, xI v1), (2, xI v2), (3, xI v3), (4, xI v4)]) K dX8_layPayment_52 rfl (by decide) rfl ?_
            refine x_aload_n (pc' := 55) K 1 dX8_layPayment_54 rfl rfl ?_
            refine x_iconst (pc' := 56) (v := 0) K dX8_layPayment_55 rfl rfl ?_
            refine x_puti (pc' := 59) K fp_14_31 (Or.inl (K.2.2.2.2.1 _ q1343)) (fun _ h9 => h9) (Or.inl rfl) dX8_layPayment_56 rfl (fun g7 => ?_)
            refine x_iconst (pc' := 60) (v := 0) K dX8_layPayment_59 rfl rfl ?_
            refine x_istore (pc' := 62) (lv' := [(6, xI (0 : Int32)), (5, xI x6), (0, xR v0), (1, xI v1), (2, xI v2), (3, xI v3), (4, xI v4)]) K dX8_layPayment_60 rfl (by decide) rfl ?_
            refine x_sub (lv' := [(0, xR v0), (1, xI v1), (2, xI v2), (3, xI v3), (4, xI v4), (5, xI x6), (6, xI (0 : Int32))]) [2, 3, 4, 5, 6, 1, 0] rfl ?_
            exact x_loop (pl := (fun s9 : (Nat × Int32 × Int32 × Int32 × Int32 × Int32 × Int32 × AH) => [(0, xR s9.1), (1, xI s9.2.1), (2, xI s9.2.2.1), (3, xI s9.2.2.2.1), (4, xI s9.2.2.2.2.1), (5, xI s9.2.2.2.2.2.1), (6, xI s9.2.2.2.2.2.2.1)])) (ph := (fun s9 : (Nat × Int32 × Int32 × Int32 × Int32 × Int32 × Int32 × AH) => s9.2.2.2.2.2.2.2)) (fun r9 : (Nat × Int32 × AH) => XG p l e R s m args below meth c D 10 h0 Q 169 [(0, xR r9.1), (4, xI r9.2.1)] [] r9.2.2) (fun s9 => hL62 _ (fun _ hz => hz) (fun _ hz => hz) s9.1 s9.2.1 s9.2.2.1 s9.2.2.2.1 s9.2.2.2.2.1 s9.2.2.2.2.2.1 s9.2.2.2.2.2.2.1 s9.2.2.2.2.2.2.2) (fun r9 x hx hc => hA169_0 r9.1 r9.2.1 r9.2.2 x hx hc) (v0, v1, v2, v3, v4, x6, (0 : Int32), g7)
          · refine x_bipush (pc' := 47) (v := (-2)) K dX8_layPayment_45 rfl (by decide) ?_
            exact x_iret K rfl hr dX8_layPayment_47
/-! FaceCoinsModel.tellPaid()V -/
noncomputable def fM_tellPaid_l10 (v0 : Nat) (v1 : Int32) (g : AH) : Option ((Nat × Int32 × AH) ⊕ (Nat × AH)) :=
  if (40 : Int32) ≤ v1 then (
    some (Sum.inr (v0, g)))
  else (
    (xgr g v0 [14] 29).bind fun x3 =>
    (xsi g x3 v1 ((-1) : Int32)).bind fun g4 =>
    some (Sum.inl (v0, (v1 + 1), g4)))
noncomputable def fM_tellPaid_l31 (v0 : Nat) (v1 : Int32) (g : AH) : Option ((Nat × Int32 × AH) ⊕ AH) :=
  (xgi g v0 [14] 31).bind fun x5 =>
  if x5 ≤ v1 then (
    some (Sum.inr g))
  else (
    (xgr g v0 [14] 29).bind fun x6 =>
    (xgr g v0 [14] 26).bind fun x7 =>
    (xai g x7 100 v1).bind fun x8 =>
    (xgr g v0 [14] 30).bind fun x9 =>
    (xai g x9 100 v1).bind fun x10 =>
    (xsi g x6 x8 x10).bind fun g11 =>
    some (Sum.inl (v0, (v1 + 1), g11)))
noncomputable def fM_tellPaid_a62  (g : AH) : Option (Unit × AH) :=
  some (((), g))
noncomputable def fM_tellPaid_a29 (v0 : Nat) (g : AH) : Option (Unit × AH) :=
  (xloop (fun s9 : (Nat × Int32 × AH) => fM_tellPaid_l31 s9.1 s9.2.1 s9.2.2) (v0, (0 : Int32), g)).bind (fun r9 : AH => fM_tellPaid_a62 r9)
noncomputable def fM_tellPaid (v0 : Nat) (h0 : AH) : Option (Unit × AH) :=
  (xgi h0 v0 [14] 31).bind fun x1 =>
  (xpi h0 v0 [14] 32 x1).bind fun g2 =>
  (xloop (fun s9 : (Nat × Int32 × AH) => fM_tellPaid_l10 s9.1 s9.2.1 s9.2.2) (v0, (0 : Int32), g2)).bind (fun r9 : (Nat × AH) => fM_tellPaid_a29 r9.1 r9.2)
set_option maxHeartbeats 4000000 in
theorem ct_X8_tellPaid {l : Launch} {D : XD} {v0 : Nat} {h0 : AH} {a : Unit} {h1 : AH} (hF : fM_tellPaid v0 h0 = some (a, h1)) : XCt l D yX8_tellPaid (ws_ yX8_tellPaid cX8_tellPaid 2 none) 0 0 [xR v0] h0 (.inl none) h1 := by
  refine x_method (by decide) (Nat.le_of_ble_eq_true rfl) fun p e R s m args below meth c K hr hnm hex => ?_
  have K : XO p R s m args meth c D 2 h0 cX8_tellPaid "FaceCoinsModel" 0 0 := K
  generalize hQ : XMQ below _ _ _ _ _ _ = Q
  have hL10 : ∀ (C1 : ((Nat × Int32 × AH) ⊕ (Nat × AH)) → Prop) (hj1 : ∀ s9 : (Nat × Int32 × AH), C1 (Sum.inl s9) → XG p l e R s m args below meth c D 2 h0 Q 10 [(0, xR s9.1), (1, xI s9.2.1)] [] s9.2.2) (he1 : ∀ r9 : (Nat × AH), C1 (Sum.inr r9) → XG p l e R s m args below meth c D 2 h0 Q 29 [(0, xR r9.1)] [] r9.2) (v0 : Nat) (v1 : Int32) (g : AH), XF p l e R s m args below meth c D 2 h0 Q 10 [(0, xR v0), (1, xI v1)] [] g (fM_tellPaid_l10 v0 v1 g) C1 := by
    intro C1 hj1 he1
    intro v0 v1 g
    unfold fM_tellPaid_l10
    refine x_iload_n (pc' := 11) K 1 dX8_tellPaid_10 rfl rfl ?_
    refine x_bipush (pc' := 13) (v := 40) K dX8_tellPaid_11 rfl (by decide) ?_
    refine x_icmp_ge (tgt := 29) (pc' := 16) K dX8_tellPaid_13 rfl (by decide) ?_ ?_
    · refine x_sub (lv' := [(0, xR v0)]) [0] rfl ?_
      exact x_jump (fun hz => he1 (v0, g) hz)
    · refine x_aload_n (pc' := 17) K 0 dX8_tellPaid_16 rfl rfl ?_
      refine x_getr (pc' := 20) K fg_14_29 (Or.inl (K.2.2.2.2.1 _ q1341)) (fun _ h9 => h9) dX8_tellPaid_17 rfl (fun x3 => ?_)
      refine x_iload_n (pc' := 21) K 1 dX8_tellPaid_20 rfl rfl ?_
      refine x_iconst (pc' := 22) (v := (-1)) K dX8_tellPaid_21 rfl rfl ?_
      refine x_iast (pc' := 23) K dX8_tellPaid_22 rfl (fun g4 => ?_)
      refine x_iinc (pc' := 26) (y := 1) (lv' := [(1, xI (v1 + 1)), (0, xR v0)]) K 1 dX8_tellPaid_23 rfl rfl (by decide) (by decide) rfl ?_
      refine x_goto (tgt := 10) K dX8_tellPaid_26 (by decide) ?_
      refine x_sub (lv' := [(0, xR v0), (1, xI (v1 + 1))]) [1, 0] rfl ?_
      exact x_jump (fun hz => hj1 (v0, (v1 + 1), g4) hz)
  have hL31 : ∀ (C1 : ((Nat × Int32 × AH) ⊕ AH) → Prop) (hj1 : ∀ s9 : (Nat × Int32 × AH), C1 (Sum.inl s9) → XG p l e R s m args below meth c D 2 h0 Q 31 [(0, xR s9.1), (1, xI s9.2.1)] [] s9.2.2) (he1 : ∀ r9 : AH, C1 (Sum.inr r9) → XG p l e R s m args below meth c D 2 h0 Q 62 [] [] r9) (v0 : Nat) (v1 : Int32) (g : AH), XF p l e R s m args below meth c D 2 h0 Q 31 [(0, xR v0), (1, xI v1)] [] g (fM_tellPaid_l31 v0 v1 g) C1 := by
    intro C1 hj1 he1
    intro v0 v1 g
    unfold fM_tellPaid_l31
    refine x_iload_n (pc' := 32) K 1 dX8_tellPaid_31 rfl rfl ?_
    refine x_aload_n (pc' := 33) K 0 dX8_tellPaid_32 rfl rfl ?_
    refine x_geti (pc' := 36) K fg_14_31 (Or.inl (K.2.2.2.2.1 _ q1343)) (fun _ h9 => h9) dX8_tellPaid_33 rfl (fun x5 => ?_)
    refine x_icmp_ge (tgt := 62) (pc' := 39) K dX8_tellPaid_36 rfl (by decide) ?_ ?_
    · refine x_sub (lv' := []) [] rfl ?_
      exact x_jump (fun hz => he1 g hz)
    · refine x_aload_n (pc' := 40) K 0 dX8_tellPaid_39 rfl rfl ?_
      refine x_getr (pc' := 43) K fg_14_29 (Or.inl (K.2.2.2.2.1 _ q1341)) (fun _ h9 => h9) dX8_tellPaid_40 rfl (fun x6 => ?_)
      refine x_aload_n (pc' := 44) K 0 dX8_tellPaid_43 rfl rfl ?_
      refine x_getr (pc' := 47) K fg_14_26 (Or.inl (K.2.2.2.2.1 _ q1338)) (fun _ h9 => h9) dX8_tellPaid_44 rfl (fun x7 => ?_)
      refine x_iload_n (pc' := 48) K 1 dX8_tellPaid_47 rfl rfl ?_
      refine x_iald (pc' := 49) K dX8_tellPaid_48 rfl (fun x8 => ?_)
      refine x_aload_n (pc' := 50) K 0 dX8_tellPaid_49 rfl rfl ?_
      refine x_getr (pc' := 53) K fg_14_30 (Or.inl (K.2.2.2.2.1 _ q1342)) (fun _ h9 => h9) dX8_tellPaid_50 rfl (fun x9 => ?_)
      refine x_iload_n (pc' := 54) K 1 dX8_tellPaid_53 rfl rfl ?_
      refine x_iald (pc' := 55) K dX8_tellPaid_54 rfl (fun x10 => ?_)
      refine x_iast (pc' := 56) K dX8_tellPaid_55 rfl (fun g11 => ?_)
      refine x_iinc (pc' := 59) (y := 1) (lv' := [(1, xI (v1 + 1)), (0, xR v0)]) K 1 dX8_tellPaid_56 rfl rfl (by decide) (by decide) rfl ?_
      refine x_goto (tgt := 31) K dX8_tellPaid_59 (by decide) ?_
      refine x_sub (lv' := [(0, xR v0), (1, xI (v1 + 1))]) [1, 0] rfl ?_
      exact x_jump (fun hz => hj1 (v0, (v1 + 1), g11) hz)
  have hA62_0 : ∀  (g : AH), XF p l e R s m args below meth c D 2 h0 Q 62 [] [] g (fM_tellPaid_a62 g) (XEnd below s D h0 (fun _ => .inl none) Q) := by
    intro  g
    unfold fM_tellPaid_a62
    exact x_vret K rfl hr dX8_tellPaid_62
  have hA29_0 : ∀ (v0 : Nat) (g : AH), XF p l e R s m args below meth c D 2 h0 Q 29 [(0, xR v0)] [] g (fM_tellPaid_a29 v0 g) (XEnd below s D h0 (fun _ => .inl none) Q) := by
    intro v0 g
    unfold fM_tellPaid_a29
    refine x_iconst (pc' := 30) (v := 0) K dX8_tellPaid_29 rfl rfl ?_
    refine x_istore_n (pc' := 31) (lv' := [(1, xI (0 : Int32)), (0, xR v0)]) K dX8_tellPaid_30 rfl (by decide) rfl ?_
    refine x_sub (lv' := [(0, xR v0), (1, xI (0 : Int32))]) [1, 0] rfl ?_
    exact x_loop (pl := (fun s9 : (Nat × Int32 × AH) => [(0, xR s9.1), (1, xI s9.2.1)])) (ph := (fun s9 : (Nat × Int32 × AH) => s9.2.2)) (fun r9 : AH => XG p l e R s m args below meth c D 2 h0 Q 62 [] [] r9) (fun s9 => hL31 _ (fun _ hz => hz) (fun _ hz => hz) s9.1 s9.2.1 s9.2.2) (fun r9 x hx hc => hA62_0 r9 x hx hc) (v0, (0 : Int32), g)
  refine (?_ : XF p l e R s m args below meth c D 2 h0 Q 0 [(0, xR v0)] [] h0 (fM_tellPaid v0 h0) (XEnd below s D h0 (fun _ => .inl none) Q)) (a, h1) hF hQ.symm
  unfold fM_tellPaid
  refine x_aload_n (pc' := 1) K 0 dX8_tellPaid_0 rfl rfl ?_
  refine x_aload_n (pc' := 2) K 0 dX8_tellPaid_1 rfl rfl ?_
  refine x_geti (pc' := 5) K fg_14_31 (Or.inl (K.2.2.2.2.1 _ q1343)) (fun _ h9 => h9) dX8_tellPaid_2 rfl (fun x1 => ?_)
  refine x_puti (pc' := 8) K fp_14_32 (Or.inl (K.2.2.2.2.1 _ q1344)) (fun _ h9 => h9) (Or.inl rfl) dX8_tellPaid_5 rfl (fun g2 => ?_)
  refine x_iconst (pc' := 9) (v := 0) K dX8_tellPaid_8 rfl rfl ?_
  refine x_istore_n (pc' := 10) (lv' := [(1, xI (0 : Int32)), (0, xR v0)]) K dX8_tellPaid_9 rfl (by decide) rfl ?_
  refine x_sub (lv' := [(0, xR v0), (1, xI (0 : Int32))]) [1, 0] rfl ?_
  exact x_loop (pl := (fun s9 : (Nat × Int32 × AH) => [(0, xR s9.1), (1, xI s9.2.1)])) (ph := (fun s9 : (Nat × Int32 × AH) => s9.2.2)) (fun r9 : (Nat × AH) => XG p l e R s m args below meth c D 2 h0 Q 29 [(0, xR r9.1)] [] r9.2) (fun s9 => hL10 _ (fun _ hz => hz) (fun _ hz => hz) s9.1 s9.2.1 s9.2.2) (fun r9 x hx hc => hA29_0 r9.1 r9.2 x hx hc) (v0, (0 : Int32), g2)
/-! FaceCoinsModel.payment(IIII)I -/
noncomputable def fM_payment (v0 : Nat) (v1 : Int32) (v2 : Int32) (v3 : Int32) (v4 : Int32) (h0 : AH) : Option (Int32 × AH) :=
  (xpi h0 v0 [14] 0 (0 : Int32)).bind fun g1 =>
  xb2 (xck g1 v0 14 (fM_lay v0 g1)) fun x_ g2 =>
  xb2 (xck g2 v0 14 (fM_layPayment v0 v1 v2 v3 v4 g2)) fun x3 g4 =>
  if x3 < 0 then (
    some ((x3, g4)))
  else (
    xb2 (xck g4 v0 14 (fM_tellPaid v0 g4)) fun x_ g5 =>
    some ((x3, g5)))
set_option maxHeartbeats 4000000 in
theorem ct_X8_payment {l : Launch} {D : XD} {v0 : Nat} {v1 : Int32} {v2 : Int32} {v3 : Int32} {v4 : Int32} {h0 : AH} {a : Int32} {h1 : AH} (hF : fM_payment v0 v1 v2 v3 v4 h0 = some (a, h1)) : XCt l D yX8_payment (ws_ yX8_payment cX8_payment 6 (some .int)) 4 105 [xR v0, xI v1, xI v2, xI v3, xI v4] h0 (.inl (some (xI a))) h1 := by
  refine x_method (by decide) (Nat.le_of_ble_eq_true rfl) fun p e R s m args below meth c K hr hnm hex => ?_
  have K : XO p R s m args meth c D 6 h0 cX8_payment "FaceCoinsModel" 4 105 := K
  generalize hQ : XMQ below _ _ _ _ _ _ = Q
  refine (?_ : XF p l e R s m args below meth c D 6 h0 Q 0 [(0, xR v0), (1, xI v1), (2, xI v2), (3, xI v3), (4, xI v4)] [] h0 (fM_payment v0 v1 v2 v3 v4 h0) (XEnd below s D h0 (fun v => .inl (some (xI v))) Q)) (a, h1) hF hQ.symm
  unfold fM_payment
  refine x_aload_n (pc' := 1) K 0 dX8_payment_0 rfl rfl ?_
  refine x_iconst (pc' := 2) (v := 0) K dX8_payment_1 rfl rfl ?_
  refine x_puti (pc' := 5) K fp_14_0 (Or.inl (K.2.2.2.2.1 _ q1312)) (fun _ h9 => h9) (Or.inl rfl) dX8_payment_2 rfl (fun g1 => ?_)
  refine x_aload_n (pc' := 6) K 0 dX8_payment_5 rfl rfl ?_
  refine x_cV (pc' := 9) (As := []) (en := (fun _ => none)) (rest := []) K (fun a h1 hF => ct_X8_lay hF) rfl (by decide) q1479 q1481 qs31 q1482 q105 hy_X8_lay (Nat.le_of_ble_eq_true rfl) (Nat.le_of_ble_eq_true rfl) (Nat.le_of_ble_eq_true rfl) dX8_payment_6 rfl (fun x_ g2 => ?_)
  refine x_aload_n (pc' := 10) K 0 dX8_payment_9 rfl rfl ?_
  refine x_iload_n (pc' := 11) K 1 dX8_payment_10 rfl rfl ?_
  refine x_iload_n (pc' := 12) K 2 dX8_payment_11 rfl rfl ?_
  refine x_iload_n (pc' := 13) K 3 dX8_payment_12 rfl rfl ?_
  refine x_iload (pc' := 15) K 4 dX8_payment_13 rfl rfl ?_
  refine x_cV (pc' := 18) (As := [xI v1, xI v2, xI v3, xI v4]) (en := (fun v => some (xI v))) (rest := []) K (fun a h1 hF => ct_X8_layPayment hF) rfl (by decide) q1722 q1724 qs73 q1725 q105 hy_X8_layPayment (Nat.le_of_ble_eq_true rfl) (Nat.le_of_ble_eq_true rfl) (Nat.le_of_ble_eq_true rfl) dX8_payment_15 rfl (fun x3 g4 => ?_)
  refine x_istore (pc' := 20) (lv' := [(5, xI x3), (0, xR v0), (1, xI v1), (2, xI v2), (3, xI v3), (4, xI v4)]) K dX8_payment_18 rfl (by decide) rfl ?_
  refine x_iload (pc' := 22) K 0 dX8_payment_20 rfl rfl ?_
  refine x_if_lt (tgt := 29) (pc' := 25) K dX8_payment_22 rfl (by decide) ?_ ?_
  · refine x_iload (pc' := 31) K 0 dX8_payment_29 rfl rfl ?_
    exact x_iret K rfl hr dX8_payment_31
  · refine x_aload_n (pc' := 26) K 1 dX8_payment_25 rfl rfl ?_
    refine x_cV (pc' := 29) (As := []) (en := (fun _ => none)) (rest := []) K (fun a h1 hF => ct_X8_tellPaid hF) rfl (by decide) q1739 q1741 qs77 q1742 q105 hy_X8_tellPaid (Nat.le_of_ble_eq_true rfl) (Nat.le_of_ble_eq_true rfl) (Nat.le_of_ble_eq_true rfl) dX8_payment_26 rfl (fun x_ g5 => ?_)
    refine x_iload (pc' := 31) K 0 dX8_payment_29 rfl rfl ?_
    exact x_iret K rfl hr dX8_payment_31
/-! FaceCoinsModel.paid(I)I -/
noncomputable def fM_paid (v0 : Nat) (v1 : Int32) (h0 : AH) : Option (Int32 × AH) :=
  (xpi h0 v0 [14] 0 (0 : Int32)).bind fun g1 =>
  (xgi g1 v0 [14] 32).bind fun x2 =>
  if x2 = ((-1) : Int32) then (
    some ((((-1) : Int32), g1)))
  else (
    (fM_isIn v1 (0 : Int32) (39 : Int32) g1).bind fun x3 =>
    if x3 = 0 then (
      some ((((-1) : Int32), g1)))
    else (
      (xgr g1 v0 [14] 29).bind fun x4 =>
      (xai g1 x4 100 v1).bind fun x5 =>
      some ((x5, g1))))
set_option maxHeartbeats 4000000 in
theorem ct_X8_paid {l : Launch} {D : XD} {v0 : Nat} {v1 : Int32} {h0 : AH} {a : Int32} {h1 : AH} (hF : fM_paid v0 v1 h0 = some (a, h1)) : XCt l D yX8_paid (ws_ yX8_paid cX8_paid 2 (some .int)) 1 22 [xR v0, xI v1] h0 (.inl (some (xI a))) h1 := by
  refine x_method (by decide) (Nat.le_of_ble_eq_true rfl) fun p e R s m args below meth c K hr hnm hex => ?_
  have K : XO p R s m args meth c D 2 h0 cX8_paid "FaceCoinsModel" 1 22 := K
  generalize hQ : XMQ below _ _ _ _ _ _ = Q
  refine (?_ : XF p l e R s m args below meth c D 2 h0 Q 0 [(0, xR v0), (1, xI v1)] [] h0 (fM_paid v0 v1 h0) (XEnd below s D h0 (fun v => .inl (some (xI v))) Q)) (a, h1) hF hQ.symm
  unfold fM_paid
  refine x_aload_n (pc' := 1) K 0 dX8_paid_0 rfl rfl ?_
  refine x_iconst (pc' := 2) (v := 0) K dX8_paid_1 rfl rfl ?_
  refine x_puti (pc' := 5) K fp_14_0 (Or.inl (K.2.2.2.2.1 _ q1312)) (fun _ h9 => h9) (Or.inl rfl) dX8_paid_2 rfl (fun g1 => ?_)
  refine x_aload_n (pc' := 6) K 0 dX8_paid_5 rfl rfl ?_
  refine x_geti (pc' := 9) K fg_14_32 (Or.inl (K.2.2.2.2.1 _ q1344)) (fun _ h9 => h9) dX8_paid_6 rfl (fun x2 => ?_)
  refine x_iconst (pc' := 10) (v := (-1)) K dX8_paid_9 rfl rfl ?_
  refine x_icmp_eq (tgt := 23) (pc' := 13) K dX8_paid_10 rfl (by decide) ?_ ?_
  · refine x_iconst (pc' := 24) (v := (-1)) K dX8_paid_23 rfl rfl ?_
    refine x_goto (tgt := 33) K dX8_paid_24 (by decide) ?_
    exact x_iret K rfl hr dX8_paid_33
  · refine x_iload_n (pc' := 14) K 1 dX8_paid_13 rfl rfl ?_
    refine x_iconst (pc' := 15) (v := 0) K dX8_paid_14 rfl rfl ?_
    refine x_bipush (pc' := 17) (v := 39) K dX8_paid_15 rfl (by decide) ?_
    refine x_cSO (pc' := 20) (As := [xI v1, xI (0 : Int32), xI (39 : Int32)]) (en := (fun v => some (xI v))) (rest := []) K (fun a hF => ct_X8_isIn hF) rfl q1552 q1553 q1554 q105 hy_X8_isIn (Nat.le_of_ble_eq_true rfl) (Nat.le_of_ble_eq_true rfl) (Nat.le_of_ble_eq_true rfl) dX8_paid_17 rfl (fun x3 => ?_)
    refine x_if_ne (tgt := 27) (pc' := 23) K dX8_paid_20 rfl (by decide) ?_ ?_
    · refine x_aload_n (pc' := 28) K 0 dX8_paid_27 rfl rfl ?_
      refine x_getr (pc' := 31) K fg_14_29 (Or.inl (K.2.2.2.2.1 _ q1341)) (fun _ h9 => h9) dX8_paid_28 rfl (fun x4 => ?_)
      refine x_iload_n (pc' := 32) K 1 dX8_paid_31 rfl rfl ?_
      refine x_iald (pc' := 33) K dX8_paid_32 rfl (fun x5 => ?_)
      exact x_iret K rfl hr dX8_paid_33
    · refine x_iconst (pc' := 24) (v := (-1)) K dX8_paid_23 rfl rfl ?_
      refine x_goto (tgt := 33) K dX8_paid_24 (by decide) ?_
      exact x_iret K rfl hr dX8_paid_33
/-! FaceCoinsModel.pay(IIII)V -/
noncomputable def fM_pay_l9 (v0 : Nat) (v1 : Int32) (v2 : Int32) (v3 : Int32) (v4 : Int32) (v5 : Int32) (v6 : Int32) (v7 : Int32) (g : AH) : Option ((Nat × Int32 × Int32 × Int32 × Int32 × Int32 × Int32 × Int32 × AH) ⊕ (Nat × Int32 × Int32 × Int32 × Int32 × Int32 × Int32 × AH)) :=
  (xgi g v0 [14] 31).bind fun x1 =>
  if x1 ≤ v7 then (
    some (Sum.inr (v0, v1, v2, v3, v4, v5, v6, g)))
  else (
    (xgr g v0 [14] 30).bind fun x2 =>
    (xai g x2 100 v7).bind fun x3 =>
    if x3 = 0 then (
      some (Sum.inl (v0, v1, v2, v3, v4, v5, v6, (v7 + 1), g)))
    else (
      (xgr g v0 [14] 27).bind fun x4 =>
      (xgr g v0 [14] 30).bind fun x5 =>
      (xai g x5 100 v7).bind fun x6 =>
      (xai g x4 100 (((6 : Int32) * v7) + x6)).bind fun x7 =>
      (xgr g v0 [14] 30).bind fun x8 =>
      (xai g x8 100 v7).bind fun x9 =>
      if x9 ≤ (1 : Int32) then (
        some (Sum.inl (v0, v1, v2, v3, v4, (v5 + 1), (v6 + x7), (v7 + 1), g)))
      else (
        (xgr g v0 [14] 26).bind fun x10 =>
        (xai g x10 100 v7).bind fun x11 =>
        (xgr g v0 [14] 30).bind fun x12 =>
        (xai g x12 100 v7).bind fun x13 =>
        xb2 (xck g v0 14 (fM_strike v0 x11 v1 (x13 - (2 : Int32)) ((-1) : Int32) (0 : Int32) g)) fun x_ g14 =>
        some (Sum.inl (v0, v1, v2, v3, v4, (v5 + 1), (v6 + x7), (v7 + 1), g14)))))
noncomputable def fM_pay_l100 (v0 : Nat) (v1 : Int32) (v2 : Int32) (v3 : Int32) (v4 : Int32) (v5 : Int32) (v6 : Int32) (v7 : Int32) (g : AH) : Option ((Nat × Int32 × Int32 × Int32 × Int32 × Int32 × Int32 × Int32 × AH) ⊕ (Nat × Int32 × Int32 × Int32 × Int32 × Int32 × Int32 × AH)) :=
  (xgi g v0 [14] 31).bind fun x15 =>
  if x15 ≤ v7 then (
    some (Sum.inr (v0, v1, v2, v3, v4, v5, v6, g)))
  else (
    (xgr g v0 [14] 30).bind fun x16 =>
    (xai g x16 100 v7).bind fun x17 =>
    if x17 = 0 then (
      some (Sum.inl (v0, v1, v2, v3, v4, v5, v6, (v7 + 1), g)))
    else (
      (xgr g v0 [14] 26).bind fun x18 =>
      (xai g x18 100 v7).bind fun x19 =>
      (xgr g v0 [14] 14).bind fun x20 =>
      (xai g x20 100 (113 : Int32)).bind fun x21 =>
      xb2 (xck g v0 14 (fM_strike v0 x19 v2 v3 x21 (0 : Int32) g)) fun x_ g22 =>
      (xgr g22 v0 [14] 14).bind fun x23 =>
      (xgr g22 v0 [14] 26).bind fun x24 =>
      (xai g22 x24 100 v7).bind fun x25 =>
      (xsi g22 x23 (((120 : Int32) + ((32 : Int32) * x25)) + (1 : Int32)) v2).bind fun g26 =>
      some (Sum.inl (v0, v1, v2, v3, v4, v5, v6, (v7 + 1), g26))))
noncomputable def fM_pay_a170 (v0 : Nat) (v1 : Int32) (v2 : Int32) (v3 : Int32) (v4 : Int32) (v5 : Int32) (v6 : Int32) (g : AH) : Option (Unit × AH) :=
  xb2 (xck g v0 14 (fM_keepSale v0 v1 v2 v3 v4 v5 v6 g)) fun x_ g27 =>
  some (((), g27))
noncomputable def fM_pay_a97 (v0 : Nat) (v1 : Int32) (v2 : Int32) (v3 : Int32) (v4 : Int32) (v5 : Int32) (v6 : Int32) (g : AH) : Option (Unit × AH) :=
  (xloop (fun s9 : (Nat × Int32 × Int32 × Int32 × Int32 × Int32 × Int32 × Int32 × AH) => fM_pay_l100 s9.1 s9.2.1 s9.2.2.1 s9.2.2.2.1 s9.2.2.2.2.1 s9.2.2.2.2.2.1 s9.2.2.2.2.2.2.1 s9.2.2.2.2.2.2.2.1 s9.2.2.2.2.2.2.2.2) (v0, v1, v2, v3, v4, v5, v6, (0 : Int32), g)).bind (fun r9 : (Nat × Int32 × Int32 × Int32 × Int32 × Int32 × Int32 × AH) => fM_pay_a170 r9.1 r9.2.1 r9.2.2.1 r9.2.2.2.1 r9.2.2.2.2.1 r9.2.2.2.2.2.1 r9.2.2.2.2.2.2.1 r9.2.2.2.2.2.2.2)
noncomputable def fM_pay (v0 : Nat) (v1 : Int32) (v2 : Int32) (v3 : Int32) (v4 : Int32) (h0 : AH) : Option (Unit × AH) :=
  (xloop (fun s9 : (Nat × Int32 × Int32 × Int32 × Int32 × Int32 × Int32 × Int32 × AH) => fM_pay_l9 s9.1 s9.2.1 s9.2.2.1 s9.2.2.2.1 s9.2.2.2.2.1 s9.2.2.2.2.2.1 s9.2.2.2.2.2.2.1 s9.2.2.2.2.2.2.2.1 s9.2.2.2.2.2.2.2.2) (v0, v1, v2, v3, v4, (0 : Int32), (0 : Int32), (0 : Int32), h0)).bind (fun r9 : (Nat × Int32 × Int32 × Int32 × Int32 × Int32 × Int32 × AH) => fM_pay_a97 r9.1 r9.2.1 r9.2.2.1 r9.2.2.2.1 r9.2.2.2.2.1 r9.2.2.2.2.2.1 r9.2.2.2.2.2.2.1 r9.2.2.2.2.2.2.2)
set_option maxHeartbeats 4000000 in
theorem ct_X8_pay {l : Launch} {D : XD} {v0 : Nat} {v1 : Int32} {v2 : Int32} {v3 : Int32} {v4 : Int32} {h0 : AH} {a : Unit} {h1 : AH} (hF : fM_pay v0 v1 v2 v3 v4 h0 = some (a, h1)) : XCt l D yX8_pay (ws_ yX8_pay cX8_pay 8 none) 2 54 [xR v0, xI v1, xI v2, xI v3, xI v4] h0 (.inl none) h1 := by
  refine x_method (by decide) (Nat.le_of_ble_eq_true rfl) fun p e R s m args below meth c K hr hnm hex => ?_
  have K : XO p R s m args meth c D 8 h0 cX8_pay "FaceCoinsModel" 2 54 := K
  generalize hQ : XMQ below _ _ _ _ _ _ = Q
  have hL9 : ∀ (C1 : ((Nat × Int32 × Int32 × Int32 × Int32 × Int32 × Int32 × Int32 × AH) ⊕ (Nat × Int32 × Int32 × Int32 × Int32 × Int32 × Int32 × AH)) → Prop) (hj1 : ∀ s9 : (Nat × Int32 × Int32 × Int32 × Int32 × Int32 × Int32 × Int32 × AH), C1 (Sum.inl s9) → XG p l e R s m args below meth c D 8 h0 Q 9 [(0, xR s9.1), (1, xI s9.2.1), (2, xI s9.2.2.1), (3, xI s9.2.2.2.1), (4, xI s9.2.2.2.2.1), (5, xI s9.2.2.2.2.2.1), (6, xI s9.2.2.2.2.2.2.1), (7, xI s9.2.2.2.2.2.2.2.1)] [] s9.2.2.2.2.2.2.2.2) (he1 : ∀ r9 : (Nat × Int32 × Int32 × Int32 × Int32 × Int32 × Int32 × AH), C1 (Sum.inr r9) → XG p l e R s m args below meth c D 8 h0 Q 97 [(0, xR r9.1), (1, xI r9.2.1), (2, xI r9.2.2.1), (3, xI r9.2.2.2.1), (4, xI r9.2.2.2.2.1), (5, xI r9.2.2.2.2.2.1), (6, xI r9.2.2.2.2.2.2.1)] [] r9.2.2.2.2.2.2.2) (v0 : Nat) (v1 : Int32) (v2 : Int32) (v3 : Int32) (v4 : Int32) (v5 : Int32) (v6 : Int32) (v7 : Int32) (g : AH), XF p l e R s m args below meth c D 8 h0 Q 9 [(0, xR v0), (1, xI v1), (2, xI v2), (3, xI v3), (4, xI v4), (5, xI v5), (6, xI v6), (7, xI v7)] [] g (fM_pay_l9 v0 v1 v2 v3 v4 v5 v6 v7 g) C1 := by
    intro C1 hj1 he1
    intro v0 v1 v2 v3 v4 v5 v6 v7 g
    unfold fM_pay_l9
    refine x_iload (pc' := 11) K 7 dX8_pay_9 rfl rfl ?_
    refine x_aload_n (pc' := 12) K 0 dX8_pay_11 rfl rfl ?_
    refine x_geti (pc' := 15) K fg_14_31 (Or.inl (K.2.2.2.2.1 _ q1343)) (fun _ h9 => h9) dX8_pay_12 rfl (fun x1 => ?_)
    refine x_icmp_ge (tgt := 97) (pc' := 18) K dX8_pay_15 rfl (by decide) ?_ ?_
    · refine x_sub (lv' := [(0, xR v0), (1, xI v1), (2, xI v2), (3, xI v3), (4, xI v4), (5, xI v5), (6, xI v6)]) [0, 1, 2, 3, 4, 5, 6] rfl ?_
      exact x_jump (fun hz => he1 (v0, v1, v2, v3, v4, v5, v6, g) hz)
    · refine x_aload_n (pc' := 19) K 0 dX8_pay_18 rfl rfl ?_
      refine x_getr (pc' := 22) K fg_14_30 (Or.inl (K.2.2.2.2.1 _ q1342)) (fun _ h9 => h9) dX8_pay_19 rfl (fun x2 => ?_)
      refine x_iload (pc' := 24) K 7 dX8_pay_22 rfl rfl ?_
      refine x_iald (pc' := 25) K dX8_pay_24 rfl (fun x3 => ?_)
      refine x_if_ne (tgt := 31) (pc' := 28) K dX8_pay_25 rfl (by decide) ?_ ?_
      · refine x_iinc (pc' := 34) (y := 1) (lv' := [(5, xI (v5 + 1)), (0, xR v0), (1, xI v1), (2, xI v2), (3, xI v3), (4, xI v4), (6, xI v6), (7, xI v7)]) K 5 dX8_pay_31 rfl rfl (by decide) (by decide) rfl ?_
        refine x_iload (pc' := 36) K 6 dX8_pay_34 rfl rfl ?_
        refine x_aload_n (pc' := 37) K 1 dX8_pay_36 rfl rfl ?_
        refine x_getr (pc' := 40) K fg_14_27 (Or.inl (K.2.2.2.2.1 _ q1339)) (fun _ h9 => h9) dX8_pay_37 rfl (fun x4 => ?_)
        refine x_bipush (pc' := 42) (v := 6) K dX8_pay_40 rfl (by decide) ?_
        refine x_iload (pc' := 44) K 7 dX8_pay_42 rfl rfl ?_
        refine x_imul (pc' := 45) K dX8_pay_44 rfl ?_
        refine x_aload_n (pc' := 46) K 1 dX8_pay_45 rfl rfl ?_
        refine x_getr (pc' := 49) K fg_14_30 (Or.inl (K.2.2.2.2.1 _ q1342)) (fun _ h9 => h9) dX8_pay_46 rfl (fun x5 => ?_)
        refine x_iload (pc' := 51) K 7 dX8_pay_49 rfl rfl ?_
        refine x_iald (pc' := 52) K dX8_pay_51 rfl (fun x6 => ?_)
        refine x_iadd (pc' := 53) K dX8_pay_52 rfl ?_
        refine x_iald (pc' := 54) K dX8_pay_53 rfl (fun x7 => ?_)
        refine x_iadd (pc' := 55) K dX8_pay_54 rfl ?_
        refine x_istore (pc' := 57) (lv' := [(6, xI (v6 + x7)), (5, xI (v5 + 1)), (0, xR v0), (1, xI v1), (2, xI v2), (3, xI v3), (4, xI v4), (7, xI v7)]) K dX8_pay_55 rfl (by decide) rfl ?_
        refine x_aload_n (pc' := 58) K 2 dX8_pay_57 rfl rfl ?_
        refine x_getr (pc' := 61) K fg_14_30 (Or.inl (K.2.2.2.2.1 _ q1342)) (fun _ h9 => h9) dX8_pay_58 rfl (fun x8 => ?_)
        refine x_iload (pc' := 63) K 7 dX8_pay_61 rfl rfl ?_
        refine x_iald (pc' := 64) K dX8_pay_63 rfl (fun x9 => ?_)
        refine x_iconst (pc' := 65) (v := 1) K dX8_pay_64 rfl rfl ?_
        refine x_icmp_le (tgt := 91) (pc' := 68) K dX8_pay_65 rfl (by decide) ?_ ?_
        · refine x_iinc (pc' := 94) (y := 1) (lv' := [(7, xI (v7 + 1)), (6, xI (v6 + x7)), (5, xI (v5 + 1)), (0, xR v0), (1, xI v1), (2, xI v2), (3, xI v3), (4, xI v4)]) K 7 dX8_pay_91 rfl rfl (by decide) (by decide) rfl ?_
          refine x_goto (tgt := 9) K dX8_pay_94 (by decide) ?_
          refine x_sub (lv' := [(0, xR v0), (1, xI v1), (2, xI v2), (3, xI v3), (4, xI v4), (5, xI (v5 + 1)), (6, xI (v6 + x7)), (7, xI (v7 + 1))]) [3, 4, 5, 6, 7, 2, 1, 0] rfl ?_
          exact x_jump (fun hz => hj1 (v0, v1, v2, v3, v4, (v5 + 1), (v6 + x7), (v7 + 1), g) hz)
        · refine x_aload_n (pc' := 69) K 2 dX8_pay_68 rfl rfl ?_
          refine x_aload_n (pc' := 70) K 2 dX8_pay_69 rfl rfl ?_
          refine x_getr (pc' := 73) K fg_14_26 (Or.inl (K.2.2.2.2.1 _ q1338)) (fun _ h9 => h9) dX8_pay_70 rfl (fun x10 => ?_)
          refine x_iload (pc' := 75) K 7 dX8_pay_73 rfl rfl ?_
          refine x_iald (pc' := 76) K dX8_pay_75 rfl (fun x11 => ?_)
          refine x_iload_n (pc' := 77) K 3 dX8_pay_76 rfl rfl ?_
          refine x_aload_n (pc' := 78) K 2 dX8_pay_77 rfl rfl ?_
          refine x_getr (pc' := 81) K fg_14_30 (Or.inl (K.2.2.2.2.1 _ q1342)) (fun _ h9 => h9) dX8_pay_78 rfl (fun x12 => ?_)
          refine x_iload (pc' := 83) K 7 dX8_pay_81 rfl rfl ?_
          refine x_iald (pc' := 84) K dX8_pay_83 rfl (fun x13 => ?_)
          refine x_iconst (pc' := 85) (v := 2) K dX8_pay_84 rfl rfl ?_
          refine x_isub (pc' := 86) K dX8_pay_85 rfl ?_
          refine x_iconst (pc' := 87) (v := (-1)) K dX8_pay_86 rfl rfl ?_
          refine x_iconst (pc' := 88) (v := 0) K dX8_pay_87 rfl rfl ?_
          refine x_cV (pc' := 91) (As := [xI x11, xI v1, xI (x13 - (2 : Int32)), xI ((-1) : Int32), xI (0 : Int32)]) (en := (fun _ => none)) (rest := []) K (fun a h1 hF => ct_X8_strike hF) rfl (by decide) q1646 q1648 qs63 q1649 q105 hy_X8_strike (Nat.le_of_ble_eq_true rfl) (Nat.le_of_ble_eq_true rfl) (Nat.le_of_ble_eq_true rfl) dX8_pay_88 rfl (fun x_ g14 => ?_)
          refine x_iinc (pc' := 94) (y := 1) (lv' := [(7, xI (v7 + 1)), (6, xI (v6 + x7)), (5, xI (v5 + 1)), (0, xR v0), (1, xI v1), (2, xI v2), (3, xI v3), (4, xI v4)]) K 7 dX8_pay_91 rfl rfl (by decide) (by decide) rfl ?_
          refine x_goto (tgt := 9) K dX8_pay_94 (by decide) ?_
          refine x_sub (lv' := [(0, xR v0), (1, xI v1), (2, xI v2), (3, xI v3), (4, xI v4), (5, xI (v5 + 1)), (6, xI (v6 + x7)), (7, xI (v7 + 1))]) [3, 4, 5, 6, 7, 2, 1, 0] rfl ?_
          exact x_jump (fun hz => hj1 (v0, v1, v2, v3, v4, (v5 + 1), (v6 + x7), (v7 + 1), g14) hz)
      · refine x_goto (tgt := 91) K dX8_pay_28 (by decide) ?_
        refine x_iinc (pc' := 94) (y := 1) (lv' := [(7, xI (v7 + 1)), (0, xR v0), (1, xI v1), (2, xI v2), (3, xI v3), (4, xI v4), (5, xI v5), (6, xI v6)]) K 7 dX8_pay_91 rfl rfl (by decide) (by decide) rfl ?_
        refine x_goto (tgt := 9) K dX8_pay_94 (by decide) ?_
        refine x_sub (lv' := [(0, xR v0), (1, xI v1), (2, xI v2), (3, xI v3), (4, xI v4), (5, xI v5), (6, xI v6), (7, xI (v7 + 1))]) [1, 2, 3, 4, 5, 6, 7, 0] rfl ?_
        exact x_jump (fun hz => hj1 (v0, v1, v2, v3, v4, v5, v6, (v7 + 1), g) hz)
  have hL100 : ∀ (C1 : ((Nat × Int32 × Int32 × Int32 × Int32 × Int32 × Int32 × Int32 × AH) ⊕ (Nat × Int32 × Int32 × Int32 × Int32 × Int32 × Int32 × AH)) → Prop) (hj1 : ∀ s9 : (Nat × Int32 × Int32 × Int32 × Int32 × Int32 × Int32 × Int32 × AH), C1 (Sum.inl s9) → XG p l e R s m args below meth c D 8 h0 Q 100 [(0, xR s9.1), (1, xI s9.2.1), (2, xI s9.2.2.1), (3, xI s9.2.2.2.1), (4, xI s9.2.2.2.2.1), (5, xI s9.2.2.2.2.2.1), (6, xI s9.2.2.2.2.2.2.1), (7, xI s9.2.2.2.2.2.2.2.1)] [] s9.2.2.2.2.2.2.2.2) (he1 : ∀ r9 : (Nat × Int32 × Int32 × Int32 × Int32 × Int32 × Int32 × AH), C1 (Sum.inr r9) → XG p l e R s m args below meth c D 8 h0 Q 170 [(0, xR r9.1), (1, xI r9.2.1), (2, xI r9.2.2.1), (3, xI r9.2.2.2.1), (4, xI r9.2.2.2.2.1), (5, xI r9.2.2.2.2.2.1), (6, xI r9.2.2.2.2.2.2.1)] [] r9.2.2.2.2.2.2.2) (v0 : Nat) (v1 : Int32) (v2 : Int32) (v3 : Int32) (v4 : Int32) (v5 : Int32) (v6 : Int32) (v7 : Int32) (g : AH), XF p l e R s m args below meth c D 8 h0 Q 100 [(0, xR v0), (1, xI v1), (2, xI v2), (3, xI v3), (4, xI v4), (5, xI v5), (6, xI v6), (7, xI v7)] [] g (fM_pay_l100 v0 v1 v2 v3 v4 v5 v6 v7 g) C1 := by
    intro C1 hj1 he1
    intro v0 v1 v2 v3 v4 v5 v6 v7 g
    unfold fM_pay_l100
    refine x_iload (pc' := 102) K 7 dX8_pay_100 rfl rfl ?_
    refine x_aload_n (pc' := 103) K 0 dX8_pay_102 rfl rfl ?_
    refine x_geti (pc' := 106) K fg_14_31 (Or.inl (K.2.2.2.2.1 _ q1343)) (fun _ h9 => h9) dX8_pay_103 rfl (fun x15 => ?_)
    refine x_icmp_ge (tgt := 170) (pc' := 109) K dX8_pay_106 rfl (by decide) ?_ ?_
    · refine x_sub (lv' := [(0, xR v0), (1, xI v1), (2, xI v2), (3, xI v3), (4, xI v4), (5, xI v5), (6, xI v6)]) [0, 1, 2, 3, 4, 5, 6] rfl ?_
      exact x_jump (fun hz => he1 (v0, v1, v2, v3, v4, v5, v6, g) hz)
    · refine x_aload_n (pc' := 110) K 0 dX8_pay_109 rfl rfl ?_
      refine x_getr (pc' := 113) K fg_14_30 (Or.inl (K.2.2.2.2.1 _ q1342)) (fun _ h9 => h9) dX8_pay_110 rfl (fun x16 => ?_)
      refine x_iload (pc' := 115) K 7 dX8_pay_113 rfl rfl ?_
      refine x_iald (pc' := 116) K dX8_pay_115 rfl (fun x17 => ?_)
      refine x_if_ne (tgt := 122) (pc' := 119) K dX8_pay_116 rfl (by decide) ?_ ?_
      · refine x_aload_n (pc' := 123) K 0 dX8_pay_122 rfl rfl ?_
        refine x_aload_n (pc' := 124) K 0 dX8_pay_123 rfl rfl ?_
        refine x_getr (pc' := 127) K fg_14_26 (Or.inl (K.2.2.2.2.1 _ q1338)) (fun _ h9 => h9) dX8_pay_124 rfl (fun x18 => ?_)
        refine x_iload (pc' := 129) K 7 dX8_pay_127 rfl rfl ?_
        refine x_iald (pc' := 130) K dX8_pay_129 rfl (fun x19 => ?_)
        refine x_iload_n (pc' := 131) K 2 dX8_pay_130 rfl rfl ?_
        refine x_iload_n (pc' := 132) K 3 dX8_pay_131 rfl rfl ?_
        refine x_aload_n (pc' := 133) K 0 dX8_pay_132 rfl rfl ?_
        refine x_getr (pc' := 136) K fg_14_14 (Or.inl (K.2.2.2.2.1 _ q1326)) (fun _ h9 => h9) dX8_pay_133 rfl (fun x20 => ?_)
        refine x_bipush (pc' := 138) (v := 113) K dX8_pay_136 rfl (by decide) ?_
        refine x_iald (pc' := 139) K dX8_pay_138 rfl (fun x21 => ?_)
        refine x_iconst (pc' := 140) (v := 0) K dX8_pay_139 rfl rfl ?_
        refine x_cV (pc' := 143) (As := [xI x19, xI v2, xI v3, xI x21, xI (0 : Int32)]) (en := (fun _ => none)) (rest := []) K (fun a h1 hF => ct_X8_strike hF) rfl (by decide) q1646 q1648 qs63 q1649 q105 hy_X8_strike (Nat.le_of_ble_eq_true rfl) (Nat.le_of_ble_eq_true rfl) (Nat.le_of_ble_eq_true rfl) dX8_pay_140 rfl (fun x_ g22 => ?_)
        refine x_aload_n (pc' := 144) K 0 dX8_pay_143 rfl rfl ?_
        refine x_getr (pc' := 147) K fg_14_14 (Or.inl (K.2.2.2.2.1 _ q1326)) (fun _ h9 => h9) dX8_pay_144 rfl (fun x23 => ?_)
        refine x_bipush (pc' := 149) (v := 120) K dX8_pay_147 rfl (by decide) ?_
        refine x_bipush (pc' := 151) (v := 32) K dX8_pay_149 rfl (by decide) ?_
        refine x_aload_n (pc' := 152) K 0 dX8_pay_151 rfl rfl ?_
        refine x_getr (pc' := 155) K fg_14_26 (Or.inl (K.2.2.2.2.1 _ q1338)) (fun _ h9 => h9) dX8_pay_152 rfl (fun x24 => ?_)
        refine x_iload (pc' := 157) K 7 dX8_pay_155 rfl rfl ?_
        refine x_iald (pc' := 158) K dX8_pay_157 rfl (fun x25 => ?_)
        refine x_imul (pc' := 159) K dX8_pay_158 rfl ?_
        refine x_iadd (pc' := 160) K dX8_pay_159 rfl ?_
        refine x_iconst (pc' := 161) (v := 1) K dX8_pay_160 rfl rfl ?_
        refine x_iadd (pc' := 162) K dX8_pay_161 rfl ?_
        refine x_iload_n (pc' := 163) K 2 dX8_pay_162 rfl rfl ?_
        refine x_iast (pc' := 164) K dX8_pay_163 rfl (fun g26 => ?_)
        refine x_iinc (pc' := 167) (y := 1) (lv' := [(7, xI (v7 + 1)), (0, xR v0), (1, xI v1), (2, xI v2), (3, xI v3), (4, xI v4), (5, xI v5), (6, xI v6)]) K 7 dX8_pay_164 rfl rfl (by decide) (by decide) rfl ?_
        refine x_goto (tgt := 100) K dX8_pay_167 (by decide) ?_
        refine x_sub (lv' := [(0, xR v0), (1, xI v1), (2, xI v2), (3, xI v3), (4, xI v4), (5, xI v5), (6, xI v6), (7, xI (v7 + 1))]) [1, 2, 3, 4, 5, 6, 7, 0] rfl ?_
        exact x_jump (fun hz => hj1 (v0, v1, v2, v3, v4, v5, v6, (v7 + 1), g26) hz)
      · refine x_goto (tgt := 164) K dX8_pay_119 (by decide) ?_
        refine x_iinc (pc' := 167) (y := 1) (lv' := [(7, xI (v7 + 1)), (0, xR v0), (1, xI v1), (2, xI v2), (3, xI v3), (4, xI v4), (5, xI v5), (6, xI v6)]) K 7 dX8_pay_164 rfl rfl (by decide) (by decide) rfl ?_
        refine x_goto (tgt := 100) K dX8_pay_167 (by decide) ?_
        refine x_sub (lv' := [(0, xR v0), (1, xI v1), (2, xI v2), (3, xI v3), (4, xI v4), (5, xI v5), (6, xI v6), (7, xI (v7 + 1))]) [1, 2, 3, 4, 5, 6, 7, 0] rfl ?_
        exact x_jump (fun hz => hj1 (v0, v1, v2, v3, v4, v5, v6, (v7 + 1), g) hz)
  have hA170_0 : ∀ (v0 : Nat) (v1 : Int32) (v2 : Int32) (v3 : Int32) (v4 : Int32) (v5 : Int32) (v6 : Int32) (g : AH), XF p l e R s m args below meth c D 8 h0 Q 170 [(0, xR v0), (1, xI v1), (2, xI v2), (3, xI v3), (4, xI v4), (5, xI v5), (6, xI v6)] [] g (fM_pay_a170 v0 v1 v2 v3 v4 v5 v6 g) (XEnd below s D h0 (fun _ => .inl none) Q) := by
    intro v0 v1 v2 v3 v4 v5 v6 g
    unfold fM_pay_a170
    refine x_aload_n (pc' := 171) K 0 dX8_pay_170 rfl rfl ?_
    refine x_iload_n (pc' := 172) K 1 dX8_pay_171 rfl rfl ?_
    refine x_iload_n (pc' := 173) K 2 dX8_pay_172 rfl rfl ?_
    refine x_iload_n (pc' := 174) K 3 dX8_pay_173 rfl rfl ?_
    refine x_iload (pc' := 176) K 4 dX8_pay_174 rfl rfl ?_
    refine x_iload (pc' := 178) K 5 dX8_pay_176 rfl rfl ?_
    refine x_iload (pc' := 180) K 6 dX8_pay_178 rfl rfl ?_
    refine x_cV (pc' := 183) (As := [xI v1, xI v2, xI v3, xI v4, xI v5, xI v6]) (en := (fun _ => none)) (rest := []) K (fun a h1 hF => ct_X8_keepSale hF) rfl (by decide) q1706 q1708 qs72 q1709 q105 hy_X8_keepSale (Nat.le_of_ble_eq_true rfl) (Nat.le_of_ble_eq_true rfl) (Nat.le_of_ble_eq_true rfl) dX8_pay_180 rfl (fun x_ g27 => ?_)
    exact x_vret K rfl hr dX8_pay_183
  have hA97_0 : ∀ (v0 : Nat) (v1 : Int32) (v2 : Int32) (v3 : Int32) (v4 : Int32) (v5 : Int32) (v6 : Int32) (g : AH), XF p l e R s m args below meth c D 8 h0 Q 97 [(0, xR v0), (1, xI v1), (2, xI v2), (3, xI v3), (4, xI v4), (5, xI v5), (6, xI v6)] [] g (fM_pay_a97 v0 v1 v2 v3 v4 v5 v6 g) (XEnd below s D h0 (fun _ => .inl none) Q) := by
    intro v0 v1 v2 v3 v4 v5 v6 g
    unfold fM_pay_a97
    refine x_iconst (pc' := 98) (v := 0) K dX8_pay_97 rfl rfl ?_
    refine x_istore (pc' := 100) (lv' := [(7, xI (0 : Int32)), (0, xR v0), (1, xI v1), (2, xI v2), (3, xI v3), (4, xI v4), (5, xI v5), (6, xI v6)]) K dX8_pay_98 rfl (by decide) rfl ?_
    refine x_sub (lv' := [(0, xR v0), (1, xI v1), (2, xI v2), (3, xI v3), (4, xI v4), (5, xI v5), (6, xI v6), (7, xI (0 : Int32))]) [1, 2, 3, 4, 5, 6, 7, 0] rfl ?_
    exact x_loop (pl := (fun s9 : (Nat × Int32 × Int32 × Int32 × Int32 × Int32 × Int32 × Int32 × AH) => [(0, xR s9.1), (1, xI s9.2.1), (2, xI s9.2.2.1), (3, xI s9.2.2.2.1), (4, xI s9.2.2.2.2.1), (5, xI s9.2.2.2.2.2.1), (6, xI s9.2.2.2.2.2.2.1), (7, xI s9.2.2.2.2.2.2.2.1)])) (ph := (fun s9 : (Nat × Int32 × Int32 × Int32 × Int32 × Int32 × Int32 × Int32 × AH) => s9.2.2.2.2.2.2.2.2)) (fun r9 : (Nat × Int32 × Int32 × Int32 × Int32 × Int32 × Int32 × AH) => XG p l e R s m args below meth c D 8 h0 Q 170 [(0, xR r9.1), (1, xI r9.2.1), (2, xI r9.2.2.1), (3, xI r9.2.2.2.1), (4, xI r9.2.2.2.2.1), (5, xI r9.2.2.2.2.2.1), (6, xI r9.2.2.2.2.2.2.1)] [] r9.2.2.2.2.2.2.2) (fun s9 => hL100 _ (fun _ hz => hz) (fun _ hz => hz) s9.1 s9.2.1 s9.2.2.1 s9.2.2.2.1 s9.2.2.2.2.1 s9.2.2.2.2.2.1 s9.2.2.2.2.2.2.1 s9.2.2.2.2.2.2.2.1 s9.2.2.2.2.2.2.2.2) (fun r9 x hx hc => hA170_0 r9.1 r9.2.1 r9.2.2.1 r9.2.2.2.1 r9.2.2.2.2.1 r9.2.2.2.2.2.1 r9.2.2.2.2.2.2.1 r9.2.2.2.2.2.2.2 x hx hc) (v0, v1, v2, v3, v4, v5, v6, (0 : Int32), g)
  refine (?_ : XF p l e R s m args below meth c D 8 h0 Q 0 [(0, xR v0), (1, xI v1), (2, xI v2), (3, xI v3), (4, xI v4)] [] h0 (fM_pay v0 v1 v2 v3 v4 h0) (XEnd below s D h0 (fun _ => .inl none) Q)) (a, h1) hF hQ.symm
  unfold fM_pay
  refine x_iconst (pc' := 1) (v := 0) K dX8_pay_0 rfl rfl ?_
  refine x_istore (pc' := 3) (lv' := [(5, xI (0 : Int32)), (0, xR v0), (1, xI v1), (2, xI v2), (3, xI v3), (4, xI v4)]) K dX8_pay_1 rfl (by decide) rfl ?_
  refine x_iconst (pc' := 4) (v := 0) K dX8_pay_3 rfl rfl ?_
  refine x_istore (pc' := 6) (lv' := [(6, xI (0 : Int32)), (5, xI (0 : Int32)), (0, xR v0), (1, xI v1), (2, xI v2), (3, xI v3), (4, xI v4)]) K dX8_pay_4 rfl (by decide) rfl ?_
  refine x_iconst (pc' := 7) (v := 0) K dX8_pay_6 rfl rfl ?_
  refine x_istore (pc' := 9) (lv' := [(7, xI (0 : Int32)), (6, xI (0 : Int32)), (5, xI (0 : Int32)), (0, xR v0), (1, xI v1), (2, xI v2), (3, xI v3), (4, xI v4)]) K dX8_pay_7 rfl (by decide) rfl ?_
  refine x_sub (lv' := [(0, xR v0), (1, xI v1), (2, xI v2), (3, xI v3), (4, xI v4), (5, xI (0 : Int32)), (6, xI (0 : Int32)), (7, xI (0 : Int32))]) [3, 4, 5, 6, 7, 2, 1, 0] rfl ?_
  exact x_loop (pl := (fun s9 : (Nat × Int32 × Int32 × Int32 × Int32 × Int32 × Int32 × Int32 × AH) => [(0, xR s9.1), (1, xI s9.2.1), (2, xI s9.2.2.1), (3, xI s9.2.2.2.1), (4, xI s9.2.2.2.2.1), (5, xI s9.2.2.2.2.2.1), (6, xI s9.2.2.2.2.2.2.1), (7, xI s9.2.2.2.2.2.2.2.1)])) (ph := (fun s9 : (Nat × Int32 × Int32 × Int32 × Int32 × Int32 × Int32 × Int32 × AH) => s9.2.2.2.2.2.2.2.2)) (fun r9 : (Nat × Int32 × Int32 × Int32 × Int32 × Int32 × Int32 × AH) => XG p l e R s m args below meth c D 8 h0 Q 97 [(0, xR r9.1), (1, xI r9.2.1), (2, xI r9.2.2.1), (3, xI r9.2.2.2.1), (4, xI r9.2.2.2.2.1), (5, xI r9.2.2.2.2.2.1), (6, xI r9.2.2.2.2.2.2.1)] [] r9.2.2.2.2.2.2.2) (fun s9 => hL9 _ (fun _ hz => hz) (fun _ hz => hz) s9.1 s9.2.1 s9.2.2.1 s9.2.2.2.1 s9.2.2.2.2.1 s9.2.2.2.2.2.1 s9.2.2.2.2.2.2.1 s9.2.2.2.2.2.2.2.1 s9.2.2.2.2.2.2.2.2) (fun r9 x hx hc => hA97_0 r9.1 r9.2.1 r9.2.2.1 r9.2.2.2.1 r9.2.2.2.2.1 r9.2.2.2.2.2.1 r9.2.2.2.2.2.2.1 r9.2.2.2.2.2.2.2 x hx hc) (v0, v1, v2, v3, v4, (0 : Int32), (0 : Int32), (0 : Int32), h0)
/-! FaceCoinsModel.strokesToPay()I -/
noncomputable def fM_strokesToPay_l4 (v0 : Nat) (v1 : Int32) (v2 : Int32) (h0 : AH) : Option ((Nat × Int32 × Int32) ⊕ Int32) :=
  (xgi h0 v0 [14] 31).bind fun x1 =>
  if x1 ≤ v2 then (
    some (Sum.inr v1))
  else (
    (xgr h0 v0 [14] 30).bind fun x2 =>
    (xai h0 x2 100 v2).bind fun x3 =>
    if x3 ≤ (1 : Int32) then (
      (xgr h0 v0 [14] 30).bind fun x4 =>
      (xai h0 x4 100 v2).bind fun x5 =>
      some (Sum.inl (v0, (v1 + x5), (v2 + 1))))
    else (
      some (Sum.inl (v0, (v1 + (2 : Int32)), (v2 + 1)))))
noncomputable def fM_strokesToPay_a41 (v1 : Int32) (h0 : AH) : Option Int32 :=
  some (v1)
noncomputable def fM_strokesToPay (v0 : Nat) (h0 : AH) : Option Int32 :=
  (xloop (fun s9 : (Nat × Int32 × Int32) => fM_strokesToPay_l4 s9.1 s9.2.1 s9.2.2 h0) (v0, (0 : Int32), (0 : Int32))).bind (fun r9 : Int32 => fM_strokesToPay_a41 r9 h0)
set_option maxHeartbeats 4000000 in
theorem ct_X8_strokesToPay {l : Launch} {D : XD} {v0 : Nat} {h0 : AH} {a : Int32} (hF : fM_strokesToPay v0 h0 = some a) : XCt l D yX8_strokesToPay (ws_ yX8_strokesToPay cX8_strokesToPay 3 (some .int)) 0 0 [xR v0] h0 (.inl (some (xI a))) h0 := by
  refine x_method (by decide) (Nat.le_of_ble_eq_true rfl) fun p e R s m args below meth c K hr hnm hex => ?_
  have K : XO p R s m args meth c D 3 h0 cX8_strokesToPay "FaceCoinsModel" 0 0 := K
  generalize hQ : XMQ below _ _ _ _ _ _ = Q
  have hL4 : ∀ (C1 : ((Nat × Int32 × Int32) ⊕ Int32) → Prop) (hj1 : ∀ s9 : (Nat × Int32 × Int32), C1 (Sum.inl s9) → XG p l e R s m args below meth c D 3 h0 Q 4 [(0, xR s9.1), (1, xI s9.2.1), (2, xI s9.2.2)] [] h0) (he1 : ∀ r9 : Int32, C1 (Sum.inr r9) → XG p l e R s m args below meth c D 3 h0 Q 41 [(1, xI r9)] [] h0) (v0 : Nat) (v1 : Int32) (v2 : Int32), XF p l e R s m args below meth c D 3 h0 Q 4 [(0, xR v0), (1, xI v1), (2, xI v2)] [] h0 (fM_strokesToPay_l4 v0 v1 v2 h0) C1 := by
    intro C1 hj1 he1
    intro v0 v1 v2
    unfold fM_strokesToPay_l4
    refine x_iload_n (pc' := 5) K 2 dX8_strokesToPay_4 rfl rfl ?_
    refine x_aload_n (pc' := 6) K 0 dX8_strokesToPay_5 rfl rfl ?_
    refine x_geti (pc' := 9) K fg_14_31 (Or.inl (K.2.2.2.2.1 _ q1343)) (fun _ h9 => h9) dX8_strokesToPay_6 rfl (fun x1 => ?_)
    refine x_icmp_ge (tgt := 41) (pc' := 12) K dX8_strokesToPay_9 rfl (by decide) ?_ ?_
    · refine x_sub (lv' := [(1, xI v1)]) [1] rfl ?_
      exact x_jump (fun hz => he1 v1 hz)
    · refine x_iload_n (pc' := 13) K 1 dX8_strokesToPay_12 rfl rfl ?_
      refine x_aload_n (pc' := 14) K 0 dX8_strokesToPay_13 rfl rfl ?_
      refine x_getr (pc' := 17) K fg_14_30 (Or.inl (K.2.2.2.2.1 _ q1342)) (fun _ h9 => h9) dX8_strokesToPay_14 rfl (fun x2 => ?_)
      refine x_iload_n (pc' := 18) K 2 dX8_strokesToPay_17 rfl rfl ?_
      refine x_iald (pc' := 19) K dX8_strokesToPay_18 rfl (fun x3 => ?_)
      refine x_iconst (pc' := 20) (v := 1) K dX8_strokesToPay_19 rfl rfl ?_
      refine x_icmp_le (tgt := 27) (pc' := 23) K dX8_strokesToPay_20 rfl (by decide) ?_ ?_
      · refine x_aload_n (pc' := 28) K 0 dX8_strokesToPay_27 rfl rfl ?_
        refine x_getr (pc' := 31) K fg_14_30 (Or.inl (K.2.2.2.2.1 _ q1342)) (fun _ h9 => h9) dX8_strokesToPay_28 rfl (fun x4 => ?_)
        refine x_iload_n (pc' := 32) K 2 dX8_strokesToPay_31 rfl rfl ?_
        refine x_iald (pc' := 33) K dX8_strokesToPay_32 rfl (fun x5 => ?_)
        refine x_iadd (pc' := 34) K dX8_strokesToPay_33 rfl ?_
        refine x_istore_n (pc' := 35) (lv' := [(1, xI (v1 + x5)), (0, xR v0), (2, xI v2)]) K dX8_strokesToPay_34 rfl (by decide) rfl ?_
        refine x_iinc (pc' := 38) (y := 1) (lv' := [(2, xI (v2 + 1)), (1, xI (v1 + x5)), (0, xR v0)]) K 2 dX8_strokesToPay_35 rfl rfl (by decide) (by decide) rfl ?_
        refine x_goto (tgt := 4) K dX8_strokesToPay_38 (by decide) ?_
        refine x_sub (lv' := [(0, xR v0), (1, xI (v1 + x5)), (2, xI (v2 + 1))]) [2, 1, 0] rfl ?_
        exact x_jump (fun hz => hj1 (v0, (v1 + x5), (v2 + 1)) hz)
      · refine x_iconst (pc' := 24) (v := 2) K dX8_strokesToPay_23 rfl rfl ?_
        refine x_goto (tgt := 33) K dX8_strokesToPay_24 (by decide) ?_
        refine x_iadd (pc' := 34) K dX8_strokesToPay_33 rfl ?_
        refine x_istore_n (pc' := 35) (lv' := [(1, xI (v1 + (2 : Int32))), (0, xR v0), (2, xI v2)]) K dX8_strokesToPay_34 rfl (by decide) rfl ?_
        refine x_iinc (pc' := 38) (y := 1) (lv' := [(2, xI (v2 + 1)), (1, xI (v1 + (2 : Int32))), (0, xR v0)]) K 2 dX8_strokesToPay_35 rfl rfl (by decide) (by decide) rfl ?_
        refine x_goto (tgt := 4) K dX8_strokesToPay_38 (by decide) ?_
        refine x_sub (lv' := [(0, xR v0), (1, xI (v1 + (2 : Int32))), (2, xI (v2 + 1))]) [2, 1, 0] rfl ?_
        exact x_jump (fun hz => hj1 (v0, (v1 + (2 : Int32)), (v2 + 1)) hz)
  have hA41_0 : ∀ (v1 : Int32), XF p l e R s m args below meth c D 3 h0 Q 41 [(1, xI v1)] [] h0 (fM_strokesToPay_a41 v1 h0) (fun z => XEnd below s D h0 (fun v => .inl (some (xI v))) Q (z, h0)) := by
    intro v1
    unfold fM_strokesToPay_a41
    refine x_iload_n (pc' := 42) K 0 dX8_strokesToPay_41 rfl rfl ?_
    exact x_ro (C9 := XEnd below s D h0 (fun v => .inl (some (xI v))) Q) (x_iret K rfl hr dX8_strokesToPay_42)
  refine (?_ : XF p l e R s m args below meth c D 3 h0 Q 0 [(0, xR v0)] [] h0 (fM_strokesToPay v0 h0) (fun z => XEnd below s D h0 (fun v => .inl (some (xI v))) Q (z, h0))) a hF hQ.symm
  unfold fM_strokesToPay
  refine x_iconst (pc' := 1) (v := 0) K dX8_strokesToPay_0 rfl rfl ?_
  refine x_istore_n (pc' := 2) (lv' := [(1, xI (0 : Int32)), (0, xR v0)]) K dX8_strokesToPay_1 rfl (by decide) rfl ?_
  refine x_iconst (pc' := 3) (v := 0) K dX8_strokesToPay_2 rfl rfl ?_
  refine x_istore_n (pc' := 4) (lv' := [(2, xI (0 : Int32)), (1, xI (0 : Int32)), (0, xR v0)]) K dX8_strokesToPay_3 rfl (by decide) rfl ?_
  refine x_sub (lv' := [(0, xR v0), (1, xI (0 : Int32)), (2, xI (0 : Int32))]) [2, 1, 0] rfl ?_
  exact x_loop (pl := (fun s9 : (Nat × Int32 × Int32) => [(0, xR s9.1), (1, xI s9.2.1), (2, xI s9.2.2)])) (ph := (fun s9 : (Nat × Int32 × Int32) => h0)) (fun r9 : Int32 => XG p l e R s m args below meth c D 3 h0 Q 41 [(1, xI r9)] [] h0) (fun s9 => hL4 _ (fun _ hz => hz) (fun _ hz => hz) s9.1 s9.2.1 s9.2.2) (fun r9 x hx hc => hA41_0 r9 x hx hc) (v0, (0 : Int32), (0 : Int32))
/-! FaceCoinsModel.buy(IIII)I -/
noncomputable def fM_buy (v0 : Nat) (v1 : Int32) (v2 : Int32) (v3 : Int32) (v4 : Int32) (h0 : AH) : Option (Int32 × AH) :=
  (xpi h0 v0 [14] 0 (0 : Int32)).bind fun g1 =>
  xb2 (xck g1 v0 14 (fM_lay v0 g1)) fun x_ g2 =>
  xb2 (xck g2 v0 14 (fM_layPayment v0 v1 v2 v3 v4 g2)) fun x3 g4 =>
  if 0 ≤ x3 then (
    xb2 (xck g4 v0 14 (fM_tellPaid v0 g4)) fun x_ g5 =>
    (xck g5 v0 14 (fM_strokesToPay v0 g5)).bind fun x6 =>
    (xck g5 v0 14 (fM_isFull v0 x6 g5)).bind fun x7 =>
    if x7 = 0 then (
      xb2 (xck g5 v0 14 (fM_snap v0 g5)) fun x_ g8 =>
      xb2 (xck g8 v0 14 (fM_pay v0 v1 v2 v3 v4 g8)) fun x_ g9 =>
      some ((x3, g9)))
    else (
      some ((((-1) : Int32), g5))))
  else (
    some ((x3, g4)))
set_option maxHeartbeats 4000000 in
theorem ct_X8_buy {l : Launch} {D : XD} {v0 : Nat} {v1 : Int32} {v2 : Int32} {v3 : Int32} {v4 : Int32} {h0 : AH} {a : Int32} {h1 : AH} (hF : fM_buy v0 v1 v2 v3 v4 h0 = some (a, h1)) : XCt l D yX8_buy (ws_ yX8_buy cX8_buy 6 (some .int)) 4 105 [xR v0, xI v1, xI v2, xI v3, xI v4] h0 (.inl (some (xI a))) h1 := by
  refine x_method (by decide) (Nat.le_of_ble_eq_true rfl) fun p e R s m args below meth c K hr hnm hex => ?_
  have K : XO p R s m args meth c D 6 h0 cX8_buy "FaceCoinsModel" 4 105 := K
  generalize hQ : XMQ below _ _ _ _ _ _ = Q
  refine (?_ : XF p l e R s m args below meth c D 6 h0 Q 0 [(0, xR v0), (1, xI v1), (2, xI v2), (3, xI v3), (4, xI v4)] [] h0 (fM_buy v0 v1 v2 v3 v4 h0) (XEnd below s D h0 (fun v => .inl (some (xI v))) Q)) (a, h1) hF hQ.symm
  unfold fM_buy
  refine x_aload_n (pc' := 1) K 0 dX8_buy_0 rfl rfl ?_
  refine x_iconst (pc' := 2) (v := 0) K dX8_buy_1 rfl rfl ?_
  refine x_puti (pc' := 5) K fp_14_0 (Or.inl (K.2.2.2.2.1 _ q1312)) (fun _ h9 => h9) (Or.inl rfl) dX8_buy_2 rfl (fun g1 => ?_)
  refine x_aload_n (pc' := 6) K 0 dX8_buy_5 rfl rfl ?_
  refine x_cV (pc' := 9) (As := []) (en := (fun _ => none)) (rest := []) K (fun a h1 hF => ct_X8_lay hF) rfl (by decide) q1479 q1481 qs31 q1482 q105 hy_X8_lay (Nat.le_of_ble_eq_true rfl) (Nat.le_of_ble_eq_true rfl) (Nat.le_of_ble_eq_true rfl) dX8_buy_6 rfl (fun x_ g2 => ?_)
  refine x_aload_n (pc' := 10) K 0 dX8_buy_9 rfl rfl ?_
  refine x_iload_n (pc' := 11) K 1 dX8_buy_10 rfl rfl ?_
  refine x_iload_n (pc' := 12) K 2 dX8_buy_11 rfl rfl ?_
  refine x_iload_n (pc' := 13) K 3 dX8_buy_12 rfl rfl ?_
  refine x_iload (pc' := 15) K 4 dX8_buy_13 rfl rfl ?_
  refine x_cV (pc' := 18) (As := [xI v1, xI v2, xI v3, xI v4]) (en := (fun v => some (xI v))) (rest := []) K (fun a h1 hF => ct_X8_layPayment hF) rfl (by decide) q1722 q1724 qs73 q1725 q105 hy_X8_layPayment (Nat.le_of_ble_eq_true rfl) (Nat.le_of_ble_eq_true rfl) (Nat.le_of_ble_eq_true rfl) dX8_buy_15 rfl (fun x3 g4 => ?_)
  refine x_istore (pc' := 20) (lv' := [(5, xI x3), (0, xR v0), (1, xI v1), (2, xI v2), (3, xI v3), (4, xI v4)]) K dX8_buy_18 rfl (by decide) rfl ?_
  refine x_iload (pc' := 22) K 0 dX8_buy_20 rfl rfl ?_
  refine x_if_ge (tgt := 28) (pc' := 25) K dX8_buy_22 rfl (by decide) ?_ ?_
  · refine x_aload_n (pc' := 29) K 1 dX8_buy_28 rfl rfl ?_
    refine x_cV (pc' := 32) (As := []) (en := (fun _ => none)) (rest := []) K (fun a h1 hF => ct_X8_tellPaid hF) rfl (by decide) q1739 q1741 qs77 q1742 q105 hy_X8_tellPaid (Nat.le_of_ble_eq_true rfl) (Nat.le_of_ble_eq_true rfl) (Nat.le_of_ble_eq_true rfl) dX8_buy_29 rfl (fun x_ g5 => ?_)
    refine x_aload_n (pc' := 33) K 1 dX8_buy_32 rfl rfl ?_
    refine x_aload_n (pc' := 34) K 1 dX8_buy_33 rfl rfl ?_
    refine x_cVO (pc' := 37) (As := []) (en := (fun v => some (xI v))) (rest := [xR v0]) K (fun a hF => ct_X8_strokesToPay hF) rfl (by decide) q1751 q1753 qs78 q1754 q105 hy_X8_strokesToPay (Nat.le_of_ble_eq_true rfl) (Nat.le_of_ble_eq_true rfl) (Nat.le_of_ble_eq_true rfl) dX8_buy_34 rfl (fun x6 => ?_)
    refine x_cVO (pc' := 40) (As := [xI x6]) (en := (fun v => some (xI v))) (rest := []) K (fun a hF => ct_X8_isFull hF) rfl (by decide) q1634 q1636 qs60 q1637 q105 hy_X8_isFull (Nat.le_of_ble_eq_true rfl) (Nat.le_of_ble_eq_true rfl) (Nat.le_of_ble_eq_true rfl) dX8_buy_37 rfl (fun x7 => ?_)
    refine x_if_eq (tgt := 45) (pc' := 43) K dX8_buy_40 rfl (by decide) ?_ ?_
    · refine x_aload_n (pc' := 46) K 1 dX8_buy_45 rfl rfl ?_
      refine x_cV (pc' := 49) (As := []) (en := (fun _ => none)) (rest := []) K (fun a h1 hF => ct_X8_snap hF) rfl (by decide) q1642 q1644 qs62 q1645 q105 hy_X8_snap (Nat.le_of_ble_eq_true rfl) (Nat.le_of_ble_eq_true rfl) (Nat.le_of_ble_eq_true rfl) dX8_buy_46 rfl (fun x_ g8 => ?_)
      refine x_aload_n (pc' := 50) K 1 dX8_buy_49 rfl rfl ?_
      refine x_iload_n (pc' := 51) K 2 dX8_buy_50 rfl rfl ?_
      refine x_iload_n (pc' := 52) K 3 dX8_buy_51 rfl rfl ?_
      refine x_iload_n (pc' := 53) K 4 dX8_buy_52 rfl rfl ?_
      refine x_iload (pc' := 55) K 5 dX8_buy_53 rfl rfl ?_
      refine x_cV (pc' := 58) (As := [xI v1, xI v2, xI v3, xI v4]) (en := (fun _ => none)) (rest := []) K (fun a h1 hF => ct_X8_pay hF) rfl (by decide) q1755 q1757 qs79 q1758 q105 hy_X8_pay (Nat.le_of_ble_eq_true rfl) (Nat.le_of_ble_eq_true rfl) (Nat.le_of_ble_eq_true rfl) dX8_buy_55 rfl (fun x_ g9 => ?_)
      refine x_iload (pc' := 60) K 0 dX8_buy_58 rfl rfl ?_
      exact x_iret K rfl hr dX8_buy_60
    · refine x_iconst (pc' := 44) (v := (-1)) K dX8_buy_43 rfl rfl ?_
      exact x_iret K rfl hr dX8_buy_44
  · refine x_iload (pc' := 27) K 0 dX8_buy_25 rfl rfl ?_
    exact x_iret K rfl hr dX8_buy_27
/-! FaceCoinsModel.steal(II)Z -/
noncomputable def fM_steal (v0 : Nat) (v1 : Int32) (v2 : Int32) (h0 : AH) : Option (Int32 × AH) :=
  (xpi h0 v0 [14] 0 (0 : Int32)).bind fun g1 =>
  xb2 (xck g1 v0 14 (fM_lay v0 g1)) fun x_ g2 =>
  (xck g2 v0 14 (fM_isWho v0 v1 g2)).bind fun x3 =>
  if x3 = 0 then (
    some (((0 : Int32), g2)))
  else (
    (xck g2 v0 14 (fM_isWho v0 v2 g2)).bind fun x4 =>
    if x4 = 0 then (
      some (((0 : Int32), g2)))
    else (
      (xck g2 v0 14 (fM_areUnfit v0 v1 v2 g2)).bind fun x5 =>
      if x5 = 0 then (
        (xgr g2 v0 [14] 14).bind fun x6 =>
        (xai g2 x6 100 (110 : Int32)).bind fun x7 =>
        if x7 = ((-1) : Int32) then (
          xb2 (xck g2 v0 14 (fM_snap v0 g2)) fun x_ g8 =>
          (xgr g8 v0 [14] 14).bind fun x9 =>
          (xsi g8 x9 (110 : Int32) v2).bind fun g10 =>
          (xgr g10 v0 [14] 14).bind fun x11 =>
          (xsi g10 x11 (111 : Int32) v1).bind fun g12 =>
          some (((1 : Int32), g12)))
        else (
          some (((0 : Int32), g2))))
      else (
        some (((0 : Int32), g2)))))
set_option maxHeartbeats 4000000 in
theorem ct_X8_steal {l : Launch} {D : XD} {v0 : Nat} {v1 : Int32} {v2 : Int32} {h0 : AH} {a : Int32} {h1 : AH} (hF : fM_steal v0 v1 v2 h0 = some (a, h1)) : XCt l D yX8_steal (ws_ yX8_steal cX8_steal 3 (some .boolean)) 2 44 [xR v0, xI v1, xI v2] h0 (.inl (some (xI a))) h1 := by
  refine x_method (by decide) (Nat.le_of_ble_eq_true rfl) fun p e R s m args below meth c K hr hnm hex => ?_
  have K : XO p R s m args meth c D 3 h0 cX8_steal "FaceCoinsModel" 2 44 := K
  generalize hQ : XMQ below _ _ _ _ _ _ = Q
  refine (?_ : XF p l e R s m args below meth c D 3 h0 Q 0 [(0, xR v0), (1, xI v1), (2, xI v2)] [] h0 (fM_steal v0 v1 v2 h0) (XEnd below s D h0 (fun v => .inl (some (xI v))) Q)) (a, h1) hF hQ.symm
  unfold fM_steal
  refine x_aload_n (pc' := 1) K 0 dX8_steal_0 rfl rfl ?_
  refine x_iconst (pc' := 2) (v := 0) K dX8_steal_1 rfl rfl ?_
  refine x_puti (pc' := 5) K fp_14_0 (Or.inl (K.2.2.2.2.1 _ q1312)) (fun _ h9 => h9) (Or.inl rfl) dX8_steal_2 rfl (fun g1 => ?_)
  refine x_aload_n (pc' := 6) K 0 dX8_steal_5 rfl rfl ?_
  refine x_cV (pc' := 9) (As := []) (en := (fun _ => none)) (rest := []) K (fun a h1 hF => ct_X8_lay hF) rfl (by decide) q1479 q1481 qs31 q1482 q105 hy_X8_lay (Nat.le_of_ble_eq_true rfl) (Nat.le_of_ble_eq_true rfl) (Nat.le_of_ble_eq_true rfl) dX8_steal_6 rfl (fun x_ g2 => ?_)
  refine x_aload_n (pc' := 10) K 0 dX8_steal_9 rfl rfl ?_
  refine x_iload_n (pc' := 11) K 1 dX8_steal_10 rfl rfl ?_
  refine x_cVO (pc' := 14) (As := [xI v1]) (en := (fun v => some (xI v))) (rest := []) K (fun a hF => ct_X8_isWho hF) rfl (by decide) q1586 q1588 qs50 q1589 q105 hy_X8_isWho (Nat.le_of_ble_eq_true rfl) (Nat.le_of_ble_eq_true rfl) (Nat.le_of_ble_eq_true rfl) dX8_steal_11 rfl (fun x3 => ?_)
  refine x_if_eq (tgt := 45) (pc' := 17) K dX8_steal_14 rfl (by decide) ?_ ?_
  · refine x_iconst (pc' := 46) (v := 0) K dX8_steal_45 rfl rfl ?_
    exact x_zret K (Or.inl rfl) rfl hr dX8_steal_46
  · refine x_aload_n (pc' := 18) K 0 dX8_steal_17 rfl rfl ?_
    refine x_iload_n (pc' := 19) K 2 dX8_steal_18 rfl rfl ?_
    refine x_cVO (pc' := 22) (As := [xI v2]) (en := (fun v => some (xI v))) (rest := []) K (fun a hF => ct_X8_isWho hF) rfl (by decide) q1586 q1588 qs50 q1589 q105 hy_X8_isWho (Nat.le_of_ble_eq_true rfl) (Nat.le_of_ble_eq_true rfl) (Nat.le_of_ble_eq_true rfl) dX8_steal_19 rfl (fun x4 => ?_)
    refine x_if_eq (tgt := 45) (pc' := 25) K dX8_steal_22 rfl (by decide) ?_ ?_
    · refine x_iconst (pc' := 46) (v := 0) K dX8_steal_45 rfl rfl ?_
      exact x_zret K (Or.inl rfl) rfl hr dX8_steal_46
    · refine x_aload_n (pc' := 26) K 0 dX8_steal_25 rfl rfl ?_
      refine x_iload_n (pc' := 27) K 1 dX8_steal_26 rfl rfl ?_
      refine x_iload_n (pc' := 28) K 2 dX8_steal_27 rfl rfl ?_
      refine x_cVO (pc' := 31) (As := [xI v1, xI v2]) (en := (fun v => some (xI v))) (rest := []) K (fun a hF => ct_X8_areUnfit hF) rfl (by decide) q1698 q1700 qs70 q1701 q105 hy_X8_areUnfit (Nat.le_of_ble_eq_true rfl) (Nat.le_of_ble_eq_true rfl) (Nat.le_of_ble_eq_true rfl) dX8_steal_28 rfl (fun x5 => ?_)
      refine x_if_ne (tgt := 45) (pc' := 34) K dX8_steal_31 rfl (by decide) ?_ ?_
      · refine x_iconst (pc' := 46) (v := 0) K dX8_steal_45 rfl rfl ?_
        exact x_zret K (Or.inl rfl) rfl hr dX8_steal_46
      · refine x_aload_n (pc' := 35) K 0 dX8_steal_34 rfl rfl ?_
        refine x_getr (pc' := 38) K fg_14_14 (Or.inl (K.2.2.2.2.1 _ q1326)) (fun _ h9 => h9) dX8_steal_35 rfl (fun x6 => ?_)
        refine x_bipush (pc' := 40) (v := 110) K dX8_steal_38 rfl (by decide) ?_
        refine x_iald (pc' := 41) K dX8_steal_40 rfl (fun x7 => ?_)
        refine x_iconst (pc' := 42) (v := (-1)) K dX8_steal_41 rfl rfl ?_
        refine x_icmp_eq (tgt := 47) (pc' := 45) K dX8_steal_42 rfl (by decide) ?_ ?_
        · refine x_aload_n (pc' := 48) K 0 dX8_steal_47 rfl rfl ?_
          refine x_cV (pc' := 51) (As := []) (en := (fun _ => none)) (rest := []) K (fun a h1 hF => ct_X8_snap hF) rfl (by decide) q1642 q1644 qs62 q1645 q105 hy_X8_snap (Nat.le_of_ble_eq_true rfl) (Nat.le_of_ble_eq_true rfl) (Nat.le_of_ble_eq_true rfl) dX8_steal_48 rfl (fun x_ g8 => ?_)
          refine x_aload_n (pc' := 52) K 0 dX8_steal_51 rfl rfl ?_
          refine x_getr (pc' := 55) K fg_14_14 (Or.inl (K.2.2.2.2.1 _ q1326)) (fun _ h9 => h9) dX8_steal_52 rfl (fun x9 => ?_)
          refine x_bipush (pc' := 57) (v := 110) K dX8_steal_55 rfl (by decide) ?_
          refine x_iload_n (pc' := 58) K 2 dX8_steal_57 rfl rfl ?_
          refine x_iast (pc' := 59) K dX8_steal_58 rfl (fun g10 => ?_)
          refine x_aload_n (pc' := 60) K 0 dX8_steal_59 rfl rfl ?_
          refine x_getr (pc' := 63) K fg_14_14 (Or.inl (K.2.2.2.2.1 _ q1326)) (fun _ h9 => h9) dX8_steal_60 rfl (fun x11 => ?_)
          refine x_bipush (pc' := 65) (v := 111) K dX8_steal_63 rfl (by decide) ?_
          refine x_iload_n (pc' := 66) K 1 dX8_steal_65 rfl rfl ?_
          refine x_iast (pc' := 67) K dX8_steal_66 rfl (fun g12 => ?_)
          refine x_iconst (pc' := 68) (v := 1) K dX8_steal_67 rfl rfl ?_
          exact x_zret K (Or.inr rfl) rfl hr dX8_steal_68
        · refine x_iconst (pc' := 46) (v := 0) K dX8_steal_45 rfl rfl ?_
          exact x_zret K (Or.inl rfl) rfl hr dX8_steal_46
/-! FaceCoinsModel.forge(II)I -/
noncomputable def fM_forge (v0 : Nat) (v1 : Int32) (v2 : Int32) (h0 : AH) : Option (Int32 × AH) :=
  (xpi h0 v0 [14] 0 (0 : Int32)).bind fun g1 =>
  xb2 (xck g1 v0 14 (fM_lay v0 g1)) fun x_ g2 =>
  (xck g2 v0 14 (fM_isCoin v0 v1 g2)).bind fun x3 =>
  if x3 = 0 then (
    some ((((-1) : Int32), g2)))
  else (
    (xck g2 v0 14 (fM_isMint v0 v2 g2)).bind fun x4 =>
    if x4 = 0 then (
      some ((((-1) : Int32), g2)))
    else (
      (xck g2 v0 14 (fM_isFull v0 (1 : Int32) g2)).bind fun x5 =>
      if x5 = 0 then (
        (xgr g2 v0 [14] 14).bind fun x6 =>
        (xai g2 x6 100 (110 : Int32)).bind fun x7 =>
        if x7 = ((-1) : Int32) then (
          some (((1 : Int32), g2)))
        else (
          (xck g2 v0 14 (fM_ofCoin v0 v1 (1 : Int32) g2)).bind fun x8 =>
          (xgr g2 v0 [14] 14).bind fun x9 =>
          (xai g2 x9 100 (111 : Int32)).bind fun x10 =>
          if x8 = x10 then (
            (xck g2 v0 14 (fM_wrongAt v0 v1 v2 g2)).bind fun x11 =>
            if x11 = 0 then (
              xb2 (xck g2 v0 14 (fM_snap v0 g2)) fun x_ g12 =>
              (xgr g12 v0 [14] 14).bind fun x13 =>
              (xai g12 x13 100 (110 : Int32)).bind fun x14 =>
              xb2 (xck g12 v0 14 (fM_strike v0 v1 x14 v2 ((-1) : Int32) (1 : Int32) g12)) fun x_ g15 =>
              some (((0 : Int32), g15)))
            else (
              some ((x11, g2))))
          else (
            some (((2 : Int32), g2)))))
      else (
        some ((((-1) : Int32), g2)))))
set_option maxHeartbeats 4000000 in
theorem ct_X8_forge {l : Launch} {D : XD} {v0 : Nat} {v1 : Int32} {v2 : Int32} {h0 : AH} {a : Int32} {h1 : AH} (hF : fM_forge v0 v1 v2 h0 = some (a, h1)) : XCt l D yX8_forge (ws_ yX8_forge cX8_forge 4 (some .int)) 3 67 [xR v0, xI v1, xI v2] h0 (.inl (some (xI a))) h1 := by
  refine x_method (by decide) (Nat.le_of_ble_eq_true rfl) fun p e R s m args below meth c K hr hnm hex => ?_
  have K : XO p R s m args meth c D 4 h0 cX8_forge "FaceCoinsModel" 3 67 := K
  generalize hQ : XMQ below _ _ _ _ _ _ = Q
  refine (?_ : XF p l e R s m args below meth c D 4 h0 Q 0 [(0, xR v0), (1, xI v1), (2, xI v2)] [] h0 (fM_forge v0 v1 v2 h0) (XEnd below s D h0 (fun v => .inl (some (xI v))) Q)) (a, h1) hF hQ.symm
  unfold fM_forge
  refine x_aload_n (pc' := 1) K 0 dX8_forge_0 rfl rfl ?_
  refine x_iconst (pc' := 2) (v := 0) K dX8_forge_1 rfl rfl ?_
  refine x_puti (pc' := 5) K fp_14_0 (Or.inl (K.2.2.2.2.1 _ q1312)) (fun _ h9 => h9) (Or.inl rfl) dX8_forge_2 rfl (fun g1 => ?_)
  refine x_aload_n (pc' := 6) K 0 dX8_forge_5 rfl rfl ?_
  refine x_cV (pc' := 9) (As := []) (en := (fun _ => none)) (rest := []) K (fun a h1 hF => ct_X8_lay hF) rfl (by decide) q1479 q1481 qs31 q1482 q105 hy_X8_lay (Nat.le_of_ble_eq_true rfl) (Nat.le_of_ble_eq_true rfl) (Nat.le_of_ble_eq_true rfl) dX8_forge_6 rfl (fun x_ g2 => ?_)
  refine x_aload_n (pc' := 10) K 0 dX8_forge_9 rfl rfl ?_
  refine x_iload_n (pc' := 11) K 1 dX8_forge_10 rfl rfl ?_
  refine x_cVO (pc' := 14) (As := [xI v1]) (en := (fun v => some (xI v))) (rest := []) K (fun a hF => ct_X8_isCoin hF) rfl (by decide) q1654 q1656 qs64 q1657 q105 hy_X8_isCoin (Nat.le_of_ble_eq_true rfl) (Nat.le_of_ble_eq_true rfl) (Nat.le_of_ble_eq_true rfl) dX8_forge_11 rfl (fun x3 => ?_)
  refine x_if_eq (tgt := 33) (pc' := 17) K dX8_forge_14 rfl (by decide) ?_ ?_
  · refine x_iconst (pc' := 34) (v := (-1)) K dX8_forge_33 rfl rfl ?_
    exact x_iret K rfl hr dX8_forge_34
  · refine x_aload_n (pc' := 18) K 0 dX8_forge_17 rfl rfl ?_
    refine x_iload_n (pc' := 19) K 2 dX8_forge_18 rfl rfl ?_
    refine x_cVO (pc' := 22) (As := [xI v2]) (en := (fun v => some (xI v))) (rest := []) K (fun a hF => ct_X8_isMint hF) rfl (by decide) q1618 q1620 qs57 q1621 q105 hy_X8_isMint (Nat.le_of_ble_eq_true rfl) (Nat.le_of_ble_eq_true rfl) (Nat.le_of_ble_eq_true rfl) dX8_forge_19 rfl (fun x4 => ?_)
    refine x_if_eq (tgt := 33) (pc' := 25) K dX8_forge_22 rfl (by decide) ?_ ?_
    · refine x_iconst (pc' := 34) (v := (-1)) K dX8_forge_33 rfl rfl ?_
      exact x_iret K rfl hr dX8_forge_34
    · refine x_aload_n (pc' := 26) K 0 dX8_forge_25 rfl rfl ?_
      refine x_iconst (pc' := 27) (v := 1) K dX8_forge_26 rfl rfl ?_
      refine x_cVO (pc' := 30) (As := [xI (1 : Int32)]) (en := (fun v => some (xI v))) (rest := []) K (fun a hF => ct_X8_isFull hF) rfl (by decide) q1634 q1636 qs60 q1637 q105 hy_X8_isFull (Nat.le_of_ble_eq_true rfl) (Nat.le_of_ble_eq_true rfl) (Nat.le_of_ble_eq_true rfl) dX8_forge_27 rfl (fun x5 => ?_)
      refine x_if_eq (tgt := 35) (pc' := 33) K dX8_forge_30 rfl (by decide) ?_ ?_
      · refine x_aload_n (pc' := 36) K 0 dX8_forge_35 rfl rfl ?_
        refine x_getr (pc' := 39) K fg_14_14 (Or.inl (K.2.2.2.2.1 _ q1326)) (fun _ h9 => h9) dX8_forge_36 rfl (fun x6 => ?_)
        refine x_bipush (pc' := 41) (v := 110) K dX8_forge_39 rfl (by decide) ?_
        refine x_iald (pc' := 42) K dX8_forge_41 rfl (fun x7 => ?_)
        refine x_iconst (pc' := 43) (v := (-1)) K dX8_forge_42 rfl rfl ?_
        refine x_icmp_ne (tgt := 48) (pc' := 46) K dX8_forge_43 rfl (by decide) ?_ ?_
        · refine x_aload_n (pc' := 49) K 0 dX8_forge_48 rfl rfl ?_
          refine x_iload_n (pc' := 50) K 1 dX8_forge_49 rfl rfl ?_
          refine x_iconst (pc' := 51) (v := 1) K dX8_forge_50 rfl rfl ?_
          refine x_cVO (pc' := 54) (As := [xI v1, xI (1 : Int32)]) (en := (fun v => some (xI v))) (rest := []) K (fun a hF => ct_X8_ofCoin hF) rfl (by decide) q1610 q1612 qs56 q1613 q105 hy_X8_ofCoin (Nat.le_of_ble_eq_true rfl) (Nat.le_of_ble_eq_true rfl) (Nat.le_of_ble_eq_true rfl) dX8_forge_51 rfl (fun x8 => ?_)
          refine x_aload_n (pc' := 55) K 0 dX8_forge_54 rfl rfl ?_
          refine x_getr (pc' := 58) K fg_14_14 (Or.inl (K.2.2.2.2.1 _ q1326)) (fun _ h9 => h9) dX8_forge_55 rfl (fun x9 => ?_)
          refine x_bipush (pc' := 60) (v := 111) K dX8_forge_58 rfl (by decide) ?_
          refine x_iald (pc' := 61) K dX8_forge_60 rfl (fun x10 => ?_)
          refine x_icmp_eq (tgt := 66) (pc' := 64) K dX8_forge_61 rfl (by decide) ?_ ?_
          · refine x_aload_n (pc' := 67) K 0 dX8_forge_66 rfl rfl ?_
            refine x_iload_n (pc' := 68) K 1 dX8_forge_67 rfl rfl ?_
            refine x_iload_n (pc' := 69) K 2 dX8_forge_68 rfl rfl ?_
            refine x_cVO (pc' := 72) (As := [xI v1, xI v2]) (en := (fun v => some (xI v))) (rest := []) K (fun a hF => ct_X8_wrongAt hF) rfl (by decide) q1702 q1704 qs71 q1705 q105 hy_X8_wrongAt (Nat.le_of_ble_eq_true rfl) (Nat.le_of_ble_eq_true rfl) (Nat.le_of_ble_eq_true rfl) dX8_forge_69 rfl (fun x11 => ?_)
            refine x_istore_n (pc' := 73) (lv' := [(3, xI x11), (0, xR v0), (1, xI v1), (2, xI v2)]) K dX8_forge_72 rfl (by decide) rfl ?_
            refine x_iload_n (pc' := 74) K 0 dX8_forge_73 rfl rfl ?_
            refine x_if_eq (tgt := 79) (pc' := 77) K dX8_forge_74 rfl (by decide) ?_ ?_
            · refine x_aload_n (pc' := 80) K 1 dX8_forge_79 rfl rfl ?_
              refine x_cV (pc' := 83) (As := []) (en := (fun _ => none)) (rest := []) K (fun a h1 hF => ct_X8_snap hF) rfl (by decide) q1642 q1644 qs62 q1645 q105 hy_X8_snap (Nat.le_of_ble_eq_true rfl) (Nat.le_of_ble_eq_true rfl) (Nat.le_of_ble_eq_true rfl) dX8_forge_80 rfl (fun x_ g12 => ?_)
              refine x_aload_n (pc' := 84) K 1 dX8_forge_83 rfl rfl ?_
              refine x_iload_n (pc' := 85) K 2 dX8_forge_84 rfl rfl ?_
              refine x_aload_n (pc' := 86) K 1 dX8_forge_85 rfl rfl ?_
              refine x_getr (pc' := 89) K fg_14_14 (Or.inl (K.2.2.2.2.1 _ q1326)) (fun _ h9 => h9) dX8_forge_86 rfl (fun x13 => ?_)
              refine x_bipush (pc' := 91) (v := 110) K dX8_forge_89 rfl (by decide) ?_
              refine x_iald (pc' := 92) K dX8_forge_91 rfl (fun x14 => ?_)
              refine x_iload_n (pc' := 93) K 3 dX8_forge_92 rfl rfl ?_
              refine x_iconst (pc' := 94) (v := (-1)) K dX8_forge_93 rfl rfl ?_
              refine x_iconst (pc' := 95) (v := 1) K dX8_forge_94 rfl rfl ?_
              refine x_cV (pc' := 98) (As := [xI v1, xI x14, xI v2, xI ((-1) : Int32), xI (1 : Int32)]) (en := (fun _ => none)) (rest := []) K (fun a h1 hF => ct_X8_strike hF) rfl (by decide) q1646 q1648 qs63 q1649 q105 hy_X8_strike (Nat.le_of_ble_eq_true rfl) (Nat.le_of_ble_eq_true rfl) (Nat.le_of_ble_eq_true rfl) dX8_forge_95 rfl (fun x_ g15 => ?_)
              refine x_iconst (pc' := 99) (v := 0) K dX8_forge_98 rfl rfl ?_
              exact x_iret K rfl hr dX8_forge_99
            · refine x_iload_n (pc' := 78) K 0 dX8_forge_77 rfl rfl ?_
              exact x_iret K rfl hr dX8_forge_78
          · refine x_iconst (pc' := 65) (v := 2) K dX8_forge_64 rfl rfl ?_
            exact x_iret K rfl hr dX8_forge_65
        · refine x_iconst (pc' := 47) (v := 1) K dX8_forge_46 rfl rfl ?_
          exact x_iret K rfl hr dX8_forge_47
      · refine x_iconst (pc' := 34) (v := (-1)) K dX8_forge_33 rfl rfl ?_
        exact x_iret K rfl hr dX8_forge_34
/-! FaceCoinsModel.giveBack()V -/
noncomputable def fM_giveBack (v0 : Nat) (h0 : AH) : Option (Unit × AH) :=
  (xgr h0 v0 [14] 14).bind fun x1 =>
  (xsi h0 x1 (110 : Int32) ((-1) : Int32)).bind fun g2 =>
  (xgr g2 v0 [14] 14).bind fun x3 =>
  (xsi g2 x3 (111 : Int32) ((-1) : Int32)).bind fun g4 =>
  some (((), g4))
set_option maxHeartbeats 4000000 in
theorem ct_X8_giveBack {l : Launch} {D : XD} {v0 : Nat} {h0 : AH} {a : Unit} {h1 : AH} (hF : fM_giveBack v0 h0 = some (a, h1)) : XCt l D yX8_giveBack (ws_ yX8_giveBack cX8_giveBack 1 none) 0 0 [xR v0] h0 (.inl none) h1 := by
  refine x_method (by decide) (Nat.le_of_ble_eq_true rfl) fun p e R s m args below meth c K hr hnm hex => ?_
  have K : XO p R s m args meth c D 1 h0 cX8_giveBack "FaceCoinsModel" 0 0 := K
  generalize hQ : XMQ below _ _ _ _ _ _ = Q
  refine (?_ : XF p l e R s m args below meth c D 1 h0 Q 0 [(0, xR v0)] [] h0 (fM_giveBack v0 h0) (XEnd below s D h0 (fun _ => .inl none) Q)) (a, h1) hF hQ.symm
  unfold fM_giveBack
  refine x_aload_n (pc' := 1) K 0 dX8_giveBack_0 rfl rfl ?_
  refine x_getr (pc' := 4) K fg_14_14 (Or.inl (K.2.2.2.2.1 _ q1326)) (fun _ h9 => h9) dX8_giveBack_1 rfl (fun x1 => ?_)
  refine x_bipush (pc' := 6) (v := 110) K dX8_giveBack_4 rfl (by decide) ?_
  refine x_iconst (pc' := 7) (v := (-1)) K dX8_giveBack_6 rfl rfl ?_
  refine x_iast (pc' := 8) K dX8_giveBack_7 rfl (fun g2 => ?_)
  refine x_aload_n (pc' := 9) K 0 dX8_giveBack_8 rfl rfl ?_
  refine x_getr (pc' := 12) K fg_14_14 (Or.inl (K.2.2.2.2.1 _ q1326)) (fun _ h9 => h9) dX8_giveBack_9 rfl (fun x3 => ?_)
  refine x_bipush (pc' := 14) (v := 111) K dX8_giveBack_12 rfl (by decide) ?_
  refine x_iconst (pc' := 15) (v := (-1)) K dX8_giveBack_14 rfl rfl ?_
  refine x_iast (pc' := 16) K dX8_giveBack_15 rfl (fun g4 => ?_)
  exact x_vret K rfl hr dX8_giveBack_16
/-! FaceCoinsModel.day()I -/
noncomputable def fM_day (v0 : Nat) (h0 : AH) : Option (Int32 × AH) :=
  (xpi h0 v0 [14] 0 (0 : Int32)).bind fun g1 =>
  xb2 (xck g1 v0 14 (fM_lay v0 g1)) fun x_ g2 =>
  (xgr g2 v0 [14] 14).bind fun x3 =>
  (xai g2 x3 100 (109 : Int32)).bind fun x4 =>
  if x4 = (9999 : Int32) then (
    some ((((-1) : Int32), g2)))
  else (
    xb2 (xck g2 v0 14 (fM_snap v0 g2)) fun x_ g5 =>
    (xgr g5 v0 [14] 14).bind fun x6 =>
    (xai g5 x6 100 (109 : Int32)).bind fun x7 =>
    (xsi g5 x6 (109 : Int32) (x7 + (1 : Int32))).bind fun g8 =>
    xb2 (xck g8 v0 14 (fM_giveBack v0 g8)) fun x_ g9 =>
    (xgr g9 v0 [14] 14).bind fun x10 =>
    (xai g9 x10 100 (109 : Int32)).bind fun x11 =>
    some ((x11, g9)))
set_option maxHeartbeats 4000000 in
theorem ct_X8_day {l : Launch} {D : XD} {v0 : Nat} {h0 : AH} {a : Int32} {h1 : AH} (hF : fM_day v0 h0 = some (a, h1)) : XCt l D yX8_day (ws_ yX8_day cX8_day 1 (some .int)) 2 41 [xR v0] h0 (.inl (some (xI a))) h1 := by
  refine x_method (by decide) (Nat.le_of_ble_eq_true rfl) fun p e R s m args below meth c K hr hnm hex => ?_
  have K : XO p R s m args meth c D 1 h0 cX8_day "FaceCoinsModel" 2 41 := K
  generalize hQ : XMQ below _ _ _ _ _ _ = Q
  refine (?_ : XF p l e R s m args below meth c D 1 h0 Q 0 [(0, xR v0)] [] h0 (fM_day v0 h0) (XEnd below s D h0 (fun v => .inl (some (xI v))) Q)) (a, h1) hF hQ.symm
  unfold fM_day
  refine x_aload_n (pc' := 1) K 0 dX8_day_0 rfl rfl ?_
  refine x_iconst (pc' := 2) (v := 0) K dX8_day_1 rfl rfl ?_
  refine x_puti (pc' := 5) K fp_14_0 (Or.inl (K.2.2.2.2.1 _ q1312)) (fun _ h9 => h9) (Or.inl rfl) dX8_day_2 rfl (fun g1 => ?_)
  refine x_aload_n (pc' := 6) K 0 dX8_day_5 rfl rfl ?_
  refine x_cV (pc' := 9) (As := []) (en := (fun _ => none)) (rest := []) K (fun a h1 hF => ct_X8_lay hF) rfl (by decide) q1479 q1481 qs31 q1482 q105 hy_X8_lay (Nat.le_of_ble_eq_true rfl) (Nat.le_of_ble_eq_true rfl) (Nat.le_of_ble_eq_true rfl) dX8_day_6 rfl (fun x_ g2 => ?_)
  refine x_aload_n (pc' := 10) K 0 dX8_day_9 rfl rfl ?_
  refine x_getr (pc' := 13) K fg_14_14 (Or.inl (K.2.2.2.2.1 _ q1326)) (fun _ h9 => h9) dX8_day_10 rfl (fun x3 => ?_)
  refine x_bipush (pc' := 15) (v := 109) K dX8_day_13 rfl (by decide) ?_
  refine x_iald (pc' := 16) K dX8_day_15 rfl (fun x4 => ?_)
  refine x_sipush (pc' := 19) (v := 9999) K dX8_day_16 rfl (by decide) ?_
  refine x_icmp_ne (tgt := 24) (pc' := 22) K dX8_day_19 rfl (by decide) ?_ ?_
  · refine x_aload_n (pc' := 25) K 0 dX8_day_24 rfl rfl ?_
    refine x_cV (pc' := 28) (As := []) (en := (fun _ => none)) (rest := []) K (fun a h1 hF => ct_X8_snap hF) rfl (by decide) q1642 q1644 qs62 q1645 q105 hy_X8_snap (Nat.le_of_ble_eq_true rfl) (Nat.le_of_ble_eq_true rfl) (Nat.le_of_ble_eq_true rfl) dX8_day_25 rfl (fun x_ g5 => ?_)
    refine x_aload_n (pc' := 29) K 0 dX8_day_28 rfl rfl ?_
    refine x_getr (pc' := 32) K fg_14_14 (Or.inl (K.2.2.2.2.1 _ q1326)) (fun _ h9 => h9) dX8_day_29 rfl (fun x6 => ?_)
    refine x_bipush (pc' := 34) (v := 109) K dX8_day_32 rfl (by decide) ?_
    refine x_dup2 (pc' := 35) K dX8_day_34 rfl rfl rfl ?_
    refine x_iald (pc' := 36) K dX8_day_35 rfl (fun x7 => ?_)
    refine x_iconst (pc' := 37) (v := 1) K dX8_day_36 rfl rfl ?_
    refine x_iadd (pc' := 38) K dX8_day_37 rfl ?_
    refine x_iast (pc' := 39) K dX8_day_38 rfl (fun g8 => ?_)
    refine x_aload_n (pc' := 40) K 0 dX8_day_39 rfl rfl ?_
    refine x_cV (pc' := 43) (As := []) (en := (fun _ => none)) (rest := []) K (fun a h1 hF => ct_X8_giveBack hF) rfl (by decide) q1771 q1773 qs80 q1774 q105 hy_X8_giveBack (Nat.le_of_ble_eq_true rfl) (Nat.le_of_ble_eq_true rfl) (Nat.le_of_ble_eq_true rfl) dX8_day_40 rfl (fun x_ g9 => ?_)
    refine x_aload_n (pc' := 44) K 0 dX8_day_43 rfl rfl ?_
    refine x_getr (pc' := 47) K fg_14_14 (Or.inl (K.2.2.2.2.1 _ q1326)) (fun _ h9 => h9) dX8_day_44 rfl (fun x10 => ?_)
    refine x_bipush (pc' := 49) (v := 109) K dX8_day_47 rfl (by decide) ?_
    refine x_iald (pc' := 50) K dX8_day_49 rfl (fun x11 => ?_)
    exact x_iret K rfl hr dX8_day_50
  · refine x_iconst (pc' := 23) (v := (-1)) K dX8_day_22 rfl rfl ?_
    exact x_iret K rfl hr dX8_day_23
/-! FaceCoinsModel.rob(II)Z -/
noncomputable def fM_rob (v0 : Nat) (v1 : Int32) (v2 : Int32) (h0 : AH) : Option (Int32 × AH) :=
  (xpi h0 v0 [14] 0 (0 : Int32)).bind fun g1 =>
  xb2 (xck g1 v0 14 (fM_lay v0 g1)) fun x_ g2 =>
  (xck g2 v0 14 (fM_isWho v0 v1 g2)).bind fun x3 =>
  if x3 = 0 then (
    some (((0 : Int32), g2)))
  else (
    (xck g2 v0 14 (fM_isCoin v0 v2 g2)).bind fun x4 =>
    if x4 = 0 then (
      some (((0 : Int32), g2)))
    else (
      (xck g2 v0 14 (fM_ofCoin v0 v2 (1 : Int32) g2)).bind fun x5 =>
      if x5 = v1 then (
        some (((0 : Int32), g2)))
      else (
        (xck g2 v0 14 (fM_ofWho v0 v1 (2 : Int32) g2)).bind fun x6 =>
        if x6 ≤ 0 then (
          xb2 (xck g2 v0 14 (fM_snap v0 g2)) fun x_ g7 =>
          (xgr g7 v0 [14] 14).bind fun x8 =>
          (xsi g7 x8 (((120 : Int32) + ((32 : Int32) * v2)) + (1 : Int32)) v1).bind fun g9 =>
          some (((1 : Int32), g9)))
        else (
          some (((0 : Int32), g2))))))
set_option maxHeartbeats 4000000 in
theorem ct_X8_rob {l : Launch} {D : XD} {v0 : Nat} {v1 : Int32} {v2 : Int32} {h0 : AH} {a : Int32} {h1 : AH} (hF : fM_rob v0 v1 v2 h0 = some (a, h1)) : XCt l D yX8_rob (ws_ yX8_rob cX8_rob 3 (some .boolean)) 2 41 [xR v0, xI v1, xI v2] h0 (.inl (some (xI a))) h1 := by
  refine x_method (by decide) (Nat.le_of_ble_eq_true rfl) fun p e R s m args below meth c K hr hnm hex => ?_
  have K : XO p R s m args meth c D 3 h0 cX8_rob "FaceCoinsModel" 2 41 := K
  generalize hQ : XMQ below _ _ _ _ _ _ = Q
  refine (?_ : XF p l e R s m args below meth c D 3 h0 Q 0 [(0, xR v0), (1, xI v1), (2, xI v2)] [] h0 (fM_rob v0 v1 v2 h0) (XEnd below s D h0 (fun v => .inl (some (xI v))) Q)) (a, h1) hF hQ.symm
  unfold fM_rob
  refine x_aload_n (pc' := 1) K 0 dX8_rob_0 rfl rfl ?_
  refine x_iconst (pc' := 2) (v := 0) K dX8_rob_1 rfl rfl ?_
  refine x_puti (pc' := 5) K fp_14_0 (Or.inl (K.2.2.2.2.1 _ q1312)) (fun _ h9 => h9) (Or.inl rfl) dX8_rob_2 rfl (fun g1 => ?_)
  refine x_aload_n (pc' := 6) K 0 dX8_rob_5 rfl rfl ?_
  refine x_cV (pc' := 9) (As := []) (en := (fun _ => none)) (rest := []) K (fun a h1 hF => ct_X8_lay hF) rfl (by decide) q1479 q1481 qs31 q1482 q105 hy_X8_lay (Nat.le_of_ble_eq_true rfl) (Nat.le_of_ble_eq_true rfl) (Nat.le_of_ble_eq_true rfl) dX8_rob_6 rfl (fun x_ g2 => ?_)
  refine x_aload_n (pc' := 10) K 0 dX8_rob_9 rfl rfl ?_
  refine x_iload_n (pc' := 11) K 1 dX8_rob_10 rfl rfl ?_
  refine x_cVO (pc' := 14) (As := [xI v1]) (en := (fun v => some (xI v))) (rest := []) K (fun a hF => ct_X8_isWho hF) rfl (by decide) q1586 q1588 qs50 q1589 q105 hy_X8_isWho (Nat.le_of_ble_eq_true rfl) (Nat.le_of_ble_eq_true rfl) (Nat.le_of_ble_eq_true rfl) dX8_rob_11 rfl (fun x3 => ?_)
  refine x_if_eq (tgt := 44) (pc' := 17) K dX8_rob_14 rfl (by decide) ?_ ?_
  · refine x_iconst (pc' := 45) (v := 0) K dX8_rob_44 rfl rfl ?_
    exact x_zret K (Or.inl rfl) rfl hr dX8_rob_45
  · refine x_aload_n (pc' := 18) K 0 dX8_rob_17 rfl rfl ?_
    refine x_iload_n (pc' := 19) K 2 dX8_rob_18 rfl rfl ?_
    refine x_cVO (pc' := 22) (As := [xI v2]) (en := (fun v => some (xI v))) (rest := []) K (fun a hF => ct_X8_isCoin hF) rfl (by decide) q1654 q1656 qs64 q1657 q105 hy_X8_isCoin (Nat.le_of_ble_eq_true rfl) (Nat.le_of_ble_eq_true rfl) (Nat.le_of_ble_eq_true rfl) dX8_rob_19 rfl (fun x4 => ?_)
    refine x_if_eq (tgt := 44) (pc' := 25) K dX8_rob_22 rfl (by decide) ?_ ?_
    · refine x_iconst (pc' := 45) (v := 0) K dX8_rob_44 rfl rfl ?_
      exact x_zret K (Or.inl rfl) rfl hr dX8_rob_45
    · refine x_aload_n (pc' := 26) K 0 dX8_rob_25 rfl rfl ?_
      refine x_iload_n (pc' := 27) K 2 dX8_rob_26 rfl rfl ?_
      refine x_iconst (pc' := 28) (v := 1) K dX8_rob_27 rfl rfl ?_
      refine x_cVO (pc' := 31) (As := [xI v2, xI (1 : Int32)]) (en := (fun v => some (xI v))) (rest := []) K (fun a hF => ct_X8_ofCoin hF) rfl (by decide) q1610 q1612 qs56 q1613 q105 hy_X8_ofCoin (Nat.le_of_ble_eq_true rfl) (Nat.le_of_ble_eq_true rfl) (Nat.le_of_ble_eq_true rfl) dX8_rob_28 rfl (fun x5 => ?_)
      refine x_iload_n (pc' := 32) K 1 dX8_rob_31 rfl rfl ?_
      refine x_icmp_eq (tgt := 44) (pc' := 35) K dX8_rob_32 rfl (by decide) ?_ ?_
      · refine x_iconst (pc' := 45) (v := 0) K dX8_rob_44 rfl rfl ?_
        exact x_zret K (Or.inl rfl) rfl hr dX8_rob_45
      · refine x_aload_n (pc' := 36) K 0 dX8_rob_35 rfl rfl ?_
        refine x_iload_n (pc' := 37) K 1 dX8_rob_36 rfl rfl ?_
        refine x_iconst (pc' := 38) (v := 2) K dX8_rob_37 rfl rfl ?_
        refine x_cVO (pc' := 41) (As := [xI v1, xI (2 : Int32)]) (en := (fun v => some (xI v))) (rest := []) K (fun a hF => ct_X8_ofWho hF) rfl (by decide) q1598 q1600 qs53 q1601 q105 hy_X8_ofWho (Nat.le_of_ble_eq_true rfl) (Nat.le_of_ble_eq_true rfl) (Nat.le_of_ble_eq_true rfl) dX8_rob_38 rfl (fun x6 => ?_)
        refine x_if_le (tgt := 46) (pc' := 44) K dX8_rob_41 rfl (by decide) ?_ ?_
        · refine x_aload_n (pc' := 47) K 0 dX8_rob_46 rfl rfl ?_
          refine x_cV (pc' := 50) (As := []) (en := (fun _ => none)) (rest := []) K (fun a h1 hF => ct_X8_snap hF) rfl (by decide) q1642 q1644 qs62 q1645 q105 hy_X8_snap (Nat.le_of_ble_eq_true rfl) (Nat.le_of_ble_eq_true rfl) (Nat.le_of_ble_eq_true rfl) dX8_rob_47 rfl (fun x_ g7 => ?_)
          refine x_aload_n (pc' := 51) K 0 dX8_rob_50 rfl rfl ?_
          refine x_getr (pc' := 54) K fg_14_14 (Or.inl (K.2.2.2.2.1 _ q1326)) (fun _ h9 => h9) dX8_rob_51 rfl (fun x8 => ?_)
          refine x_bipush (pc' := 56) (v := 120) K dX8_rob_54 rfl (by decide) ?_
          refine x_bipush (pc' := 58) (v := 32) K dX8_rob_56 rfl (by decide) ?_
          refine x_iload_n (pc' := 59) K 2 dX8_rob_58 rfl rfl ?_
          refine x_imul (pc' := 60) K dX8_rob_59 rfl ?_
          refine x_iadd (pc' := 61) K dX8_rob_60 rfl ?_
          refine x_iconst (pc' := 62) (v := 1) K dX8_rob_61 rfl rfl ?_
          refine x_iadd (pc' := 63) K dX8_rob_62 rfl ?_
          refine x_iload_n (pc' := 64) K 1 dX8_rob_63 rfl rfl ?_
          refine x_iast (pc' := 65) K dX8_rob_64 rfl (fun g9 => ?_)
          refine x_iconst (pc' := 66) (v := 1) K dX8_rob_65 rfl rfl ?_
          exact x_zret K (Or.inr rfl) rfl hr dX8_rob_66
        · refine x_iconst (pc' := 45) (v := 0) K dX8_rob_44 rfl rfl ?_
          exact x_zret K (Or.inl rfl) rfl hr dX8_rob_45
/-! FaceCoinsModel.dies(II)I -/
noncomputable def fM_dies_l59 (v0 : Nat) (v1 : Int32) (v2 : Int32) (v3 : Int32) (v4 : Int32) (g : AH) : Option ((Nat × Int32 × Int32 × Int32 × Int32 × AH) ⊕ (Nat × Int32 × Int32 × AH)) :=
  (xck g v0 14 (fM_coins v0 g)).bind fun x9 =>
  if x9 ≤ v4 then (
    some (Sum.inr (v0, v1, v3, g)))
  else (
    (xck g v0 14 (fM_ofCoin v0 v4 (1 : Int32) g)).bind fun x10 =>
    if x10 = v1 then (
      (xgr g v0 [14] 14).bind fun x11 =>
      (xsi g x11 (((120 : Int32) + ((32 : Int32) * v4)) + (1 : Int32)) v2).bind fun g12 =>
      some (Sum.inl (v0, v1, v2, (v3 + 1), (v4 + 1), g12)))
    else (
      some (Sum.inl (v0, v1, v2, v3, (v4 + 1), g))))
noncomputable def fM_dies_a107 (v0 : Nat) (v1 : Int32) (v3 : Int32) (g : AH) : Option (Int32 × AH) :=
  (xgr g v0 [14] 14).bind fun x13 =>
  (xai g x13 100 (110 : Int32)).bind fun x14 =>
  if x14 = v1 then (
    xb2 (xck g v0 14 (fM_giveBack v0 g)) fun x_ g15 =>
    some ((v3, g15)))
  else (
    (xgr g v0 [14] 14).bind fun x16 =>
    (xai g x16 100 (111 : Int32)).bind fun x17 =>
    if x17 = v1 then (
      xb2 (xck g v0 14 (fM_giveBack v0 g)) fun x_ g18 =>
      some ((v3, g18)))
    else (
      some ((v3, g))))
noncomputable def fM_dies (v0 : Nat) (v1 : Int32) (v2 : Int32) (h0 : AH) : Option (Int32 × AH) :=
  (xpi h0 v0 [14] 0 (0 : Int32)).bind fun g1 =>
  xb2 (xck g1 v0 14 (fM_lay v0 g1)) fun x_ g2 =>
  (xck g2 v0 14 (fM_isWho v0 v1 g2)).bind fun x3 =>
  if x3 = 0 then (
    some ((((-1) : Int32), g2)))
  else (
    (xck g2 v0 14 (fM_isWho v0 v2 g2)).bind fun x4 =>
    if x4 = 0 then (
      some ((((-1) : Int32), g2)))
    else (
      (xck g2 v0 14 (fM_areUnfit v0 v1 v2 g2)).bind fun x5 =>
      if x5 = 0 then (
        xb2 (xck g2 v0 14 (fM_snap v0 g2)) fun x_ g6 =>
        (xgr g6 v0 [14] 14).bind fun x7 =>
        (xsi g6 x7 (((8 : Int32) + ((3 : Int32) * v1)) + (2 : Int32)) (1 : Int32)).bind fun g8 =>
        (xloop (fun s9 : (Nat × Int32 × Int32 × Int32 × Int32 × AH) => fM_dies_l59 s9.1 s9.2.1 s9.2.2.1 s9.2.2.2.1 s9.2.2.2.2.1 s9.2.2.2.2.2) (v0, v1, v2, (0 : Int32), (0 : Int32), g8)).bind (fun r9 : (Nat × Int32 × Int32 × AH) => fM_dies_a107 r9.1 r9.2.1 r9.2.2.1 r9.2.2.2))
      else (
        some ((((-1) : Int32), g2)))))
set_option maxHeartbeats 4000000 in
theorem ct_X8_dies {l : Launch} {D : XD} {v0 : Nat} {v1 : Int32} {v2 : Int32} {h0 : AH} {a : Int32} {h1 : AH} (hF : fM_dies v0 v1 v2 h0 = some (a, h1)) : XCt l D yX8_dies (ws_ yX8_dies cX8_dies 5 (some .int)) 2 44 [xR v0, xI v1, xI v2] h0 (.inl (some (xI a))) h1 := by
  refine x_method (by decide) (Nat.le_of_ble_eq_true rfl) fun p e R s m args below meth c K hr hnm hex => ?_
  have K : XO p R s m args meth c D 5 h0 cX8_dies "FaceCoinsModel" 2 44 := K
  generalize hQ : XMQ below _ _ _ _ _ _ = Q
  have hL59 : ∀ (C1 : ((Nat × Int32 × Int32 × Int32 × Int32 × AH) ⊕ (Nat × Int32 × Int32 × AH)) → Prop) (hj1 : ∀ s9 : (Nat × Int32 × Int32 × Int32 × Int32 × AH), C1 (Sum.inl s9) → XG p l e R s m args below meth c D 5 h0 Q 59 [(0, xR s9.1), (1, xI s9.2.1), (2, xI s9.2.2.1), (3, xI s9.2.2.2.1), (4, xI s9.2.2.2.2.1)] [] s9.2.2.2.2.2) (he1 : ∀ r9 : (Nat × Int32 × Int32 × AH), C1 (Sum.inr r9) → XG p l e R s m args below meth c D 5 h0 Q 107 [(0, xR r9.1), (1, xI r9.2.1), (3, xI r9.2.2.1)] [] r9.2.2.2) (v0 : Nat) (v1 : Int32) (v2 : Int32) (v3 : Int32) (v4 : Int32) (g : AH), XF p l e R s m args below meth c D 5 h0 Q 59 [(0, xR v0), (1, xI v1), (2, xI v2), (3, xI v3), (4, xI v4)] [] g (fM_dies_l59 v0 v1 v2 v3 v4 g) C1 := by
    intro C1 hj1 he1
    intro v0 v1 v2 v3 v4 g
    unfold fM_dies_l59
    refine x_iload (pc' := 61) K 4 dX8_dies_59 rfl rfl ?_
    refine x_aload_n (pc' := 62) K 0 dX8_dies_61 rfl rfl ?_
    refine x_cVO (pc' := 65) (As := []) (en := (fun v => some (xI v))) (rest := [xI v4]) K (fun a hF => ct_X8_coins hF) rfl (by decide) q1602 q1604 qs54 q1605 q105 hy_X8_coins (Nat.le_of_ble_eq_true rfl) (Nat.le_of_ble_eq_true rfl) (Nat.le_of_ble_eq_true rfl) dX8_dies_62 rfl (fun x9 => ?_)
    refine x_icmp_ge (tgt := 107) (pc' := 68) K dX8_dies_65 rfl (by decide) ?_ ?_
    · refine x_sub (lv' := [(0, xR v0), (1, xI v1), (3, xI v3)]) [0, 1, 3] rfl ?_
      exact x_jump (fun hz => he1 (v0, v1, v3, g) hz)
    · refine x_aload_n (pc' := 69) K 0 dX8_dies_68 rfl rfl ?_
      refine x_iload (pc' := 71) K 4 dX8_dies_69 rfl rfl ?_
      refine x_iconst (pc' := 72) (v := 1) K dX8_dies_71 rfl rfl ?_
      refine x_cVO (pc' := 75) (As := [xI v4, xI (1 : Int32)]) (en := (fun v => some (xI v))) (rest := []) K (fun a hF => ct_X8_ofCoin hF) rfl (by decide) q1610 q1612 qs56 q1613 q105 hy_X8_ofCoin (Nat.le_of_ble_eq_true rfl) (Nat.le_of_ble_eq_true rfl) (Nat.le_of_ble_eq_true rfl) dX8_dies_72 rfl (fun x10 => ?_)
      refine x_iload_n (pc' := 76) K 1 dX8_dies_75 rfl rfl ?_
      refine x_icmp_eq (tgt := 82) (pc' := 79) K dX8_dies_76 rfl (by decide) ?_ ?_
      · refine x_aload_n (pc' := 83) K 0 dX8_dies_82 rfl rfl ?_
        refine x_getr (pc' := 86) K fg_14_14 (Or.inl (K.2.2.2.2.1 _ q1326)) (fun _ h9 => h9) dX8_dies_83 rfl (fun x11 => ?_)
        refine x_bipush (pc' := 88) (v := 120) K dX8_dies_86 rfl (by decide) ?_
        refine x_bipush (pc' := 90) (v := 32) K dX8_dies_88 rfl (by decide) ?_
        refine x_iload (pc' := 92) K 4 dX8_dies_90 rfl rfl ?_
        refine x_imul (pc' := 93) K dX8_dies_92 rfl ?_
        refine x_iadd (pc' := 94) K dX8_dies_93 rfl ?_
        refine x_iconst (pc' := 95) (v := 1) K dX8_dies_94 rfl rfl ?_
        refine x_iadd (pc' := 96) K dX8_dies_95 rfl ?_
        refine x_iload_n (pc' := 97) K 2 dX8_dies_96 rfl rfl ?_
        refine x_iast (pc' := 98) K dX8_dies_97 rfl (fun g12 => ?_)
        refine x_iinc (pc' := 101) (y := 1) (lv' := [(3, xI (v3 + 1)), (0, xR v0), (1, xI v1), (2, xI v2), (4, xI v4)]) K 3 dX8_dies_98 rfl rfl (by decide) (by decide) rfl ?_
        refine x_iinc (pc' := 104) (y := 1) (lv' := [(4, xI (v4 + 1)), (3, xI (v3 + 1)), (0, xR v0), (1, xI v1), (2, xI v2)]) K 4 dX8_dies_101 rfl rfl (by decide) (by decide) rfl ?_
        refine x_goto (tgt := 59) K dX8_dies_104 (by decide) ?_
        refine x_sub (lv' := [(0, xR v0), (1, xI v1), (2, xI v2), (3, xI (v3 + 1)), (4, xI (v4 + 1))]) [2, 3, 4, 1, 0] rfl ?_
        exact x_jump (fun hz => hj1 (v0, v1, v2, (v3 + 1), (v4 + 1), g12) hz)
      · refine x_goto (tgt := 101) K dX8_dies_79 (by decide) ?_
        refine x_iinc (pc' := 104) (y := 1) (lv' := [(4, xI (v4 + 1)), (0, xR v0), (1, xI v1), (2, xI v2), (3, xI v3)]) K 4 dX8_dies_101 rfl rfl (by decide) (by decide) rfl ?_
        refine x_goto (tgt := 59) K dX8_dies_104 (by decide) ?_
        refine x_sub (lv' := [(0, xR v0), (1, xI v1), (2, xI v2), (3, xI v3), (4, xI (v4 + 1))]) [1, 2, 3, 4, 0] rfl ?_
        exact x_jump (fun hz => hj1 (v0, v1, v2, v3, (v4 + 1), g) hz)
  have hA107_0 : ∀ (v0 : Nat) (v1 : Int32) (v3 : Int32) (g : AH), XF p l e R s m args below meth c D 5 h0 Q 107 [(0, xR v0), (1, xI v1), (3, xI v3)] [] g (fM_dies_a107 v0 v1 v3 g) (XEnd below s D h0 (fun v => .inl (some (xI v))) Q) := by
    intro v0 v1 v3 g
    unfold fM_dies_a107
    refine x_aload_n (pc' := 108) K 0 dX8_dies_107 rfl rfl ?_
    refine x_getr (pc' := 111) K fg_14_14 (Or.inl (K.2.2.2.2.1 _ q1326)) (fun _ h9 => h9) dX8_dies_108 rfl (fun x13 => ?_)
    refine x_bipush (pc' := 113) (v := 110) K dX8_dies_111 rfl (by decide) ?_
    refine x_iald (pc' := 114) K dX8_dies_113 rfl (fun x14 => ?_)
    refine x_iload_n (pc' := 115) K 1 dX8_dies_114 rfl rfl ?_
    refine x_icmp_eq (tgt := 129) (pc' := 118) K dX8_dies_115 rfl (by decide) ?_ ?_
    · refine x_aload_n (pc' := 130) K 0 dX8_dies_129 rfl rfl ?_
      refine x_cV (pc' := 133) (As := []) (en := (fun _ => none)) (rest := []) K (fun a h1 hF => ct_X8_giveBack hF) rfl (by decide) q1771 q1773 qs80 q1774 q105 hy_X8_giveBack (Nat.le_of_ble_eq_true rfl) (Nat.le_of_ble_eq_true rfl) (Nat.le_of_ble_eq_true rfl) dX8_dies_130 rfl (fun x_ g15 => ?_)
      refine x_iload_n (pc' := 134) K 2 dX8_dies_133 rfl rfl ?_
      exact x_iret K rfl hr dX8_dies_134
    · refine x_aload_n (pc' := 119) K 0 dX8_dies_118 rfl rfl ?_
      refine x_getr (pc' := 122) K fg_14_14 (Or.inl (K.2.2.2.2.1 _ q1326)) (fun _ h9 => h9) dX8_dies_119 rfl (fun x16 => ?_)
      refine x_bipush (pc' := 124) (v := 111) K dX8_dies_122 rfl (by decide) ?_
      refine x_iald (pc' := 125) K dX8_dies_124 rfl (fun x17 => ?_)
      refine x_iload_n (pc' := 126) K 1 dX8_dies_125 rfl rfl ?_
      refine x_icmp_ne (tgt := 133) (pc' := 129) K dX8_dies_126 rfl (by decide) ?_ ?_
      · refine x_iload_n (pc' := 134) K 2 dX8_dies_133 rfl rfl ?_
        exact x_iret K rfl hr dX8_dies_134
      · refine x_aload_n (pc' := 130) K 0 dX8_dies_129 rfl rfl ?_
        refine x_cV (pc' := 133) (As := []) (en := (fun _ => none)) (rest := []) K (fun a h1 hF => ct_X8_giveBack hF) rfl (by decide) q1771 q1773 qs80 q1774 q105 hy_X8_giveBack (Nat.le_of_ble_eq_true rfl) (Nat.le_of_ble_eq_true rfl) (Nat.le_of_ble_eq_true rfl) dX8_dies_130 rfl (fun x_ g18 => ?_)
        refine x_iload_n (pc' := 134) K 2 dX8_dies_133 rfl rfl ?_
        exact x_iret K rfl hr dX8_dies_134
  refine (?_ : XF p l e R s m args below meth c D 5 h0 Q 0 [(0, xR v0), (1, xI v1), (2, xI v2)] [] h0 (fM_dies v0 v1 v2 h0) (XEnd below s D h0 (fun v => .inl (some (xI v))) Q)) (a, h1) hF hQ.symm
  unfold fM_dies
  refine x_aload_n (pc' := 1) K 0 dX8_dies_0 rfl rfl ?_
  refine x_iconst (pc' := 2) (v := 0) K dX8_dies_1 rfl rfl ?_
  refine x_puti (pc' := 5) K fp_14_0 (Or.inl (K.2.2.2.2.1 _ q1312)) (fun _ h9 => h9) (Or.inl rfl) dX8_dies_2 rfl (fun g1 => ?_)
  refine x_aload_n (pc' := 6) K 0 dX8_dies_5 rfl rfl ?_
  refine x_cV (pc' := 9) (As := []) (en := (fun _ => none)) (rest := []) K (fun a h1 hF => ct_X8_lay hF) rfl (by decide) q1479 q1481 qs31 q1482 q105 hy_X8_lay (Nat.le_of_ble_eq_true rfl) (Nat.le_of_ble_eq_true rfl) (Nat.le_of_ble_eq_true rfl) dX8_dies_6 rfl (fun x_ g2 => ?_)
  refine x_aload_n (pc' := 10) K 0 dX8_dies_9 rfl rfl ?_
  refine x_iload_n (pc' := 11) K 1 dX8_dies_10 rfl rfl ?_
  refine x_cVO (pc' := 14) (As := [xI v1]) (en := (fun v => some (xI v))) (rest := []) K (fun a hF => ct_X8_isWho hF) rfl (by decide) q1586 q1588 qs50 q1589 q105 hy_X8_isWho (Nat.le_of_ble_eq_true rfl) (Nat.le_of_ble_eq_true rfl) (Nat.le_of_ble_eq_true rfl) dX8_dies_11 rfl (fun x3 => ?_)
  refine x_if_eq (tgt := 34) (pc' := 17) K dX8_dies_14 rfl (by decide) ?_ ?_
  · refine x_iconst (pc' := 35) (v := (-1)) K dX8_dies_34 rfl rfl ?_
    exact x_iret K rfl hr dX8_dies_35
  · refine x_aload_n (pc' := 18) K 0 dX8_dies_17 rfl rfl ?_
    refine x_iload_n (pc' := 19) K 2 dX8_dies_18 rfl rfl ?_
    refine x_cVO (pc' := 22) (As := [xI v2]) (en := (fun v => some (xI v))) (rest := []) K (fun a hF => ct_X8_isWho hF) rfl (by decide) q1586 q1588 qs50 q1589 q105 hy_X8_isWho (Nat.le_of_ble_eq_true rfl) (Nat.le_of_ble_eq_true rfl) (Nat.le_of_ble_eq_true rfl) dX8_dies_19 rfl (fun x4 => ?_)
    refine x_if_eq (tgt := 34) (pc' := 25) K dX8_dies_22 rfl (by decide) ?_ ?_
    · refine x_iconst (pc' := 35) (v := (-1)) K dX8_dies_34 rfl rfl ?_
      exact x_iret K rfl hr dX8_dies_35
    · refine x_aload_n (pc' := 26) K 0 dX8_dies_25 rfl rfl ?_
      refine x_iload_n (pc' := 27) K 1 dX8_dies_26 rfl rfl ?_
      refine x_iload_n (pc' := 28) K 2 dX8_dies_27 rfl rfl ?_
      refine x_cVO (pc' := 31) (As := [xI v1, xI v2]) (en := (fun v => some (xI v))) (rest := []) K (fun a hF => ct_X8_areUnfit hF) rfl (by decide) q1698 q1700 qs70 q1701 q105 hy_X8_areUnfit (Nat.le_of_ble_eq_true rfl) (Nat.le_of_ble_eq_true rfl) (Nat.le_of_ble_eq_true rfl) dX8_dies_28 rfl (fun x5 => ?_)
      refine x_if_eq (tgt := 36) (pc' := 34) K dX8_dies_31 rfl (by decide) ?_ ?_
      · refine x_aload_n (pc' := 37) K 0 dX8_dies_36 rfl rfl ?_
        refine x_cV (pc' := 40) (As := []) (en := (fun _ => none)) (rest := []) K (fun a h1 hF => ct_X8_snap hF) rfl (by decide) q1642 q1644 qs62 q1645 q105 hy_X8_snap (Nat.le_of_ble_eq_true rfl) (Nat.le_of_ble_eq_true rfl) (Nat.le_of_ble_eq_true rfl) dX8_dies_37 rfl (fun x_ g6 => ?_)
        refine x_aload_n (pc' := 41) K 0 dX8_dies_40 rfl rfl ?_
        refine x_getr (pc' := 44) K fg_14_14 (Or.inl (K.2.2.2.2.1 _ q1326)) (fun _ h9 => h9) dX8_dies_41 rfl (fun x7 => ?_)
        refine x_bipush (pc' := 46) (v := 8) K dX8_dies_44 rfl (by decide) ?_
        refine x_iconst (pc' := 47) (v := 3) K dX8_dies_46 rfl rfl ?_
        refine x_iload_n (pc' := 48) K 1 dX8_dies_47 rfl rfl ?_
        refine x_imul (pc' := 49) K dX8_dies_48 rfl ?_
        refine x_iadd (pc' := 50) K dX8_dies_49 rfl ?_
        refine x_iconst (pc' := 51) (v := 2) K dX8_dies_50 rfl rfl ?_
        refine x_iadd (pc' := 52) K dX8_dies_51 rfl ?_
        refine x_iconst (pc' := 53) (v := 1) K dX8_dies_52 rfl rfl ?_
        refine x_iast (pc' := 54) K dX8_dies_53 rfl (fun g8 => ?_)
        refine x_iconst (pc' := 55) (v := 0) K dX8_dies_54 rfl rfl ?_
        refine x_istore_n (pc' := 56) (lv' := [(3, xI (0 : Int32)), (0, xR v0), (1, xI v1), (2, xI v2)]) K dX8_dies_55 rfl (by decide) rfl ?_
        refine x_iconst (pc' := 57) (v := 0) K dX8_dies_56 rfl rfl ?_
        refine x_istore (pc' := 59) (lv' := [(4, xI (0 : Int32)), (3, xI (0 : Int32)), (0, xR v0), (1, xI v1), (2, xI v2)]) K dX8_dies_57 rfl (by decide) rfl ?_
        refine x_sub (lv' := [(0, xR v0), (1, xI v1), (2, xI v2), (3, xI (0 : Int32)), (4, xI (0 : Int32))]) [2, 3, 4, 1, 0] rfl ?_
        exact x_loop (pl := (fun s9 : (Nat × Int32 × Int32 × Int32 × Int32 × AH) => [(0, xR s9.1), (1, xI s9.2.1), (2, xI s9.2.2.1), (3, xI s9.2.2.2.1), (4, xI s9.2.2.2.2.1)])) (ph := (fun s9 : (Nat × Int32 × Int32 × Int32 × Int32 × AH) => s9.2.2.2.2.2)) (fun r9 : (Nat × Int32 × Int32 × AH) => XG p l e R s m args below meth c D 5 h0 Q 107 [(0, xR r9.1), (1, xI r9.2.1), (3, xI r9.2.2.1)] [] r9.2.2.2) (fun s9 => hL59 _ (fun _ hz => hz) (fun _ hz => hz) s9.1 s9.2.1 s9.2.2.1 s9.2.2.2.1 s9.2.2.2.2.1 s9.2.2.2.2.2) (fun r9 x hx hc => hA107_0 r9.1 r9.2.1 r9.2.2.1 r9.2.2.2 x hx hc) (v0, v1, v2, (0 : Int32), (0 : Int32), g8)
      · refine x_iconst (pc' := 35) (v := (-1)) K dX8_dies_34 rfl rfl ?_
        exact x_iret K rfl hr dX8_dies_35
/-! FaceCoinsModel.close(I)Z -/
noncomputable def fM_close (v0 : Nat) (v1 : Int32) (h0 : AH) : Option (Int32 × AH) :=
  (xpi h0 v0 [14] 0 (0 : Int32)).bind fun g1 =>
  xb2 (xck g1 v0 14 (fM_lay v0 g1)) fun x_ g2 =>
  (xck g2 v0 14 (fM_isMint v0 v1 g2)).bind fun x3 =>
  if x3 = 0 then (
    some (((0 : Int32), g2)))
  else (
    (xck g2 v0 14 (fM_ofMint v0 v1 (2 : Int32) g2)).bind fun x4 =>
    if x4 ≤ 0 then (
      xb2 (xck g2 v0 14 (fM_snap v0 g2)) fun x_ g5 =>
      (xgr g5 v0 [14] 14).bind fun x6 =>
      (xsi g5 x6 (((32 : Int32) + ((3 : Int32) * v1)) + (2 : Int32)) (1 : Int32)).bind fun g7 =>
      some (((1 : Int32), g7)))
    else (
      some (((0 : Int32), g2))))
set_option maxHeartbeats 4000000 in
theorem ct_X8_close {l : Launch} {D : XD} {v0 : Nat} {v1 : Int32} {h0 : AH} {a : Int32} {h1 : AH} (hF : fM_close v0 v1 h0 = some (a, h1)) : XCt l D yX8_close (ws_ yX8_close cX8_close 2 (some .boolean)) 2 41 [xR v0, xI v1] h0 (.inl (some (xI a))) h1 := by
  refine x_method (by decide) (Nat.le_of_ble_eq_true rfl) fun p e R s m args below meth c K hr hnm hex => ?_
  have K : XO p R s m args meth c D 2 h0 cX8_close "FaceCoinsModel" 2 41 := K
  generalize hQ : XMQ below _ _ _ _ _ _ = Q
  refine (?_ : XF p l e R s m args below meth c D 2 h0 Q 0 [(0, xR v0), (1, xI v1)] [] h0 (fM_close v0 v1 h0) (XEnd below s D h0 (fun v => .inl (some (xI v))) Q)) (a, h1) hF hQ.symm
  unfold fM_close
  refine x_aload_n (pc' := 1) K 0 dX8_close_0 rfl rfl ?_
  refine x_iconst (pc' := 2) (v := 0) K dX8_close_1 rfl rfl ?_
  refine x_puti (pc' := 5) K fp_14_0 (Or.inl (K.2.2.2.2.1 _ q1312)) (fun _ h9 => h9) (Or.inl rfl) dX8_close_2 rfl (fun g1 => ?_)
  refine x_aload_n (pc' := 6) K 0 dX8_close_5 rfl rfl ?_
  refine x_cV (pc' := 9) (As := []) (en := (fun _ => none)) (rest := []) K (fun a h1 hF => ct_X8_lay hF) rfl (by decide) q1479 q1481 qs31 q1482 q105 hy_X8_lay (Nat.le_of_ble_eq_true rfl) (Nat.le_of_ble_eq_true rfl) (Nat.le_of_ble_eq_true rfl) dX8_close_6 rfl (fun x_ g2 => ?_)
  refine x_aload_n (pc' := 10) K 0 dX8_close_9 rfl rfl ?_
  refine x_iload_n (pc' := 11) K 1 dX8_close_10 rfl rfl ?_
  refine x_cVO (pc' := 14) (As := [xI v1]) (en := (fun v => some (xI v))) (rest := []) K (fun a hF => ct_X8_isMint hF) rfl (by decide) q1618 q1620 qs57 q1621 q105 hy_X8_isMint (Nat.le_of_ble_eq_true rfl) (Nat.le_of_ble_eq_true rfl) (Nat.le_of_ble_eq_true rfl) dX8_close_11 rfl (fun x3 => ?_)
  refine x_if_eq (tgt := 26) (pc' := 17) K dX8_close_14 rfl (by decide) ?_ ?_
  · refine x_iconst (pc' := 27) (v := 0) K dX8_close_26 rfl rfl ?_
    exact x_zret K (Or.inl rfl) rfl hr dX8_close_27
  · refine x_aload_n (pc' := 18) K 0 dX8_close_17 rfl rfl ?_
    refine x_iload_n (pc' := 19) K 1 dX8_close_18 rfl rfl ?_
    refine x_iconst (pc' := 20) (v := 2) K dX8_close_19 rfl rfl ?_
    refine x_cVO (pc' := 23) (As := [xI v1, xI (2 : Int32)]) (en := (fun v => some (xI v))) (rest := []) K (fun a hF => ct_X8_ofMint hF) rfl (by decide) q1626 q1628 qs59 q1629 q105 hy_X8_ofMint (Nat.le_of_ble_eq_true rfl) (Nat.le_of_ble_eq_true rfl) (Nat.le_of_ble_eq_true rfl) dX8_close_20 rfl (fun x4 => ?_)
    refine x_if_le (tgt := 28) (pc' := 26) K dX8_close_23 rfl (by decide) ?_ ?_
    · refine x_aload_n (pc' := 29) K 0 dX8_close_28 rfl rfl ?_
      refine x_cV (pc' := 32) (As := []) (en := (fun _ => none)) (rest := []) K (fun a h1 hF => ct_X8_snap hF) rfl (by decide) q1642 q1644 qs62 q1645 q105 hy_X8_snap (Nat.le_of_ble_eq_true rfl) (Nat.le_of_ble_eq_true rfl) (Nat.le_of_ble_eq_true rfl) dX8_close_29 rfl (fun x_ g5 => ?_)
      refine x_aload_n (pc' := 33) K 0 dX8_close_32 rfl rfl ?_
      refine x_getr (pc' := 36) K fg_14_14 (Or.inl (K.2.2.2.2.1 _ q1326)) (fun _ h9 => h9) dX8_close_33 rfl (fun x6 => ?_)
      refine x_bipush (pc' := 38) (v := 32) K dX8_close_36 rfl (by decide) ?_
      refine x_iconst (pc' := 39) (v := 3) K dX8_close_38 rfl rfl ?_
      refine x_iload_n (pc' := 40) K 1 dX8_close_39 rfl rfl ?_
      refine x_imul (pc' := 41) K dX8_close_40 rfl ?_
      refine x_iadd (pc' := 42) K dX8_close_41 rfl ?_
      refine x_iconst (pc' := 43) (v := 2) K dX8_close_42 rfl rfl ?_
      refine x_iadd (pc' := 44) K dX8_close_43 rfl ?_
      refine x_iconst (pc' := 45) (v := 1) K dX8_close_44 rfl rfl ?_
      refine x_iast (pc' := 46) K dX8_close_45 rfl (fun g7 => ?_)
      refine x_iconst (pc' := 47) (v := 1) K dX8_close_46 rfl rfl ?_
      exact x_zret K (Or.inr rfl) rfl hr dX8_close_47
    · refine x_iconst (pc' := 27) (v := 0) K dX8_close_26 rfl rfl ?_
      exact x_zret K (Or.inl rfl) rfl hr dX8_close_27
/-! FaceCoinsModel.strokes()I -/
noncomputable def fM_strokes (v0 : Nat) (h0 : AH) : Option (Int32 × AH) :=
  (xpi h0 v0 [14] 0 (0 : Int32)).bind fun g1 =>
  (xgr g1 v0 [14] 14).bind fun x2 =>
  (xai g1 x2 100 (112 : Int32)).bind fun x3 =>
  some ((x3, g1))
set_option maxHeartbeats 4000000 in
theorem ct_X8_strokes {l : Launch} {D : XD} {v0 : Nat} {h0 : AH} {a : Int32} {h1 : AH} (hF : fM_strokes v0 h0 = some (a, h1)) : XCt l D yX8_strokes (ws_ yX8_strokes cX8_strokes 1 (some .int)) 0 0 [xR v0] h0 (.inl (some (xI a))) h1 := by
  refine x_method (by decide) (Nat.le_of_ble_eq_true rfl) fun p e R s m args below meth c K hr hnm hex => ?_
  have K : XO p R s m args meth c D 1 h0 cX8_strokes "FaceCoinsModel" 0 0 := K
  generalize hQ : XMQ below _ _ _ _ _ _ = Q
  refine (?_ : XF p l e R s m args below meth c D 1 h0 Q 0 [(0, xR v0)] [] h0 (fM_strokes v0 h0) (XEnd below s D h0 (fun v => .inl (some (xI v))) Q)) (a, h1) hF hQ.symm
  unfold fM_strokes
  refine x_aload_n (pc' := 1) K 0 dX8_strokes_0 rfl rfl ?_
  refine x_iconst (pc' := 2) (v := 0) K dX8_strokes_1 rfl rfl ?_
  refine x_puti (pc' := 5) K fp_14_0 (Or.inl (K.2.2.2.2.1 _ q1312)) (fun _ h9 => h9) (Or.inl rfl) dX8_strokes_2 rfl (fun g1 => ?_)
  refine x_aload_n (pc' := 6) K 0 dX8_strokes_5 rfl rfl ?_
  refine x_getr (pc' := 9) K fg_14_14 (Or.inl (K.2.2.2.2.1 _ q1326)) (fun _ h9 => h9) dX8_strokes_6 rfl (fun x2 => ?_)
  refine x_bipush (pc' := 11) (v := 112) K dX8_strokes_9 rfl (by decide) ?_
  refine x_iald (pc' := 12) K dX8_strokes_11 rfl (fun x3 => ?_)
  exact x_iret K rfl hr dX8_strokes_12
/-! FaceCoinsModel.isShown(I)I -/
noncomputable def fM_isShown_l16 (v0 : Nat) (v1 : Int32) (v2 : Int32) (v3 : Int32) (h0 : AH) : Option ((Nat × Int32 × Int32 × Int32) ⊕ (Unit ⊕ Int32)) :=
  (xck h0 v0 14 (fM_ofCoin v0 v2 (3 : Int32) h0)).bind fun x3 =>
  if x3 ≤ v3 then (
    some (Sum.inr (Sum.inl ())))
  else (
    (xck h0 v0 14 (fM_ofCoin v0 v2 (((4 : Int32) + ((3 : Int32) * v3)) + (2 : Int32)) h0)).bind fun x4 =>
    if x4 = v1 then (
      some (Sum.inr (Sum.inr ((1 : Int32)))))
    else (
      some (Sum.inl (v0, v1, v2, (v3 + 1)))))
noncomputable def fM_isShown_a50  (h0 : AH) : Option Int32 :=
  some ((0 : Int32))
noncomputable def fM_isShown (v0 : Nat) (v1 : Int32) (h0 : AH) : Option Int32 :=
  (xgr h0 v0 [14] 14).bind fun x1 =>
  (xai h0 x1 100 ((1400 : Int32) + ((6 : Int32) * v1))).bind fun x2 =>
  (xloop (fun s9 : (Nat × Int32 × Int32 × Int32) => fM_isShown_l16 s9.1 s9.2.1 s9.2.2.1 s9.2.2.2 h0) (v0, v1, x2, (0 : Int32))).bind (Sum.elim (fun r9 : Unit => fM_isShown_a50 h0) some)
set_option maxHeartbeats 4000000 in
theorem ct_X8_isShown {l : Launch} {D : XD} {v0 : Nat} {v1 : Int32} {h0 : AH} {a : Int32} (hF : fM_isShown v0 v1 h0 = some a) : XCt l D yX8_isShown (ws_ yX8_isShown cX8_isShown 4 (some .int)) 1 22 [xR v0, xI v1] h0 (.inl (some (xI a))) h0 := by
  refine x_method (by decide) (Nat.le_of_ble_eq_true rfl) fun p e R s m args below meth c K hr hnm hex => ?_
  have K : XO p R s m args meth c D 4 h0 cX8_isShown "FaceCoinsModel" 1 22 := K
  generalize hQ : XMQ below _ _ _ _ _ _ = Q
  have hL16 : ∀ (C1 : ((Nat × Int32 × Int32 × Int32) ⊕ (Unit ⊕ Int32)) → Prop) (hj1 : ∀ s9 : (Nat × Int32 × Int32 × Int32), C1 (Sum.inl s9) → XG p l e R s m args below meth c D 4 h0 Q 16 [(0, xR s9.1), (1, xI s9.2.1), (2, xI s9.2.2.1), (3, xI s9.2.2.2)] [] h0) (he1 : ∀ r9 : Unit, C1 (Sum.inr (Sum.inl r9)) → XG p l e R s m args below meth c D 4 h0 Q 50 [] [] h0) (hd1 : ∀ y9 : Int32, C1 (Sum.inr (Sum.inr y9)) → (fun z => XEnd below s D h0 (fun v => .inl (some (xI v))) Q (z, h0)) y9) (v0 : Nat) (v1 : Int32) (v2 : Int32) (v3 : Int32), XF p l e R s m args below meth c D 4 h0 Q 16 [(0, xR v0), (1, xI v1), (2, xI v2), (3, xI v3)] [] h0 (fM_isShown_l16 v0 v1 v2 v3 h0) C1 := by
    intro C1 hj1 he1 hd1
    intro v0 v1 v2 v3
    unfold fM_isShown_l16
    refine x_iload_n (pc' := 17) K 3 dX8_isShown_16 rfl rfl ?_
    refine x_aload_n (pc' := 18) K 0 dX8_isShown_17 rfl rfl ?_
    refine x_iload_n (pc' := 19) K 2 dX8_isShown_18 rfl rfl ?_
    refine x_iconst (pc' := 20) (v := 3) K dX8_isShown_19 rfl rfl ?_
    refine x_cVO (pc' := 23) (As := [xI v2, xI (3 : Int32)]) (en := (fun v => some (xI v))) (rest := [xI v3]) K (fun a hF => ct_X8_ofCoin hF) rfl (by decide) q1610 q1612 qs56 q1613 q105 hy_X8_ofCoin (Nat.le_of_ble_eq_true rfl) (Nat.le_of_ble_eq_true rfl) (Nat.le_of_ble_eq_true rfl) dX8_isShown_20 rfl (fun x3 => ?_)
    refine x_icmp_ge (tgt := 50) (pc' := 26) K dX8_isShown_23 rfl (by decide) ?_ ?_
    · refine x_sub (lv' := []) [] rfl ?_
      exact x_jump (fun hz => he1 () hz)
    · refine x_aload_n (pc' := 27) K 0 dX8_isShown_26 rfl rfl ?_
      refine x_iload_n (pc' := 28) K 2 dX8_isShown_27 rfl rfl ?_
      refine x_iconst (pc' := 29) (v := 4) K dX8_isShown_28 rfl rfl ?_
      refine x_iconst (pc' := 30) (v := 3) K dX8_isShown_29 rfl rfl ?_
      refine x_iload_n (pc' := 31) K 3 dX8_isShown_30 rfl rfl ?_
      refine x_imul (pc' := 32) K dX8_isShown_31 rfl ?_
      refine x_iadd (pc' := 33) K dX8_isShown_32 rfl ?_
      refine x_iconst (pc' := 34) (v := 2) K dX8_isShown_33 rfl rfl ?_
      refine x_iadd (pc' := 35) K dX8_isShown_34 rfl ?_
      refine x_cVO (pc' := 38) (As := [xI v2, xI (((4 : Int32) + ((3 : Int32) * v3)) + (2 : Int32))]) (en := (fun v => some (xI v))) (rest := []) K (fun a hF => ct_X8_ofCoin hF) rfl (by decide) q1610 q1612 qs56 q1613 q105 hy_X8_ofCoin (Nat.le_of_ble_eq_true rfl) (Nat.le_of_ble_eq_true rfl) (Nat.le_of_ble_eq_true rfl) dX8_isShown_35 rfl (fun x4 => ?_)
      refine x_iload_n (pc' := 39) K 1 dX8_isShown_38 rfl rfl ?_
      refine x_icmp_ne (tgt := 44) (pc' := 42) K dX8_isShown_39 rfl (by decide) ?_ ?_
      · refine x_iinc (pc' := 47) (y := 1) (lv' := [(3, xI (v3 + 1)), (0, xR v0), (1, xI v1), (2, xI v2)]) K 3 dX8_isShown_44 rfl rfl (by decide) (by decide) rfl ?_
        refine x_goto (tgt := 16) K dX8_isShown_47 (by decide) ?_
        refine x_sub (lv' := [(0, xR v0), (1, xI v1), (2, xI v2), (3, xI (v3 + 1))]) [1, 2, 3, 0] rfl ?_
        exact x_jump (fun hz => hj1 (v0, v1, v2, (v3 + 1)) hz)
      · refine x_iconst (pc' := 43) (v := 1) K dX8_isShown_42 rfl rfl ?_
        refine x_g (fun z => Sum.inr (Sum.inr z)) (x_C (C8 := (fun z => XEnd below s D h0 (fun v => .inl (some (xI v))) Q (z, h0))) (fun z hz => hd1 z hz) ?_)
        exact x_ro (C9 := XEnd below s D h0 (fun v => .inl (some (xI v))) Q) (x_iret K rfl hr dX8_isShown_43)
  have hA50_0 : XF p l e R s m args below meth c D 4 h0 Q 50 [] [] h0 (fM_isShown_a50 h0) (fun z => XEnd below s D h0 (fun v => .inl (some (xI v))) Q (z, h0)) := by
    unfold fM_isShown_a50
    refine x_iconst (pc' := 51) (v := 0) K dX8_isShown_50 rfl rfl ?_
    exact x_ro (C9 := XEnd below s D h0 (fun v => .inl (some (xI v))) Q) (x_iret K rfl hr dX8_isShown_51)
  refine (?_ : XF p l e R s m args below meth c D 4 h0 Q 0 [(0, xR v0), (1, xI v1)] [] h0 (fM_isShown v0 v1 h0) (fun z => XEnd below s D h0 (fun v => .inl (some (xI v))) Q (z, h0))) a hF hQ.symm
  unfold fM_isShown
  refine x_aload_n (pc' := 1) K 0 dX8_isShown_0 rfl rfl ?_
  refine x_getr (pc' := 4) K fg_14_14 (Or.inl (K.2.2.2.2.1 _ q1326)) (fun _ h9 => h9) dX8_isShown_1 rfl (fun x1 => ?_)
  refine x_sipush (pc' := 7) (v := 1400) K dX8_isShown_4 rfl (by decide) ?_
  refine x_bipush (pc' := 9) (v := 6) K dX8_isShown_7 rfl (by decide) ?_
  refine x_iload_n (pc' := 10) K 1 dX8_isShown_9 rfl rfl ?_
  refine x_imul (pc' := 11) K dX8_isShown_10 rfl ?_
  refine x_iadd (pc' := 12) K dX8_isShown_11 rfl ?_
  refine x_iald (pc' := 13) K dX8_isShown_12 rfl (fun x2 => ?_)
  refine x_istore_n (pc' := 14) (lv' := [(2, xI x2), (0, xR v0), (1, xI v1)]) K dX8_isShown_13 rfl (by decide) rfl ?_
  refine x_iconst (pc' := 15) (v := 0) K dX8_isShown_14 rfl rfl ?_
  refine x_istore_n (pc' := 16) (lv' := [(3, xI (0 : Int32)), (2, xI x2), (0, xR v0), (1, xI v1)]) K dX8_isShown_15 rfl (by decide) rfl ?_
  refine x_sub (lv' := [(0, xR v0), (1, xI v1), (2, xI x2), (3, xI (0 : Int32))]) [2, 3, 1, 0] rfl ?_
  exact x_loop (pl := (fun s9 : (Nat × Int32 × Int32 × Int32) => [(0, xR s9.1), (1, xI s9.2.1), (2, xI s9.2.2.1), (3, xI s9.2.2.2)])) (ph := (fun s9 : (Nat × Int32 × Int32 × Int32) => h0)) (Sum.elim (fun r9 : Unit => XG p l e R s m args below meth c D 4 h0 Q 50 [] [] h0) (fun z => XEnd below s D h0 (fun v => .inl (some (xI v))) Q (z, h0))) (fun s9 => hL16 _ (fun _ hz => hz) (fun _ hz => hz) (fun _ hz => hz) s9.1 s9.2.1 s9.2.2.1 s9.2.2.2) (x_ex2 (fun r9 x hx hc => hA50_0  x hx hc)) (v0, v1, x2, (0 : Int32))
/-! FaceCoinsModel.stroke(II)I -/
noncomputable def fM_stroke (v0 : Nat) (v1 : Int32) (v2 : Int32) (h0 : AH) : Option (Int32 × AH) :=
  if v1 < 0 then (
    xb2 (xck h0 v0 14 (fM_refuse v0 h0)) fun x1 g2 =>
    some ((x1, g2)))
  else (
    (xgr h0 v0 [14] 14).bind fun x3 =>
    (xai h0 x3 100 (112 : Int32)).bind fun x4 =>
    if x4 ≤ v1 then (
      xb2 (xck h0 v0 14 (fM_refuse v0 h0)) fun x5 g6 =>
      some ((x5, g6)))
    else (
      (fM_isIn v2 (0 : Int32) (6 : Int32) h0).bind fun x7 =>
      if x7 = 0 then (
        xb2 (xck h0 v0 14 (fM_refuse v0 h0)) fun x12 g13 =>
        some ((x12, g13)))
      else (
        (xpi h0 v0 [14] 0 (0 : Int32)).bind fun g8 =>
        if (6 : Int32) ≤ v2 then (
          (xck g8 v0 14 (fM_isShown v0 v1 g8)).bind fun x9 =>
          some ((x9, g8)))
        else (
          (xgr g8 v0 [14] 14).bind fun x10 =>
          (xai g8 x10 100 (((1400 : Int32) + ((6 : Int32) * v1)) + v2)).bind fun x11 =>
          some ((x11, g8))))))
set_option maxHeartbeats 4000000 in
theorem ct_X8_stroke {l : Launch} {D : XD} {v0 : Nat} {v1 : Int32} {v2 : Int32} {h0 : AH} {a : Int32} {h1 : AH} (hF : fM_stroke v0 v1 v2 h0 = some (a, h1)) : XCt l D yX8_stroke (ws_ yX8_stroke cX8_stroke 3 (some .int)) 2 45 [xR v0, xI v1, xI v2] h0 (.inl (some (xI a))) h1 := by
  refine x_method (by decide) (Nat.le_of_ble_eq_true rfl) fun p e R s m args below meth c K hr hnm hex => ?_
  have K : XO p R s m args meth c D 3 h0 cX8_stroke "FaceCoinsModel" 2 45 := K
  generalize hQ : XMQ below _ _ _ _ _ _ = Q
  refine (?_ : XF p l e R s m args below meth c D 3 h0 Q 0 [(0, xR v0), (1, xI v1), (2, xI v2)] [] h0 (fM_stroke v0 v1 v2 h0) (XEnd below s D h0 (fun v => .inl (some (xI v))) Q)) (a, h1) hF hQ.symm
  unfold fM_stroke
  refine x_iload_n (pc' := 1) K 1 dX8_stroke_0 rfl rfl ?_
  refine x_if_lt (tgt := 25) (pc' := 4) K dX8_stroke_1 rfl (by decide) ?_ ?_
  · refine x_aload_n (pc' := 26) K 0 dX8_stroke_25 rfl rfl ?_
    refine x_cV (pc' := 29) (As := []) (en := (fun v => some (xI v))) (rest := []) K (fun a h1 hF => ct_X8_refuse hF) rfl (by decide) q1594 q1596 qs52 q1597 q105 hy_X8_refuse (Nat.le_of_ble_eq_true rfl) (Nat.le_of_ble_eq_true rfl) (Nat.le_of_ble_eq_true rfl) dX8_stroke_26 rfl (fun x1 g2 => ?_)
    exact x_iret K rfl hr dX8_stroke_29
  · refine x_iload_n (pc' := 5) K 1 dX8_stroke_4 rfl rfl ?_
    refine x_aload_n (pc' := 6) K 0 dX8_stroke_5 rfl rfl ?_
    refine x_getr (pc' := 9) K fg_14_14 (Or.inl (K.2.2.2.2.1 _ q1326)) (fun _ h9 => h9) dX8_stroke_6 rfl (fun x3 => ?_)
    refine x_bipush (pc' := 11) (v := 112) K dX8_stroke_9 rfl (by decide) ?_
    refine x_iald (pc' := 12) K dX8_stroke_11 rfl (fun x4 => ?_)
    refine x_icmp_ge (tgt := 25) (pc' := 15) K dX8_stroke_12 rfl (by decide) ?_ ?_
    · refine x_aload_n (pc' := 26) K 0 dX8_stroke_25 rfl rfl ?_
      refine x_cV (pc' := 29) (As := []) (en := (fun v => some (xI v))) (rest := []) K (fun a h1 hF => ct_X8_refuse hF) rfl (by decide) q1594 q1596 qs52 q1597 q105 hy_X8_refuse (Nat.le_of_ble_eq_true rfl) (Nat.le_of_ble_eq_true rfl) (Nat.le_of_ble_eq_true rfl) dX8_stroke_26 rfl (fun x5 g6 => ?_)
      exact x_iret K rfl hr dX8_stroke_29
    · refine x_iload_n (pc' := 16) K 2 dX8_stroke_15 rfl rfl ?_
      refine x_iconst (pc' := 17) (v := 0) K dX8_stroke_16 rfl rfl ?_
      refine x_bipush (pc' := 19) (v := 6) K dX8_stroke_17 rfl (by decide) ?_
      refine x_cSO (pc' := 22) (As := [xI v2, xI (0 : Int32), xI (6 : Int32)]) (en := (fun v => some (xI v))) (rest := []) K (fun a hF => ct_X8_isIn hF) rfl q1552 q1553 q1554 q105 hy_X8_isIn (Nat.le_of_ble_eq_true rfl) (Nat.le_of_ble_eq_true rfl) (Nat.le_of_ble_eq_true rfl) dX8_stroke_19 rfl (fun x7 => ?_)
      refine x_if_ne (tgt := 30) (pc' := 25) K dX8_stroke_22 rfl (by decide) ?_ ?_
      · refine x_aload_n (pc' := 31) K 0 dX8_stroke_30 rfl rfl ?_
        refine x_iconst (pc' := 32) (v := 0) K dX8_stroke_31 rfl rfl ?_
        refine x_puti (pc' := 35) K fp_14_0 (Or.inl (K.2.2.2.2.1 _ q1312)) (fun _ h9 => h9) (Or.inl rfl) dX8_stroke_32 rfl (fun g8 => ?_)
        refine x_iload_n (pc' := 36) K 2 dX8_stroke_35 rfl rfl ?_
        refine x_bipush (pc' := 38) (v := 6) K dX8_stroke_36 rfl (by decide) ?_
        refine x_icmp_ge (tgt := 59) (pc' := 41) K dX8_stroke_38 rfl (by decide) ?_ ?_
        · refine x_aload_n (pc' := 60) K 0 dX8_stroke_59 rfl rfl ?_
          refine x_iload_n (pc' := 61) K 1 dX8_stroke_60 rfl rfl ?_
          refine x_cVO (pc' := 64) (As := [xI v1]) (en := (fun v => some (xI v))) (rest := []) K (fun a hF => ct_X8_isShown hF) rfl (by decide) q1795 q1797 qs81 q1798 q105 hy_X8_isShown (Nat.le_of_ble_eq_true rfl) (Nat.le_of_ble_eq_true rfl) (Nat.le_of_ble_eq_true rfl) dX8_stroke_61 rfl (fun x9 => ?_)
          exact x_iret K rfl hr dX8_stroke_64
        · refine x_aload_n (pc' := 42) K 0 dX8_stroke_41 rfl rfl ?_
          refine x_getr (pc' := 45) K fg_14_14 (Or.inl (K.2.2.2.2.1 _ q1326)) (fun _ h9 => h9) dX8_stroke_42 rfl (fun x10 => ?_)
          refine x_sipush (pc' := 48) (v := 1400) K dX8_stroke_45 rfl (by decide) ?_
          refine x_bipush (pc' := 50) (v := 6) K dX8_stroke_48 rfl (by decide) ?_
          refine x_iload_n (pc' := 51) K 1 dX8_stroke_50 rfl rfl ?_
          refine x_imul (pc' := 52) K dX8_stroke_51 rfl ?_
          refine x_iadd (pc' := 53) K dX8_stroke_52 rfl ?_
          refine x_iload_n (pc' := 54) K 2 dX8_stroke_53 rfl rfl ?_
          refine x_iadd (pc' := 55) K dX8_stroke_54 rfl ?_
          refine x_iald (pc' := 56) K dX8_stroke_55 rfl (fun x11 => ?_)
          refine x_goto (tgt := 64) K dX8_stroke_56 (by decide) ?_
          exact x_iret K rfl hr dX8_stroke_64
      · refine x_aload_n (pc' := 26) K 0 dX8_stroke_25 rfl rfl ?_
        refine x_cV (pc' := 29) (As := []) (en := (fun v => some (xI v))) (rest := []) K (fun a h1 hF => ct_X8_refuse hF) rfl (by decide) q1594 q1596 qs52 q1597 q105 hy_X8_refuse (Nat.le_of_ble_eq_true rfl) (Nat.le_of_ble_eq_true rfl) (Nat.le_of_ble_eq_true rfl) dX8_stroke_26 rfl (fun x12 g13 => ?_)
        exact x_iret K rfl hr dX8_stroke_29
/-! FaceCoinsModel.foreign(I)I -/
noncomputable def fM_foreign_l13 (v0 : Nat) (v1 : Int32) (v2 : Int32) (v3 : Int32) (g : AH) : Option ((Nat × Int32 × Int32 × Int32) ⊕ ((Int32 × Int32) ⊕ (Int32 × AH))) :=
  (xck g v0 14 (fM_coins v0 g)).bind fun x3 =>
  if x3 ≤ v3 then (
    some (Sum.inr (Sum.inl (v1, v2))))
  else (
    (xck g v0 14 (fM_ofCoin v0 v3 (1 : Int32) g)).bind fun x4 =>
    (xck g v0 14 (fM_topOf v0 v3 g)).bind fun x5 =>
    if x4 = x5 then (
      some (Sum.inl (v0, v1, v2, (v3 + 1))))
    else (
      if v2 = v1 then (
        some (Sum.inr (Sum.inr ((v3, g)))))
      else (
        some (Sum.inl (v0, v1, (v2 + 1), (v3 + 1))))))
noncomputable def fM_foreign_a54 (v1 : Int32) (v2 : Int32) (g : AH) : Option (Int32 × AH) :=
  if v1 = ((-1) : Int32) then (
    some ((v2, g)))
  else (
    some ((((-1) : Int32), g)))
noncomputable def fM_foreign (v0 : Nat) (v1 : Int32) (h0 : AH) : Option (Int32 × AH) :=
  (xpi h0 v0 [14] 0 (0 : Int32)).bind fun g1 =>
  xb2 (xck g1 v0 14 (fM_lay v0 g1)) fun x_ g2 =>
  (xloop (fun s9 : (Nat × Int32 × Int32 × Int32) => fM_foreign_l13 s9.1 s9.2.1 s9.2.2.1 s9.2.2.2 g2) (v0, v1, (0 : Int32), (0 : Int32))).bind (Sum.elim (fun r9 : (Int32 × Int32) => fM_foreign_a54 r9.1 r9.2 g2) some)
set_option maxHeartbeats 4000000 in
theorem ct_X8_foreign {l : Launch} {D : XD} {v0 : Nat} {v1 : Int32} {h0 : AH} {a : Int32} {h1 : AH} (hF : fM_foreign v0 v1 h0 = some (a, h1)) : XCt l D yX8_foreign (ws_ yX8_foreign cX8_foreign 4 (some .int)) 2 43 [xR v0, xI v1] h0 (.inl (some (xI a))) h1 := by
  refine x_method (by decide) (Nat.le_of_ble_eq_true rfl) fun p e R s m args below meth c K hr hnm hex => ?_
  have K : XO p R s m args meth c D 4 h0 cX8_foreign "FaceCoinsModel" 2 43 := K
  generalize hQ : XMQ below _ _ _ _ _ _ = Q
  have hL13 : ∀ (g : AH) (C1 : ((Nat × Int32 × Int32 × Int32) ⊕ ((Int32 × Int32) ⊕ (Int32 × AH))) → Prop) (hj1 : ∀ s9 : (Nat × Int32 × Int32 × Int32), C1 (Sum.inl s9) → XG p l e R s m args below meth c D 4 h0 Q 13 [(0, xR s9.1), (1, xI s9.2.1), (2, xI s9.2.2.1), (3, xI s9.2.2.2)] [] g) (he1 : ∀ r9 : (Int32 × Int32), C1 (Sum.inr (Sum.inl r9)) → XG p l e R s m args below meth c D 4 h0 Q 54 [(1, xI r9.1), (2, xI r9.2)] [] g) (hd1 : ∀ y9 : (Int32 × AH), C1 (Sum.inr (Sum.inr y9)) → (XEnd below s D h0 (fun v => .inl (some (xI v))) Q) y9) (v0 : Nat) (v1 : Int32) (v2 : Int32) (v3 : Int32), XF p l e R s m args below meth c D 4 h0 Q 13 [(0, xR v0), (1, xI v1), (2, xI v2), (3, xI v3)] [] g (fM_foreign_l13 v0 v1 v2 v3 g) C1 := by
    intro g C1 hj1 he1 hd1
    intro v0 v1 v2 v3
    unfold fM_foreign_l13
    refine x_iload_n (pc' := 14) K 3 dX8_foreign_13 rfl rfl ?_
    refine x_aload_n (pc' := 15) K 0 dX8_foreign_14 rfl rfl ?_
    refine x_cVO (pc' := 18) (As := []) (en := (fun v => some (xI v))) (rest := [xI v3]) K (fun a hF => ct_X8_coins hF) rfl (by decide) q1602 q1604 qs54 q1605 q105 hy_X8_coins (Nat.le_of_ble_eq_true rfl) (Nat.le_of_ble_eq_true rfl) (Nat.le_of_ble_eq_true rfl) dX8_foreign_15 rfl (fun x3 => ?_)
    refine x_icmp_ge (tgt := 54) (pc' := 21) K dX8_foreign_18 rfl (by decide) ?_ ?_
    · refine x_sub (lv' := [(1, xI v1), (2, xI v2)]) [1, 2] rfl ?_
      exact x_jump (fun hz => he1 (v1, v2) hz)
    · refine x_aload_n (pc' := 22) K 0 dX8_foreign_21 rfl rfl ?_
      refine x_iload_n (pc' := 23) K 3 dX8_foreign_22 rfl rfl ?_
      refine x_iconst (pc' := 24) (v := 1) K dX8_foreign_23 rfl rfl ?_
      refine x_cVO (pc' := 27) (As := [xI v3, xI (1 : Int32)]) (en := (fun v => some (xI v))) (rest := []) K (fun a hF => ct_X8_ofCoin hF) rfl (by decide) q1610 q1612 qs56 q1613 q105 hy_X8_ofCoin (Nat.le_of_ble_eq_true rfl) (Nat.le_of_ble_eq_true rfl) (Nat.le_of_ble_eq_true rfl) dX8_foreign_24 rfl (fun x4 => ?_)
      refine x_aload_n (pc' := 28) K 0 dX8_foreign_27 rfl rfl ?_
      refine x_iload_n (pc' := 29) K 3 dX8_foreign_28 rfl rfl ?_
      refine x_cVO (pc' := 32) (As := [xI v3]) (en := (fun v => some (xI v))) (rest := [xI x4]) K (fun a hF => ct_X8_topOf hF) rfl (by decide) q1606 q1608 qs55 q1609 q105 hy_X8_topOf (Nat.le_of_ble_eq_true rfl) (Nat.le_of_ble_eq_true rfl) (Nat.le_of_ble_eq_true rfl) dX8_foreign_29 rfl (fun x5 => ?_)
      refine x_icmp_ne (tgt := 38) (pc' := 35) K dX8_foreign_32 rfl (by decide) ?_ ?_
      · refine x_iload_n (pc' := 39) K 2 dX8_foreign_38 rfl rfl ?_
        refine x_iload_n (pc' := 40) K 1 dX8_foreign_39 rfl rfl ?_
        refine x_icmp_ne (tgt := 45) (pc' := 43) K dX8_foreign_40 rfl (by decide) ?_ ?_
        · refine x_iinc (pc' := 48) (y := 1) (lv' := [(2, xI (v2 + 1)), (0, xR v0), (1, xI v1), (3, xI v3)]) K 2 dX8_foreign_45 rfl rfl (by decide) (by decide) rfl ?_
          refine x_iinc (pc' := 51) (y := 1) (lv' := [(3, xI (v3 + 1)), (2, xI (v2 + 1)), (0, xR v0), (1, xI v1)]) K 3 dX8_foreign_48 rfl rfl (by decide) (by decide) rfl ?_
          refine x_goto (tgt := 13) K dX8_foreign_51 (by decide) ?_
          refine x_sub (lv' := [(0, xR v0), (1, xI v1), (2, xI (v2 + 1)), (3, xI (v3 + 1))]) [2, 3, 1, 0] rfl ?_
          exact x_jump (fun hz => hj1 (v0, v1, (v2 + 1), (v3 + 1)) hz)
        · refine x_iload_n (pc' := 44) K 3 dX8_foreign_43 rfl rfl ?_
          refine x_g (fun z => Sum.inr (Sum.inr z)) (x_C (C8 := (XEnd below s D h0 (fun v => .inl (some (xI v))) Q)) (fun z hz => hd1 z hz) ?_)
          exact x_iret K rfl hr dX8_foreign_44
      · refine x_goto (tgt := 48) K dX8_foreign_35 (by decide) ?_
        refine x_iinc (pc' := 51) (y := 1) (lv' := [(3, xI (v3 + 1)), (0, xR v0), (1, xI v1), (2, xI v2)]) K 3 dX8_foreign_48 rfl rfl (by decide) (by decide) rfl ?_
        refine x_goto (tgt := 13) K dX8_foreign_51 (by decide) ?_
        refine x_sub (lv' := [(0, xR v0), (1, xI v1), (2, xI v2), (3, xI (v3 + 1))]) [1, 2, 3, 0] rfl ?_
        exact x_jump (fun hz => hj1 (v0, v1, v2, (v3 + 1)) hz)
  have hA54_0 : ∀ (v1 : Int32) (v2 : Int32) (g : AH), XF p l e R s m args below meth c D 4 h0 Q 54 [(1, xI v1), (2, xI v2)] [] g (fM_foreign_a54 v1 v2 g) (XEnd below s D h0 (fun v => .inl (some (xI v))) Q) := by
    intro v1 v2 g
    unfold fM_foreign_a54
    refine x_iload_n (pc' := 55) K 0 dX8_foreign_54 rfl rfl ?_
    refine x_iconst (pc' := 56) (v := (-1)) K dX8_foreign_55 rfl rfl ?_
    refine x_icmp_ne (tgt := 63) (pc' := 59) K dX8_foreign_56 rfl (by decide) ?_ ?_
    · refine x_iconst (pc' := 64) (v := (-1)) K dX8_foreign_63 rfl rfl ?_
      exact x_iret K rfl hr dX8_foreign_64
    · refine x_iload_n (pc' := 60) K 1 dX8_foreign_59 rfl rfl ?_
      refine x_goto (tgt := 64) K dX8_foreign_60 (by decide) ?_
      exact x_iret K rfl hr dX8_foreign_64
  refine (?_ : XF p l e R s m args below meth c D 4 h0 Q 0 [(0, xR v0), (1, xI v1)] [] h0 (fM_foreign v0 v1 h0) (XEnd below s D h0 (fun v => .inl (some (xI v))) Q)) (a, h1) hF hQ.symm
  unfold fM_foreign
  refine x_aload_n (pc' := 1) K 0 dX8_foreign_0 rfl rfl ?_
  refine x_iconst (pc' := 2) (v := 0) K dX8_foreign_1 rfl rfl ?_
  refine x_puti (pc' := 5) K fp_14_0 (Or.inl (K.2.2.2.2.1 _ q1312)) (fun _ h9 => h9) (Or.inl rfl) dX8_foreign_2 rfl (fun g1 => ?_)
  refine x_aload_n (pc' := 6) K 0 dX8_foreign_5 rfl rfl ?_
  refine x_cV (pc' := 9) (As := []) (en := (fun _ => none)) (rest := []) K (fun a h1 hF => ct_X8_lay hF) rfl (by decide) q1479 q1481 qs31 q1482 q105 hy_X8_lay (Nat.le_of_ble_eq_true rfl) (Nat.le_of_ble_eq_true rfl) (Nat.le_of_ble_eq_true rfl) dX8_foreign_6 rfl (fun x_ g2 => ?_)
  refine x_iconst (pc' := 10) (v := 0) K dX8_foreign_9 rfl rfl ?_
  refine x_istore_n (pc' := 11) (lv' := [(2, xI (0 : Int32)), (0, xR v0), (1, xI v1)]) K dX8_foreign_10 rfl (by decide) rfl ?_
  refine x_iconst (pc' := 12) (v := 0) K dX8_foreign_11 rfl rfl ?_
  refine x_istore_n (pc' := 13) (lv' := [(3, xI (0 : Int32)), (2, xI (0 : Int32)), (0, xR v0), (1, xI v1)]) K dX8_foreign_12 rfl (by decide) rfl ?_
  refine x_sub (lv' := [(0, xR v0), (1, xI v1), (2, xI (0 : Int32)), (3, xI (0 : Int32))]) [2, 3, 1, 0] rfl ?_
  exact x_loop (pl := (fun s9 : (Nat × Int32 × Int32 × Int32) => [(0, xR s9.1), (1, xI s9.2.1), (2, xI s9.2.2.1), (3, xI s9.2.2.2)])) (ph := (fun s9 : (Nat × Int32 × Int32 × Int32) => g2)) (Sum.elim (fun r9 : (Int32 × Int32) => XG p l e R s m args below meth c D 4 h0 Q 54 [(1, xI r9.1), (2, xI r9.2)] [] g2) (XEnd below s D h0 (fun v => .inl (some (xI v))) Q)) (fun s9 => hL13 g2 _ (fun _ hz => hz) (fun _ hz => hz) (fun _ hz => hz) s9.1 s9.2.1 s9.2.2.1 s9.2.2.2) (x_ex2 (fun r9 x hx hc => hA54_0 r9.1 r9.2 g2 x hx hc)) (v0, v1, (0 : Int32), (0 : Int32))
/-! FaceCoinsModel.silver(I)I -/
noncomputable def fM_silver_l45 (v0 : Nat) (v2 : Int32) (v3 : Int32) (g : AH) : Option ((Nat × Int32 × Int32) ⊕ Int32) :=
  (xck g v0 14 (fM_coins v0 g)).bind fun x3 =>
  if x3 ≤ v3 then (
    some (Sum.inr v2))
  else (
    (xck g v0 14 (fM_ofCoin v0 v3 (0 : Int32) g)).bind fun x4 =>
    some (Sum.inl (v0, (v2 + x4), (v3 + 1))))
noncomputable def fM_silver_a68 (v2 : Int32) (g : AH) : Option (Int32 × AH) :=
  some ((v2, g))
noncomputable def fM_silver (v0 : Nat) (v1 : Int32) (h0 : AH) : Option (Int32 × AH) :=
  (xpi h0 v0 [14] 0 (0 : Int32)).bind fun g1 =>
  xb2 (xck g1 v0 14 (fM_lay v0 g1)) fun x_ g2 =>
  if v1 = 0 then (
    (xgr g2 v0 [14] 14).bind fun x7 =>
    (xai g2 x7 100 (114 : Int32)).bind fun x8 =>
    some ((x8, g2)))
  else (
    if v1 = (2 : Int32) then (
      (xgr g2 v0 [14] 14).bind fun x5 =>
      (xai g2 x5 100 (115 : Int32)).bind fun x6 =>
      some ((x6, g2)))
    else (
      if v1 = (1 : Int32) then (
        (xloop (fun s9 : (Nat × Int32 × Int32) => fM_silver_l45 s9.1 s9.2.1 s9.2.2 g2) (v0, (0 : Int32), (0 : Int32))).bind (fun r9 : Int32 => fM_silver_a68 r9 g2))
      else (
        some ((((-1) : Int32), g2)))))
set_option maxHeartbeats 4000000 in
theorem ct_X8_silver {l : Launch} {D : XD} {v0 : Nat} {v1 : Int32} {h0 : AH} {a : Int32} {h1 : AH} (hF : fM_silver v0 v1 h0 = some (a, h1)) : XCt l D yX8_silver (ws_ yX8_silver cX8_silver 4 (some .int)) 2 41 [xR v0, xI v1] h0 (.inl (some (xI a))) h1 := by
  refine x_method (by decide) (Nat.le_of_ble_eq_true rfl) fun p e R s m args below meth c K hr hnm hex => ?_
  have K : XO p R s m args meth c D 4 h0 cX8_silver "FaceCoinsModel" 2 41 := K
  generalize hQ : XMQ below _ _ _ _ _ _ = Q
  have hL45 : ∀ (g : AH) (C1 : ((Nat × Int32 × Int32) ⊕ Int32) → Prop) (hj1 : ∀ s9 : (Nat × Int32 × Int32), C1 (Sum.inl s9) → XG p l e R s m args below meth c D 4 h0 Q 45 [(0, xR s9.1), (2, xI s9.2.1), (3, xI s9.2.2)] [] g) (he1 : ∀ r9 : Int32, C1 (Sum.inr r9) → XG p l e R s m args below meth c D 4 h0 Q 68 [(2, xI r9)] [] g) (v0 : Nat) (v2 : Int32) (v3 : Int32), XF p l e R s m args below meth c D 4 h0 Q 45 [(0, xR v0), (2, xI v2), (3, xI v3)] [] g (fM_silver_l45 v0 v2 v3 g) C1 := by
    intro g C1 hj1 he1
    intro v0 v2 v3
    unfold fM_silver_l45
    refine x_iload_n (pc' := 46) K 2 dX8_silver_45 rfl rfl ?_
    refine x_aload_n (pc' := 47) K 0 dX8_silver_46 rfl rfl ?_
    refine x_cVO (pc' := 50) (As := []) (en := (fun v => some (xI v))) (rest := [xI v3]) K (fun a hF => ct_X8_coins hF) rfl (by decide) q1602 q1604 qs54 q1605 q105 hy_X8_coins (Nat.le_of_ble_eq_true rfl) (Nat.le_of_ble_eq_true rfl) (Nat.le_of_ble_eq_true rfl) dX8_silver_47 rfl (fun x3 => ?_)
    refine x_icmp_ge (tgt := 68) (pc' := 53) K dX8_silver_50 rfl (by decide) ?_ ?_
    · refine x_sub (lv' := [(2, xI v2)]) [1] rfl ?_
      exact x_jump (fun hz => he1 v2 hz)
    · refine x_iload_n (pc' := 54) K 1 dX8_silver_53 rfl rfl ?_
      refine x_aload_n (pc' := 55) K 0 dX8_silver_54 rfl rfl ?_
      refine x_iload_n (pc' := 56) K 2 dX8_silver_55 rfl rfl ?_
      refine x_iconst (pc' := 57) (v := 0) K dX8_silver_56 rfl rfl ?_
      refine x_cVO (pc' := 60) (As := [xI v3, xI (0 : Int32)]) (en := (fun v => some (xI v))) (rest := [xI v2]) K (fun a hF => ct_X8_ofCoin hF) rfl (by decide) q1610 q1612 qs56 q1613 q105 hy_X8_ofCoin (Nat.le_of_ble_eq_true rfl) (Nat.le_of_ble_eq_true rfl) (Nat.le_of_ble_eq_true rfl) dX8_silver_57 rfl (fun x4 => ?_)
      refine x_iadd (pc' := 61) K dX8_silver_60 rfl ?_
      refine x_istore_n (pc' := 62) (lv' := [(2, xI (v2 + x4)), (0, xR v0), (3, xI v3)]) K dX8_silver_61 rfl (by decide) rfl ?_
      refine x_iinc (pc' := 65) (y := 1) (lv' := [(3, xI (v3 + 1)), (2, xI (v2 + x4)), (0, xR v0)]) K 2 dX8_silver_62 rfl rfl (by decide) (by decide) rfl ?_
      refine x_goto (tgt := 45) K dX8_silver_65 (by decide) ?_
      refine x_sub (lv' := [(0, xR v0), (2, xI (v2 + x4)), (3, xI (v3 + 1))]) [2, 1, 0] rfl ?_
      exact x_jump (fun hz => hj1 (v0, (v2 + x4), (v3 + 1)) hz)
  have hA68_0 : ∀ (v2 : Int32) (g : AH), XF p l e R s m args below meth c D 4 h0 Q 68 [(2, xI v2)] [] g (fM_silver_a68 v2 g) (XEnd below s D h0 (fun v => .inl (some (xI v))) Q) := by
    intro v2 g
    unfold fM_silver_a68
    refine x_iload_n (pc' := 69) K 0 dX8_silver_68 rfl rfl ?_
    exact x_iret K rfl hr dX8_silver_69
  refine (?_ : XF p l e R s m args below meth c D 4 h0 Q 0 [(0, xR v0), (1, xI v1)] [] h0 (fM_silver v0 v1 h0) (XEnd below s D h0 (fun v => .inl (some (xI v))) Q)) (a, h1) hF hQ.symm
  unfold fM_silver
  refine x_aload_n (pc' := 1) K 0 dX8_silver_0 rfl rfl ?_
  refine x_iconst (pc' := 2) (v := 0) K dX8_silver_1 rfl rfl ?_
  refine x_puti (pc' := 5) K fp_14_0 (Or.inl (K.2.2.2.2.1 _ q1312)) (fun _ h9 => h9) (Or.inl rfl) dX8_silver_2 rfl (fun g1 => ?_)
  refine x_aload_n (pc' := 6) K 0 dX8_silver_5 rfl rfl ?_
  refine x_cV (pc' := 9) (As := []) (en := (fun _ => none)) (rest := []) K (fun a h1 hF => ct_X8_lay hF) rfl (by decide) q1479 q1481 qs31 q1482 q105 hy_X8_lay (Nat.le_of_ble_eq_true rfl) (Nat.le_of_ble_eq_true rfl) (Nat.le_of_ble_eq_true rfl) dX8_silver_6 rfl (fun x_ g2 => ?_)
  refine x_iload_n (pc' := 10) K 1 dX8_silver_9 rfl rfl ?_
  refine x_if_ne (tgt := 21) (pc' := 13) K dX8_silver_10 rfl (by decide) ?_ ?_
  · refine x_iload_n (pc' := 22) K 1 dX8_silver_21 rfl rfl ?_
    refine x_iconst (pc' := 23) (v := 2) K dX8_silver_22 rfl rfl ?_
    refine x_icmp_ne (tgt := 34) (pc' := 26) K dX8_silver_23 rfl (by decide) ?_ ?_
    · refine x_iload_n (pc' := 35) K 1 dX8_silver_34 rfl rfl ?_
      refine x_iconst (pc' := 36) (v := 1) K dX8_silver_35 rfl rfl ?_
      refine x_icmp_eq (tgt := 41) (pc' := 39) K dX8_silver_36 rfl (by decide) ?_ ?_
      · refine x_iconst (pc' := 42) (v := 0) K dX8_silver_41 rfl rfl ?_
        refine x_istore_n (pc' := 43) (lv' := [(2, xI (0 : Int32)), (0, xR v0), (1, xI v1)]) K dX8_silver_42 rfl (by decide) rfl ?_
        refine x_iconst (pc' := 44) (v := 0) K dX8_silver_43 rfl rfl ?_
        refine x_istore_n (pc' := 45) (lv' := [(3, xI (0 : Int32)), (2, xI (0 : Int32)), (0, xR v0), (1, xI v1)]) K dX8_silver_44 rfl (by decide) rfl ?_
        refine x_sub (lv' := [(0, xR v0), (2, xI (0 : Int32)), (3, xI (0 : Int32))]) [2, 1, 0] rfl ?_
        exact x_loop (pl := (fun s9 : (Nat × Int32 × Int32) => [(0, xR s9.1), (2, xI s9.2.1), (3, xI s9.2.2)])) (ph := (fun s9 : (Nat × Int32 × Int32) => g2)) (fun r9 : Int32 => XG p l e R s m args below meth c D 4 h0 Q 68 [(2, xI r9)] [] g2) (fun s9 => hL45 g2 _ (fun _ hz => hz) (fun _ hz => hz) s9.1 s9.2.1 s9.2.2) (fun r9 x hx hc => hA68_0 r9 g2 x hx hc) (v0, (0 : Int32), (0 : Int32))
      · refine x_iconst (pc' := 40) (v := (-1)) K dX8_silver_39 rfl rfl ?_
        exact x_iret K rfl hr dX8_silver_40
    · refine x_aload_n (pc' := 27) K 0 dX8_silver_26 rfl rfl ?_
      refine x_getr (pc' := 30) K fg_14_14 (Or.inl (K.2.2.2.2.1 _ q1326)) (fun _ h9 => h9) dX8_silver_27 rfl (fun x5 => ?_)
      refine x_bipush (pc' := 32) (v := 115) K dX8_silver_30 rfl (by decide) ?_
      refine x_iald (pc' := 33) K dX8_silver_32 rfl (fun x6 => ?_)
      exact x_iret K rfl hr dX8_silver_33
  · refine x_aload_n (pc' := 14) K 0 dX8_silver_13 rfl rfl ?_
    refine x_getr (pc' := 17) K fg_14_14 (Or.inl (K.2.2.2.2.1 _ q1326)) (fun _ h9 => h9) dX8_silver_14 rfl (fun x7 => ?_)
    refine x_bipush (pc' := 19) (v := 114) K dX8_silver_17 rfl (by decide) ?_
    refine x_iald (pc' := 20) K dX8_silver_19 rfl (fun x8 => ?_)
    exact x_iret K rfl hr dX8_silver_20
/-! FaceCoinsModel.isLike(II)Z -/
noncomputable def fM_isLike_l10 (v0 : Nat) (v1 : Int32) (v3 : Int32) (v4 : Int32) (v5 : Int32) (g : AH) : Option ((Nat × Int32 × Int32 × Int32 × Int32 × AH) ⊕ (Nat × Int32 × Int32 × AH)) :=
  if v5 < 0 then (
    some (Sum.inr (v0, v1, v3, g)))
  else (
    (xgr g v0 [14] 34).bind fun x1 =>
    (xai g x1 100 v5).bind fun x2 =>
    (xck g v0 14 (fM_ofMint v0 x2 (1 : Int32) g)).bind fun x3 =>
    if 0 < ((9 : Int32) - v4) then (
      (xgr g v0 [14] 37).bind fun x4 =>
      (xgr g v0 [14] 33).bind fun x5 =>
      (xai g x5 100 v5).bind fun x6 =>
      (xsi g x4 v3 x6).bind fun g7 =>
      (xgr g7 v0 [14] 38).bind fun x8 =>
      (xsi g7 x8 v3 ((9 : Int32) - v4)).bind fun g9 =>
      some (Sum.inl (v0, v1, (v3 + 1), (v4 + x3), (v5 + (-1)), g9)))
    else (
      some (Sum.inl (v0, v1, v3, (v4 + x3), (v5 + (-1)), g))))
noncomputable def fM_isLike_l92 (v0 : Nat) (v1 : Int32) (v3 : Int32) (v5 : Int32) (g : AH) : Option ((Nat × Int32 × Int32 × Int32) ⊕ (Unit ⊕ (Int32 × AH))) :=
  if v3 ≤ v5 then (
    some (Sum.inr (Sum.inl ())))
  else (
    (xgr g v0 [14] 37).bind fun x11 =>
    (xai g x11 100 v5).bind fun x12 =>
    (xck g v0 14 (fM_ofCoin v0 v1 ((4 : Int32) + ((3 : Int32) * v5)) g)).bind fun x13 =>
    if x12 = x13 then (
      (xgr g v0 [14] 38).bind fun x14 =>
      (xai g x14 100 v5).bind fun x15 =>
      (xck g v0 14 (fM_ofCoin v0 v1 (((4 : Int32) + ((3 : Int32) * v5)) + (1 : Int32)) g)).bind fun x16 =>
      if x15 = x16 then (
        some (Sum.inl (v0, v1, v3, (v5 + 1))))
      else (
        some (Sum.inr (Sum.inr (((0 : Int32), g))))))
    else (
      some (Sum.inr (Sum.inr (((0 : Int32), g))))))
noncomputable def fM_isLike_a150  (g : AH) : Option (Int32 × AH) :=
  some (((1 : Int32), g))
noncomputable def fM_isLike_a77 (v0 : Nat) (v1 : Int32) (v3 : Int32) (g : AH) : Option (Int32 × AH) :=
  (xck g v0 14 (fM_ofCoin v0 v1 (3 : Int32) g)).bind fun x10 =>
  if v3 = x10 then (
    (xloop (fun s9 : (Nat × Int32 × Int32 × Int32) => fM_isLike_l92 s9.1 s9.2.1 s9.2.2.1 s9.2.2.2 g) (v0, v1, v3, (0 : Int32))).bind (Sum.elim (fun r9 : Unit => fM_isLike_a150 g) some))
  else (
    some (((0 : Int32), g)))
noncomputable def fM_isLike (v0 : Nat) (v1 : Int32) (v2 : Int32) (h0 : AH) : Option (Int32 × AH) :=
  (xloop (fun s9 : (Nat × Int32 × Int32 × Int32 × Int32 × AH) => fM_isLike_l10 s9.1 s9.2.1 s9.2.2.1 s9.2.2.2.1 s9.2.2.2.2.1 s9.2.2.2.2.2) (v0, v1, (0 : Int32), (0 : Int32), (v2 - (1 : Int32)), h0)).bind (fun r9 : (Nat × Int32 × Int32 × AH) => fM_isLike_a77 r9.1 r9.2.1 r9.2.2.1 r9.2.2.2)
set_option maxHeartbeats 4000000 in
theorem ct_X8_isLike {l : Launch} {D : XD} {v0 : Nat} {v1 : Int32} {v2 : Int32} {h0 : AH} {a : Int32} {h1 : AH} (hF : fM_isLike v0 v1 v2 h0 = some (a, h1)) : XCt l D yX8_isLike (ws_ yX8_isLike cX8_isLike 7 (some .boolean)) 1 22 [xR v0, xI v1, xI v2] h0 (.inl (some (xI a))) h1 := by
  refine x_method (by decide) (Nat.le_of_ble_eq_true rfl) fun p e R s m args below meth c K hr hnm hex => ?_
  have K : XO p R s m args meth c D 7 h0 cX8_isLike "FaceCoinsModel" 1 22 := K
  generalize hQ : XMQ below _ _ _ _ _ _ = Q
  have hL10 : ∀ (C1 : ((Nat × Int32 × Int32 × Int32 × Int32 × AH) ⊕ (Nat × Int32 × Int32 × AH)) → Prop) (hj1 : ∀ s9 : (Nat × Int32 × Int32 × Int32 × Int32 × AH), C1 (Sum.inl s9) → XG p l e R s m args below meth c D 7 h0 Q 10 [(0, xR s9.1), (1, xI s9.2.1), (3, xI s9.2.2.1), (4, xI s9.2.2.2.1), (5, xI s9.2.2.2.2.1)] [] s9.2.2.2.2.2) (he1 : ∀ r9 : (Nat × Int32 × Int32 × AH), C1 (Sum.inr r9) → XG p l e R s m args below meth c D 7 h0 Q 77 [(0, xR r9.1), (1, xI r9.2.1), (3, xI r9.2.2.1)] [] r9.2.2.2) (v0 : Nat) (v1 : Int32) (v3 : Int32) (v4 : Int32) (v5 : Int32) (g : AH), XF p l e R s m args below meth c D 7 h0 Q 10 [(0, xR v0), (1, xI v1), (3, xI v3), (4, xI v4), (5, xI v5)] [] g (fM_isLike_l10 v0 v1 v3 v4 v5 g) C1 := by
    intro C1 hj1 he1
    intro v0 v1 v3 v4 v5 g
    unfold fM_isLike_l10
    refine x_iload (pc' := 12) K 4 dX8_isLike_10 rfl rfl ?_
    refine x_if_lt (tgt := 77) (pc' := 15) K dX8_isLike_12 rfl (by decide) ?_ ?_
    · refine x_sub (lv' := [(0, xR v0), (1, xI v1), (3, xI v3)]) [0, 1, 2] rfl ?_
      exact x_jump (fun hz => he1 (v0, v1, v3, g) hz)
    · refine x_bipush (pc' := 17) (v := 9) K dX8_isLike_15 rfl (by decide) ?_
      refine x_iload (pc' := 19) K 3 dX8_isLike_17 rfl rfl ?_
      refine x_isub (pc' := 20) K dX8_isLike_19 rfl ?_
      refine x_istore (pc' := 22) (lv' := [(6, xI ((9 : Int32) - v4)), (0, xR v0), (1, xI v1), (3, xI v3), (4, xI v4), (5, xI v5)]) K dX8_isLike_20 rfl (by decide) rfl ?_
      refine x_iload (pc' := 24) K 4 dX8_isLike_22 rfl rfl ?_
      refine x_aload_n (pc' := 25) K 1 dX8_isLike_24 rfl rfl ?_
      refine x_aload_n (pc' := 26) K 1 dX8_isLike_25 rfl rfl ?_
      refine x_getr (pc' := 29) K fg_14_34 (Or.inl (K.2.2.2.2.1 _ q1346)) (fun _ h9 => h9) dX8_isLike_26 rfl (fun x1 => ?_)
      refine x_iload (pc' := 31) K 5 dX8_isLike_29 rfl rfl ?_
      refine x_iald (pc' := 32) K dX8_isLike_31 rfl (fun x2 => ?_)
      refine x_iconst (pc' := 33) (v := 1) K dX8_isLike_32 rfl rfl ?_
      refine x_cVO (pc' := 36) (As := [xI x2, xI (1 : Int32)]) (en := (fun v => some (xI v))) (rest := [xI v4]) K (fun a hF => ct_X8_ofMint hF) rfl (by decide) q1626 q1628 qs59 q1629 q105 hy_X8_ofMint (Nat.le_of_ble_eq_true rfl) (Nat.le_of_ble_eq_true rfl) (Nat.le_of_ble_eq_true rfl) dX8_isLike_33 rfl (fun x3 => ?_)
      refine x_iadd (pc' := 37) K dX8_isLike_36 rfl ?_
      refine x_istore (pc' := 39) (lv' := [(4, xI (v4 + x3)), (6, xI ((9 : Int32) - v4)), (0, xR v0), (1, xI v1), (3, xI v3), (5, xI v5)]) K dX8_isLike_37 rfl (by decide) rfl ?_
      refine x_iload (pc' := 41) K 1 dX8_isLike_39 rfl rfl ?_
      refine x_if_gt (tgt := 47) (pc' := 44) K dX8_isLike_41 rfl (by decide) ?_ ?_
      · refine x_aload_n (pc' := 48) K 2 dX8_isLike_47 rfl rfl ?_
        refine x_getr (pc' := 51) K fg_14_37 (Or.inl (K.2.2.2.2.1 _ q1349)) (fun _ h9 => h9) dX8_isLike_48 rfl (fun x4 => ?_)
        refine x_iload_n (pc' := 52) K 4 dX8_isLike_51 rfl rfl ?_
        refine x_aload_n (pc' := 53) K 2 dX8_isLike_52 rfl rfl ?_
        refine x_getr (pc' := 56) K fg_14_33 (Or.inl (K.2.2.2.2.1 _ q1345)) (fun _ h9 => h9) dX8_isLike_53 rfl (fun x5 => ?_)
        refine x_iload (pc' := 58) K 5 dX8_isLike_56 rfl rfl ?_
        refine x_iald (pc' := 59) K dX8_isLike_58 rfl (fun x6 => ?_)
        refine x_iast (pc' := 60) K dX8_isLike_59 rfl (fun g7 => ?_)
        refine x_aload_n (pc' := 61) K 2 dX8_isLike_60 rfl rfl ?_
        refine x_getr (pc' := 64) K fg_14_38 (Or.inl (K.2.2.2.2.1 _ q1350)) (fun _ h9 => h9) dX8_isLike_61 rfl (fun x8 => ?_)
        refine x_iload_n (pc' := 65) K 4 dX8_isLike_64 rfl rfl ?_
        refine x_iload (pc' := 67) K 1 dX8_isLike_65 rfl rfl ?_
        refine x_iast (pc' := 68) K dX8_isLike_67 rfl (fun g9 => ?_)
        refine x_iinc (pc' := 71) (y := 1) (lv' := [(3, xI (v3 + 1)), (4, xI (v4 + x3)), (6, xI ((9 : Int32) - v4)), (0, xR v0), (1, xI v1), (5, xI v5)]) K 4 dX8_isLike_68 rfl rfl (by decide) (by decide) rfl ?_
        refine x_iinc (pc' := 74) (y := (-1)) (lv' := [(5, xI (v5 + (-1))), (3, xI (v3 + 1)), (4, xI (v4 + x3)), (6, xI ((9 : Int32) - v4)), (0, xR v0), (1, xI v1)]) K 5 dX8_isLike_71 rfl rfl (by decide) (by decide) rfl ?_
        refine x_goto (tgt := 10) K dX8_isLike_74 (by decide) ?_
        refine x_sub (lv' := [(0, xR v0), (1, xI v1), (3, xI (v3 + 1)), (4, xI (v4 + x3)), (5, xI (v5 + (-1)))]) [4, 5, 1, 2, 0] rfl ?_
        exact x_jump (fun hz => hj1 (v0, v1, (v3 + 1), (v4 + x3), (v5 + (-1)), g9) hz)
      · refine x_goto (tgt := 71) K dX8_isLike_44 (by decide) ?_
        refine x_iinc (pc' := 74) (y := (-1)) (lv' := [(5, xI (v5 + (-1))), (4, xI (v4 + x3)), (6, xI ((9 : Int32) - v4)), (0, xR v0), (1, xI v1), (3, xI v3)]) K 5 dX8_isLike_71 rfl rfl (by decide) (by decide) rfl ?_
        refine x_goto (tgt := 10) K dX8_isLike_74 (by decide) ?_
        refine x_sub (lv' := [(0, xR v0), (1, xI v1), (3, xI v3), (4, xI (v4 + x3)), (5, xI (v5 + (-1)))]) [3, 4, 5, 1, 0] rfl ?_
        exact x_jump (fun hz => hj1 (v0, v1, v3, (v4 + x3), (v5 + (-1)), g) hz)
  have hL92 : ∀ (g : AH) (C1 : ((Nat × Int32 × Int32 × Int32) ⊕ (Unit ⊕ (Int32 × AH))) → Prop) (hj1 : ∀ s9 : (Nat × Int32 × Int32 × Int32), C1 (Sum.inl s9) → XG p l e R s m args below meth c D 7 h0 Q 92 [(0, xR s9.1), (1, xI s9.2.1), (3, xI s9.2.2.1), (5, xI s9.2.2.2)] [] g) (he1 : ∀ r9 : Unit, C1 (Sum.inr (Sum.inl r9)) → XG p l e R s m args below meth c D 7 h0 Q 150 [] [] g) (hd1 : ∀ y9 : (Int32 × AH), C1 (Sum.inr (Sum.inr y9)) → (XEnd below s D h0 (fun v => .inl (some (xI v))) Q) y9) (v0 : Nat) (v1 : Int32) (v3 : Int32) (v5 : Int32), XF p l e R s m args below meth c D 7 h0 Q 92 [(0, xR v0), (1, xI v1), (3, xI v3), (5, xI v5)] [] g (fM_isLike_l92 v0 v1 v3 v5 g) C1 := by
    intro g C1 hj1 he1 hd1
    intro v0 v1 v3 v5
    unfold fM_isLike_l92
    refine x_iload (pc' := 94) K 3 dX8_isLike_92 rfl rfl ?_
    refine x_iload_n (pc' := 95) K 2 dX8_isLike_94 rfl rfl ?_
    refine x_icmp_ge (tgt := 150) (pc' := 98) K dX8_isLike_95 rfl (by decide) ?_ ?_
    · refine x_sub (lv' := []) [] rfl ?_
      exact x_jump (fun hz => he1 () hz)
    · refine x_aload_n (pc' := 99) K 0 dX8_isLike_98 rfl rfl ?_
      refine x_getr (pc' := 102) K fg_14_37 (Or.inl (K.2.2.2.2.1 _ q1349)) (fun _ h9 => h9) dX8_isLike_99 rfl (fun x11 => ?_)
      refine x_iload (pc' := 104) K 3 dX8_isLike_102 rfl rfl ?_
      refine x_iald (pc' := 105) K dX8_isLike_104 rfl (fun x12 => ?_)
      refine x_aload_n (pc' := 106) K 0 dX8_isLike_105 rfl rfl ?_
      refine x_iload_n (pc' := 107) K 1 dX8_isLike_106 rfl rfl ?_
      refine x_iconst (pc' := 108) (v := 4) K dX8_isLike_107 rfl rfl ?_
      refine x_iconst (pc' := 109) (v := 3) K dX8_isLike_108 rfl rfl ?_
      refine x_iload (pc' := 111) K 3 dX8_isLike_109 rfl rfl ?_
      refine x_imul (pc' := 112) K dX8_isLike_111 rfl ?_
      refine x_iadd (pc' := 113) K dX8_isLike_112 rfl ?_
      refine x_cVO (pc' := 116) (As := [xI v1, xI ((4 : Int32) + ((3 : Int32) * v5))]) (en := (fun v => some (xI v))) (rest := [xI x12]) K (fun a hF => ct_X8_ofCoin hF) rfl (by decide) q1610 q1612 qs56 q1613 q105 hy_X8_ofCoin (Nat.le_of_ble_eq_true rfl) (Nat.le_of_ble_eq_true rfl) (Nat.le_of_ble_eq_true rfl) dX8_isLike_113 rfl (fun x13 => ?_)
      refine x_icmp_ne (tgt := 142) (pc' := 119) K dX8_isLike_116 rfl (by decide) ?_ ?_
      · refine x_iconst (pc' := 143) (v := 0) K dX8_isLike_142 rfl rfl ?_
        refine x_g (fun z => Sum.inr (Sum.inr z)) (x_C (C8 := (XEnd below s D h0 (fun v => .inl (some (xI v))) Q)) (fun z hz => hd1 z hz) ?_)
        exact x_zret K (Or.inl rfl) rfl hr dX8_isLike_143
      · refine x_aload_n (pc' := 120) K 0 dX8_isLike_119 rfl rfl ?_
        refine x_getr (pc' := 123) K fg_14_38 (Or.inl (K.2.2.2.2.1 _ q1350)) (fun _ h9 => h9) dX8_isLike_120 rfl (fun x14 => ?_)
        refine x_iload (pc' := 125) K 3 dX8_isLike_123 rfl rfl ?_
        refine x_iald (pc' := 126) K dX8_isLike_125 rfl (fun x15 => ?_)
        refine x_aload_n (pc' := 127) K 0 dX8_isLike_126 rfl rfl ?_
        refine x_iload_n (pc' := 128) K 1 dX8_isLike_127 rfl rfl ?_
        refine x_iconst (pc' := 129) (v := 4) K dX8_isLike_128 rfl rfl ?_
        refine x_iconst (pc' := 130) (v := 3) K dX8_isLike_129 rfl rfl ?_
        refine x_iload (pc' := 132) K 3 dX8_isLike_130 rfl rfl ?_
        refine x_imul (pc' := 133) K dX8_isLike_132 rfl ?_
        refine x_iadd (pc' := 134) K dX8_isLike_133 rfl ?_
        refine x_iconst (pc' := 135) (v := 1) K dX8_isLike_134 rfl rfl ?_
        refine x_iadd (pc' := 136) K dX8_isLike_135 rfl ?_
        refine x_cVO (pc' := 139) (As := [xI v1, xI (((4 : Int32) + ((3 : Int32) * v5)) + (1 : Int32))]) (en := (fun v => some (xI v))) (rest := [xI x15]) K (fun a hF => ct_X8_ofCoin hF) rfl (by decide) q1610 q1612 qs56 q1613 q105 hy_X8_ofCoin (Nat.le_of_ble_eq_true rfl) (Nat.le_of_ble_eq_true rfl) (Nat.le_of_ble_eq_true rfl) dX8_isLike_136 rfl (fun x16 => ?_)
        refine x_icmp_eq (tgt := 144) (pc' := 142) K dX8_isLike_139 rfl (by decide) ?_ ?_
        · refine x_iinc (pc' := 147) (y := 1) (lv' := [(5, xI (v5 + 1)), (0, xR v0), (1, xI v1), (3, xI v3)]) K 3 dX8_isLike_144 rfl rfl (by decide) (by decide) rfl ?_
          refine x_goto (tgt := 92) K dX8_isLike_147 (by decide) ?_
          refine x_sub (lv' := [(0, xR v0), (1, xI v1), (3, xI v3), (5, xI (v5 + 1))]) [1, 2, 3, 0] rfl ?_
          exact x_jump (fun hz => hj1 (v0, v1, v3, (v5 + 1)) hz)
        · refine x_iconst (pc' := 143) (v := 0) K dX8_isLike_142 rfl rfl ?_
          refine x_g (fun z => Sum.inr (Sum.inr z)) (x_C (C8 := (XEnd below s D h0 (fun v => .inl (some (xI v))) Q)) (fun z hz => hd1 z hz) ?_)
          exact x_zret K (Or.inl rfl) rfl hr dX8_isLike_143
  have hA150_0 : ∀  (g : AH), XF p l e R s m args below meth c D 7 h0 Q 150 [] [] g (fM_isLike_a150 g) (XEnd below s D h0 (fun v => .inl (some (xI v))) Q) := by
    intro  g
    unfold fM_isLike_a150
    refine x_iconst (pc' := 151) (v := 1) K dX8_isLike_150 rfl rfl ?_
    exact x_zret K (Or.inr rfl) rfl hr dX8_isLike_151
  have hA77_0 : ∀ (v0 : Nat) (v1 : Int32) (v3 : Int32) (g : AH), XF p l e R s m args below meth c D 7 h0 Q 77 [(0, xR v0), (1, xI v1), (3, xI v3)] [] g (fM_isLike_a77 v0 v1 v3 g) (XEnd below s D h0 (fun v => .inl (some (xI v))) Q) := by
    intro v0 v1 v3 g
    unfold fM_isLike_a77
    refine x_iload_n (pc' := 78) K 2 dX8_isLike_77 rfl rfl ?_
    refine x_aload_n (pc' := 79) K 0 dX8_isLike_78 rfl rfl ?_
    refine x_iload_n (pc' := 80) K 1 dX8_isLike_79 rfl rfl ?_
    refine x_iconst (pc' := 81) (v := 3) K dX8_isLike_80 rfl rfl ?_
    refine x_cVO (pc' := 84) (As := [xI v1, xI (3 : Int32)]) (en := (fun v => some (xI v))) (rest := [xI v3]) K (fun a hF => ct_X8_ofCoin hF) rfl (by decide) q1610 q1612 qs56 q1613 q105 hy_X8_ofCoin (Nat.le_of_ble_eq_true rfl) (Nat.le_of_ble_eq_true rfl) (Nat.le_of_ble_eq_true rfl) dX8_isLike_81 rfl (fun x10 => ?_)
    refine x_icmp_eq (tgt := 89) (pc' := 87) K dX8_isLike_84 rfl (by decide) ?_ ?_
    · refine x_iconst (pc' := 90) (v := 0) K dX8_isLike_89 rfl rfl ?_
      refine x_istore (pc' := 92) (lv' := [(5, xI (0 : Int32)), (0, xR v0), (1, xI v1), (3, xI v3)]) K dX8_isLike_90 rfl (by decide) rfl ?_
      refine x_sub (lv' := [(0, xR v0), (1, xI v1), (3, xI v3), (5, xI (0 : Int32))]) [1, 2, 3, 0] rfl ?_
      exact x_loop (pl := (fun s9 : (Nat × Int32 × Int32 × Int32) => [(0, xR s9.1), (1, xI s9.2.1), (3, xI s9.2.2.1), (5, xI s9.2.2.2)])) (ph := (fun s9 : (Nat × Int32 × Int32 × Int32) => g)) (Sum.elim (fun r9 : Unit => XG p l e R s m args below meth c D 7 h0 Q 150 [] [] g) (XEnd below s D h0 (fun v => .inl (some (xI v))) Q)) (fun s9 => hL92 g _ (fun _ hz => hz) (fun _ hz => hz) (fun _ hz => hz) s9.1 s9.2.1 s9.2.2.1 s9.2.2.2) (x_ex2 (fun r9 x hx hc => hA150_0 g x hx hc)) (v0, v1, v3, (0 : Int32))
    · refine x_iconst (pc' := 88) (v := 0) K dX8_isLike_87 rfl rfl ?_
      exact x_zret K (Or.inl rfl) rfl hr dX8_isLike_88
  refine (?_ : XF p l e R s m args below meth c D 7 h0 Q 0 [(0, xR v0), (1, xI v1), (2, xI v2)] [] h0 (fM_isLike v0 v1 v2 h0) (XEnd below s D h0 (fun v => .inl (some (xI v))) Q)) (a, h1) hF hQ.symm
  unfold fM_isLike
  refine x_iconst (pc' := 1) (v := 0) K dX8_isLike_0 rfl rfl ?_
  refine x_istore_n (pc' := 2) (lv' := [(3, xI (0 : Int32)), (0, xR v0), (1, xI v1), (2, xI v2)]) K dX8_isLike_1 rfl (by decide) rfl ?_
  refine x_iconst (pc' := 3) (v := 0) K dX8_isLike_2 rfl rfl ?_
  refine x_istore (pc' := 5) (lv' := [(4, xI (0 : Int32)), (3, xI (0 : Int32)), (0, xR v0), (1, xI v1), (2, xI v2)]) K dX8_isLike_3 rfl (by decide) rfl ?_
  refine x_iload_n (pc' := 6) K 4 dX8_isLike_5 rfl rfl ?_
  refine x_iconst (pc' := 7) (v := 1) K dX8_isLike_6 rfl rfl ?_
  refine x_isub (pc' := 8) K dX8_isLike_7 rfl ?_
  refine x_istore (pc' := 10) (lv' := [(5, xI (v2 - (1 : Int32))), (4, xI (0 : Int32)), (3, xI (0 : Int32)), (0, xR v0), (1, xI v1), (2, xI v2)]) K dX8_isLike_8 rfl (by decide) rfl ?_
  refine x_sub (lv' := [(0, xR v0), (1, xI v1), (3, xI (0 : Int32)), (4, xI (0 : Int32)), (5, xI (v2 - (1 : Int32)))]) [3, 4, 2, 1, 0] rfl ?_
  exact x_loop (pl := (fun s9 : (Nat × Int32 × Int32 × Int32 × Int32 × AH) => [(0, xR s9.1), (1, xI s9.2.1), (3, xI s9.2.2.1), (4, xI s9.2.2.2.1), (5, xI s9.2.2.2.2.1)])) (ph := (fun s9 : (Nat × Int32 × Int32 × Int32 × Int32 × AH) => s9.2.2.2.2.2)) (fun r9 : (Nat × Int32 × Int32 × AH) => XG p l e R s m args below meth c D 7 h0 Q 77 [(0, xR r9.1), (1, xI r9.2.1), (3, xI r9.2.2.1)] [] r9.2.2.2) (fun s9 => hL10 _ (fun _ hz => hz) (fun _ hz => hz) s9.1 s9.2.1 s9.2.2.1 s9.2.2.2.1 s9.2.2.2.2.1 s9.2.2.2.2.2) (fun r9 x hx hc => hA77_0 r9.1 r9.2.1 r9.2.2.1 r9.2.2.2 x hx hc) (v0, v1, (0 : Int32), (0 : Int32), (v2 - (1 : Int32)), h0)
/-! FaceCoinsModel.tryRows(IIII)V -/
noncomputable def fM_tryRows_l152 (rc : ((Nat → Int32 → Int32 → Int32 → Int32 → AH → Option (Unit × AH)))) (v0 : Nat) (v1 : Int32) (v2 : Int32) (v3 : Int32) (v4 : Int32) (v5 : Int32) (v6 : Int32) (v7 : Int32) (g : AH) : Option ((Nat × Int32 × Int32 × Int32 × Int32 × Int32 × Int32 × Int32 × AH) ⊕ (Nat × Int32 × Int32 × Int32 × Int32 × Int32 × AH)) :=
  (xck g v0 14 (fM_people v0 g)).bind fun x9 =>
  if x9 ≤ v7 then (
    some (Sum.inr (v0, v1, v2, v3, v4, v5, g)))
  else (
    (xgr g v0 [14] 33).bind fun x10 =>
    (xsi g x10 v4 v7).bind fun g11 =>
    xb2 (xck g11 v0 14 (rc v0 v1 v6 v3 (v4 + (1 : Int32)) g11)) fun x_ g12 =>
    some (Sum.inl (v0, v1, v2, v3, v4, v5, v6, (v7 + 1), g12)))
noncomputable def fM_tryRows_a188_106 (rc : ((Nat → Int32 → Int32 → Int32 → Int32 → AH → Option (Unit × AH)))) (v0 : Nat) (v1 : Int32) (v2 : Int32) (v3 : Int32) (v4 : Int32) (v5 : Int32) (g : AH) : Option ((Nat × Int32 × Int32 × Int32 × Int32 × Int32 × AH) ⊕ AH) :=
  some (Sum.inl (v0, v1, v2, v3, v4, (v5 + 1), g))
noncomputable def fM_tryRows_l106 (rc : ((Nat → Int32 → Int32 → Int32 → Int32 → AH → Option (Unit × AH)))) (v0 : Nat) (v1 : Int32) (v2 : Int32) (v3 : Int32) (v4 : Int32) (v5 : Int32) (g : AH) : Option ((Nat × Int32 × Int32 × Int32 × Int32 × Int32 × AH) ⊕ AH) :=
  (xck g v0 14 (fM_mints v0 g)).bind fun x3 =>
  if x3 ≤ v5 then (
    some (Sum.inr g))
  else (
    (xck g v0 14 (fM_ofMint v0 v5 (0 : Int32) g)).bind fun x4 =>
    (xgr g v0 [14] 14).bind fun x5 =>
    (xai g x5 100 (5 : Int32)).bind fun x6 =>
    if x6 ≤ (v2 - x4) then (
      (xgr g v0 [14] 34).bind fun x7 =>
      (xsi g x7 v4 v5).bind fun g8 =>
      (xloop (fun s9 : (Nat × Int32 × Int32 × Int32 × Int32 × Int32 × Int32 × Int32 × AH) => fM_tryRows_l152 rc s9.1 s9.2.1 s9.2.2.1 s9.2.2.2.1 s9.2.2.2.2.1 s9.2.2.2.2.2.1 s9.2.2.2.2.2.2.1 s9.2.2.2.2.2.2.2.1 s9.2.2.2.2.2.2.2.2) (v0, v1, v2, v3, v4, v5, (v2 - x4), (0 : Int32), g8)).bind (fun r9 : (Nat × Int32 × Int32 × Int32 × Int32 × Int32 × AH) => fM_tryRows_a188_106 rc r9.1 r9.2.1 r9.2.2.1 r9.2.2.2.1 r9.2.2.2.2.1 r9.2.2.2.2.2.1 r9.2.2.2.2.2.2))
    else (
      some (Sum.inl (v0, v1, v2, v3, v4, (v5 + 1), g))))
noncomputable def fM_tryRows_a194 (rc : ((Nat → Int32 → Int32 → Int32 → Int32 → AH → Option (Unit × AH))))  (g : AH) : Option (Unit × AH) :=
  some (((), g))
noncomputable def fM_tryRows_l39 (rc : ((Nat → Int32 → Int32 → Int32 → Int32 → AH → Option (Unit × AH)))) (v0 : Nat) (v3 : Int32) (v5 : Int32) (g : AH) : Option ((Nat × Int32 × Int32 × AH) ⊕ AH) :=
  if v3 ≤ v5 then (
    some (Sum.inr g))
  else (
    (xgr g v0 [14] 35).bind fun x18 =>
    (xai g x18 100 v5).bind fun x19 =>
    (xgr g v0 [14] 33).bind fun x20 =>
    (xai g x20 100 v5).bind fun x21 =>
    (xsi g x18 v5 (x19 ||| ((1 : Int32) <<< (x21 &&& 31)))).bind fun g22 =>
    (xgr g22 v0 [14] 36).bind fun x23 =>
    (xai g22 x23 100 v5).bind fun x24 =>
    (xgr g22 v0 [14] 34).bind fun x25 =>
    (xai g22 x25 100 v5).bind fun x26 =>
    (xsi g22 x23 v5 (x24 ||| ((1 : Int32) <<< (x26 &&& 31)))).bind fun g27 =>
    some (Sum.inl (v0, v3, (v5 + 1), g27)))
noncomputable def fM_tryRows_a89 (rc : ((Nat → Int32 → Int32 → Int32 → Int32 → AH → Option (Unit × AH))))  (g : AH) : Option (Unit × AH) :=
  some (((), g))
noncomputable def fM_tryRows_R (rc : ((Nat → Int32 → Int32 → Int32 → Int32 → AH → Option (Unit × AH)))) (v0 : Nat) (v1 : Int32) (v2 : Int32) (v3 : Int32) (v4 : Int32) (h0 : AH) : Option (Unit × AH) :=
  if v4 = v3 then (
    (xck h0 v0 14 (fM_ofCoin v0 v1 (0 : Int32) h0)).bind fun x13 =>
    if v2 = x13 then (
      xb2 (xck h0 v0 14 (fM_isLike v0 v1 v3 h0)) fun x14 g15 =>
      if x14 = 0 then (
        some (((), g15)))
      else (
        (xgi g15 v0 [14] 39).bind fun x16 =>
        (xpi g15 v0 [14] 39 (x16 + (1 : Int32))).bind fun g17 =>
        (xloop (fun s9 : (Nat × Int32 × Int32 × AH) => fM_tryRows_l39 rc s9.1 s9.2.1 s9.2.2.1 s9.2.2.2) (v0, v3, (0 : Int32), g17)).bind (fun r9 : AH => fM_tryRows_a89 rc r9)))
    else (
      some (((), h0))))
  else (
    (xgr h0 v0 [14] 14).bind fun x1 =>
    (xai h0 x1 100 (6 : Int32)).bind fun x2 =>
    if v4 < x2 then (
      (xloop (fun s9 : (Nat × Int32 × Int32 × Int32 × Int32 × Int32 × AH) => fM_tryRows_l106 rc s9.1 s9.2.1 s9.2.2.1 s9.2.2.2.1 s9.2.2.2.2.1 s9.2.2.2.2.2.1 s9.2.2.2.2.2.2) (v0, v1, v2, v3, v4, (0 : Int32), h0)).bind (fun r9 : AH => fM_tryRows_a194 rc r9))
    else (
      some (((), h0))))
noncomputable def fM_gTry : Nat → ((Nat → Int32 → Int32 → Int32 → Int32 → AH → Option (Unit × AH)))
  | 0 => fun _ _ _ _ _ _ => none
  | d + 1 => fM_tryRows_R (fM_gTry d)
noncomputable def fM_tryRows : Nat → Int32 → Int32 → Int32 → Int32 → AH → Option (Unit × AH) := (fM_gTry 11)
set_option maxHeartbeats 4000000 in
theorem cs_X8_tryRows {l : Launch} {D : XD} {rc : ((Nat → Int32 → Int32 → Int32 → Int32 → AH → Option (Unit × AH)))} {d : Nat} (ih0 : ∀ {v0 : Nat} {v1 : Int32} {v2 : Int32} {v3 : Int32} {v4 : Int32} {h0 : AH} {a : Unit} {h1 : AH}, rc v0 v1 v2 v3 v4 h0 = some (a, h1) → XCt l D yX8_tryRows (ws_ yX8_tryRows cX8_tryRows 8 none) (2 + d) (48 + d * 27) [xR v0, xI v1, xI v2, xI v3, xI v4] h0 (.inl none) h1) : ∀ {v0 : Nat} {v1 : Int32} {v2 : Int32} {v3 : Int32} {v4 : Int32} {h0 : AH} {a : Unit} {h1 : AH}, fM_tryRows_R rc v0 v1 v2 v3 v4 h0 = some (a, h1) → XCt l D yX8_tryRows (ws_ yX8_tryRows cX8_tryRows 8 none) (2 + (d + 1)) (48 + (d + 1) * 27) [xR v0, xI v1, xI v2, xI v3, xI v4] h0 (.inl none) h1 := by
  intro v0 v1 v2 v3 v4 h0 a h1 hF
  refine x_method (by decide) (Nat.le_of_ble_eq_true rfl) fun p e R s m args below meth c K hr hnm hex => ?_
  have K : XO p R s m args meth c D 8 h0 cX8_tryRows "FaceCoinsModel" (2 + (d + 1)) (48 + (d + 1) * 27) := K
  generalize hQ : XMQ below _ _ _ _ _ _ = Q
  have hL106 : ∀ (C1 : ((Nat × Int32 × Int32 × Int32 × Int32 × Int32 × AH) ⊕ AH) → Prop) (hj1 : ∀ s9 : (Nat × Int32 × Int32 × Int32 × Int32 × Int32 × AH), C1 (Sum.inl s9) → XG p l e R s m args below meth c D 8 h0 Q 106 [(0, xR s9.1), (1, xI s9.2.1), (2, xI s9.2.2.1), (3, xI s9.2.2.2.1), (4, xI s9.2.2.2.2.1), (5, xI s9.2.2.2.2.2.1)] [] s9.2.2.2.2.2.2) (he1 : ∀ r9 : AH, C1 (Sum.inr r9) → XG p l e R s m args below meth c D 8 h0 Q 194 [] [] r9) (v0 : Nat) (v1 : Int32) (v2 : Int32) (v3 : Int32) (v4 : Int32) (v5 : Int32) (g : AH), XF p l e R s m args below meth c D 8 h0 Q 106 [(0, xR v0), (1, xI v1), (2, xI v2), (3, xI v3), (4, xI v4), (5, xI v5)] [] g (fM_tryRows_l106 rc v0 v1 v2 v3 v4 v5 g) C1 := by
    intro C1 hj1 he1
    have hL152 : ∀ (C2 : ((Nat × Int32 × Int32 × Int32 × Int32 × Int32 × Int32 × Int32 × AH) ⊕ (Nat × Int32 × Int32 × Int32 × Int32 × Int32 × AH)) → Prop) (hj2 : ∀ s9 : (Nat × Int32 × Int32 × Int32 × Int32 × Int32 × Int32 × Int32 × AH), C2 (Sum.inl s9) → XG p l e R s m args below meth c D 8 h0 Q 152 [(0, xR s9.1), (1, xI s9.2.1), (2, xI s9.2.2.1), (3, xI s9.2.2.2.1), (4, xI s9.2.2.2.2.1), (5, xI s9.2.2.2.2.2.1), (6, xI s9.2.2.2.2.2.2.1), (7, xI s9.2.2.2.2.2.2.2.1)] [] s9.2.2.2.2.2.2.2.2) (he2 : ∀ r9 : (Nat × Int32 × Int32 × Int32 × Int32 × Int32 × AH), C2 (Sum.inr r9) → XG p l e R s m args below meth c D 8 h0 Q 188 [(0, xR r9.1), (1, xI r9.2.1), (2, xI r9.2.2.1), (3, xI r9.2.2.2.1), (4, xI r9.2.2.2.2.1), (5, xI r9.2.2.2.2.2.1)] [] r9.2.2.2.2.2.2) (v0 : Nat) (v1 : Int32) (v2 : Int32) (v3 : Int32) (v4 : Int32) (v5 : Int32) (v6 : Int32) (v7 : Int32) (g : AH), XF p l e R s m args below meth c D 8 h0 Q 152 [(0, xR v0), (1, xI v1), (2, xI v2), (3, xI v3), (4, xI v4), (5, xI v5), (6, xI v6), (7, xI v7)] [] g (fM_tryRows_l152 rc v0 v1 v2 v3 v4 v5 v6 v7 g) C2 := by
      intro C2 hj2 he2
      intro v0 v1 v2 v3 v4 v5 v6 v7 g
      unfold fM_tryRows_l152
      refine x_iload (pc' := 154) K 7 dX8_tryRows_152 rfl rfl ?_
      refine x_aload_n (pc' := 155) K 0 dX8_tryRows_154 rfl rfl ?_
      refine x_cVO (pc' := 158) (As := []) (en := (fun v => some (xI v))) (rest := [xI v7]) K (fun a hF => ct_X8_people hF) rfl (by decide) q1590 q1592 qs51 q1593 q105 hy_X8_people (by omega) (by omega) (Nat.le_of_ble_eq_true rfl) dX8_tryRows_155 rfl (fun x9 => ?_)
      refine x_icmp_ge (tgt := 188) (pc' := 161) K dX8_tryRows_158 rfl (by decide) ?_ ?_
      · refine x_sub (lv' := [(0, xR v0), (1, xI v1), (2, xI v2), (3, xI v3), (4, xI v4), (5, xI v5)]) [0, 1, 2, 3, 4, 5] rfl ?_
        exact x_jump (fun hz => he2 (v0, v1, v2, v3, v4, v5, g) hz)
      · refine x_aload_n (pc' := 162) K 0 dX8_tryRows_161 rfl rfl ?_
        refine x_getr (pc' := 165) K fg_14_33 (Or.inl (K.2.2.2.2.1 _ q1345)) (fun _ h9 => h9) dX8_tryRows_162 rfl (fun x10 => ?_)
        refine x_iload (pc' := 167) K 4 dX8_tryRows_165 rfl rfl ?_
        refine x_iload (pc' := 169) K 7 dX8_tryRows_167 rfl rfl ?_
        refine x_iast (pc' := 170) K dX8_tryRows_169 rfl (fun g11 => ?_)
        refine x_aload_n (pc' := 171) K 0 dX8_tryRows_170 rfl rfl ?_
        refine x_iload_n (pc' := 172) K 1 dX8_tryRows_171 rfl rfl ?_
        refine x_iload (pc' := 174) K 6 dX8_tryRows_172 rfl rfl ?_
        refine x_iload_n (pc' := 175) K 3 dX8_tryRows_174 rfl rfl ?_
        refine x_iload (pc' := 177) K 4 dX8_tryRows_175 rfl rfl ?_
        refine x_iconst (pc' := 178) (v := 1) K dX8_tryRows_177 rfl rfl ?_
        refine x_iadd (pc' := 179) K dX8_tryRows_178 rfl ?_
        refine x_cV (pc' := 182) (As := [xI v1, xI v6, xI v3, xI (v4 + (1 : Int32))]) (en := (fun _ => none)) (rest := []) K (fun a h1 hF => ih0 hF) rfl (by decide) q1812 q1814 qs82 q1815 q105 hy_X8_tryRows (by omega) (by omega) (Nat.le_of_ble_eq_true rfl) dX8_tryRows_179 rfl (fun x_ g12 => ?_)
        refine x_iinc (pc' := 185) (y := 1) (lv' := [(7, xI (v7 + 1)), (0, xR v0), (1, xI v1), (2, xI v2), (3, xI v3), (4, xI v4), (5, xI v5), (6, xI v6)]) K 7 dX8_tryRows_182 rfl rfl (by decide) (by decide) rfl ?_
        refine x_goto (tgt := 152) K dX8_tryRows_185 (by decide) ?_
        refine x_sub (lv' := [(0, xR v0), (1, xI v1), (2, xI v2), (3, xI v3), (4, xI v4), (5, xI v5), (6, xI v6), (7, xI (v7 + 1))]) [1, 2, 3, 4, 5, 6, 7, 0] rfl ?_
        exact x_jump (fun hz => hj2 (v0, v1, v2, v3, v4, v5, v6, (v7 + 1), g12) hz)
    have hA188_1 : ∀ (v0 : Nat) (v1 : Int32) (v2 : Int32) (v3 : Int32) (v4 : Int32) (v5 : Int32) (g : AH), XF p l e R s m args below meth c D 8 h0 Q 188 [(0, xR v0), (1, xI v1), (2, xI v2), (3, xI v3), (4, xI v4), (5, xI v5)] [] g (fM_tryRows_a188_106 rc v0 v1 v2 v3 v4 v5 g) C1 := by
      intro v0 v1 v2 v3 v4 v5 g
      unfold fM_tryRows_a188_106
      refine x_iinc (pc' := 191) (y := 1) (lv' := [(5, xI (v5 + 1)), (0, xR v0), (1, xI v1), (2, xI v2), (3, xI v3), (4, xI v4)]) K 5 dX8_tryRows_188 rfl rfl (by decide) (by decide) rfl ?_
      refine x_goto (tgt := 106) K dX8_tryRows_191 (by decide) ?_
      refine x_sub (lv' := [(0, xR v0), (1, xI v1), (2, xI v2), (3, xI v3), (4, xI v4), (5, xI (v5 + 1))]) [1, 2, 3, 4, 5, 0] rfl ?_
      exact x_jump (fun hz => hj1 (v0, v1, v2, v3, v4, (v5 + 1), g) hz)
    intro v0 v1 v2 v3 v4 v5 g
    unfold fM_tryRows_l106
    refine x_iload (pc' := 108) K 5 dX8_tryRows_106 rfl rfl ?_
    refine x_aload_n (pc' := 109) K 0 dX8_tryRows_108 rfl rfl ?_
    refine x_cVO (pc' := 112) (As := []) (en := (fun v => some (xI v))) (rest := [xI v5]) K (fun a hF => ct_X8_mints hF) rfl (by decide) q1622 q1624 qs58 q1625 q105 hy_X8_mints (by omega) (by omega) (Nat.le_of_ble_eq_true rfl) dX8_tryRows_109 rfl (fun x3 => ?_)
    refine x_icmp_ge (tgt := 194) (pc' := 115) K dX8_tryRows_112 rfl (by decide) ?_ ?_
    · refine x_sub (lv' := []) [] rfl ?_
      exact x_jump (fun hz => he1 g hz)
    · refine x_iload_n (pc' := 116) K 2 dX8_tryRows_115 rfl rfl ?_
      refine x_aload_n (pc' := 117) K 0 dX8_tryRows_116 rfl rfl ?_
      refine x_iload (pc' := 119) K 5 dX8_tryRows_117 rfl rfl ?_
      refine x_iconst (pc' := 120) (v := 0) K dX8_tryRows_119 rfl rfl ?_
      refine x_cVO (pc' := 123) (As := [xI v5, xI (0 : Int32)]) (en := (fun v => some (xI v))) (rest := [xI v2]) K (fun a hF => ct_X8_ofMint hF) rfl (by decide) q1626 q1628 qs59 q1629 q105 hy_X8_ofMint (by omega) (by omega) (Nat.le_of_ble_eq_true rfl) dX8_tryRows_120 rfl (fun x4 => ?_)
      refine x_isub (pc' := 124) K dX8_tryRows_123 rfl ?_
      refine x_istore (pc' := 126) (lv' := [(6, xI (v2 - x4)), (0, xR v0), (1, xI v1), (2, xI v2), (3, xI v3), (4, xI v4), (5, xI v5)]) K dX8_tryRows_124 rfl (by decide) rfl ?_
      refine x_iload (pc' := 128) K 0 dX8_tryRows_126 rfl rfl ?_
      refine x_aload_n (pc' := 129) K 1 dX8_tryRows_128 rfl rfl ?_
      refine x_getr (pc' := 132) K fg_14_14 (Or.inl (K.2.2.2.2.1 _ q1326)) (fun _ h9 => h9) dX8_tryRows_129 rfl (fun x5 => ?_)
      refine x_iconst (pc' := 133) (v := 5) K dX8_tryRows_132 rfl rfl ?_
      refine x_iald (pc' := 134) K dX8_tryRows_133 rfl (fun x6 => ?_)
      refine x_icmp_ge (tgt := 140) (pc' := 137) K dX8_tryRows_134 rfl (by decide) ?_ ?_
      · refine x_aload_n (pc' := 141) K 1 dX8_tryRows_140 rfl rfl ?_
        refine x_getr (pc' := 144) K fg_14_34 (Or.inl (K.2.2.2.2.1 _ q1346)) (fun _ h9 => h9) dX8_tryRows_141 rfl (fun x7 => ?_)
        refine x_iload (pc' := 146) K 5 dX8_tryRows_144 rfl rfl ?_
        refine x_iload (pc' := 148) K 6 dX8_tryRows_146 rfl rfl ?_
        refine x_iast (pc' := 149) K dX8_tryRows_148 rfl (fun g8 => ?_)
        refine x_iconst (pc' := 150) (v := 0) K dX8_tryRows_149 rfl rfl ?_
        refine x_istore (pc' := 152) (lv' := [(7, xI (0 : Int32)), (6, xI (v2 - x4)), (0, xR v0), (1, xI v1), (2, xI v2), (3, xI v3), (4, xI v4), (5, xI v5)]) K dX8_tryRows_150 rfl (by decide) rfl ?_
        refine x_sub (lv' := [(0, xR v0), (1, xI v1), (2, xI v2), (3, xI v3), (4, xI v4), (5, xI v5), (6, xI (v2 - x4)), (7, xI (0 : Int32))]) [2, 3, 4, 5, 6, 7, 1, 0] rfl ?_
        exact x_loop (pl := (fun s9 : (Nat × Int32 × Int32 × Int32 × Int32 × Int32 × Int32 × Int32 × AH) => [(0, xR s9.1), (1, xI s9.2.1), (2, xI s9.2.2.1), (3, xI s9.2.2.2.1), (4, xI s9.2.2.2.2.1), (5, xI s9.2.2.2.2.2.1), (6, xI s9.2.2.2.2.2.2.1), (7, xI s9.2.2.2.2.2.2.2.1)])) (ph := (fun s9 : (Nat × Int32 × Int32 × Int32 × Int32 × Int32 × Int32 × Int32 × AH) => s9.2.2.2.2.2.2.2.2)) (fun r9 : (Nat × Int32 × Int32 × Int32 × Int32 × Int32 × AH) => XG p l e R s m args below meth c D 8 h0 Q 188 [(0, xR r9.1), (1, xI r9.2.1), (2, xI r9.2.2.1), (3, xI r9.2.2.2.1), (4, xI r9.2.2.2.2.1), (5, xI r9.2.2.2.2.2.1)] [] r9.2.2.2.2.2.2) (fun s9 => hL152 _ (fun _ hz => hz) (fun _ hz => hz) s9.1 s9.2.1 s9.2.2.1 s9.2.2.2.1 s9.2.2.2.2.1 s9.2.2.2.2.2.1 s9.2.2.2.2.2.2.1 s9.2.2.2.2.2.2.2.1 s9.2.2.2.2.2.2.2.2) (fun r9 x hx hc => hA188_1 r9.1 r9.2.1 r9.2.2.1 r9.2.2.2.1 r9.2.2.2.2.1 r9.2.2.2.2.2.1 r9.2.2.2.2.2.2 x hx hc) (v0, v1, v2, v3, v4, v5, (v2 - x4), (0 : Int32), g8)
      · refine x_goto (tgt := 188) K dX8_tryRows_137 (by decide) ?_
        refine x_iinc (pc' := 191) (y := 1) (lv' := [(5, xI (v5 + 1)), (6, xI (v2 - x4)), (0, xR v0), (1, xI v1), (2, xI v2), (3, xI v3), (4, xI v4)]) K 6 dX8_tryRows_188 rfl rfl (by decide) (by decide) rfl ?_
        refine x_goto (tgt := 106) K dX8_tryRows_191 (by decide) ?_
        refine x_sub (lv' := [(0, xR v0), (1, xI v1), (2, xI v2), (3, xI v3), (4, xI v4), (5, xI (v5 + 1))]) [2, 3, 4, 5, 6, 0] rfl ?_
        exact x_jump (fun hz => hj1 (v0, v1, v2, v3, v4, (v5 + 1), g) hz)
  have hA194_0 : ∀  (g : AH), XF p l e R s m args below meth c D 8 h0 Q 194 [] [] g (fM_tryRows_a194 rc g) (XEnd below s D h0 (fun _ => .inl none) Q) := by
    intro  g
    unfold fM_tryRows_a194
    exact x_vret K rfl hr dX8_tryRows_194
  have hL39 : ∀ (C1 : ((Nat × Int32 × Int32 × AH) ⊕ AH) → Prop) (hj1 : ∀ s9 : (Nat × Int32 × Int32 × AH), C1 (Sum.inl s9) → XG p l e R s m args below meth c D 8 h0 Q 39 [(0, xR s9.1), (3, xI s9.2.1), (5, xI s9.2.2.1)] [] s9.2.2.2) (he1 : ∀ r9 : AH, C1 (Sum.inr r9) → XG p l e R s m args below meth c D 8 h0 Q 89 [] [] r9) (v0 : Nat) (v3 : Int32) (v5 : Int32) (g : AH), XF p l e R s m args below meth c D 8 h0 Q 39 [(0, xR v0), (3, xI v3), (5, xI v5)] [] g (fM_tryRows_l39 rc v0 v3 v5 g) C1 := by
    intro C1 hj1 he1
    intro v0 v3 v5 g
    unfold fM_tryRows_l39
    refine x_iload (pc' := 41) K 2 dX8_tryRows_39 rfl rfl ?_
    refine x_iload_n (pc' := 42) K 1 dX8_tryRows_41 rfl rfl ?_
    refine x_icmp_ge (tgt := 89) (pc' := 45) K dX8_tryRows_42 rfl (by decide) ?_ ?_
    · refine x_sub (lv' := []) [] rfl ?_
      exact x_jump (fun hz => he1 g hz)
    · refine x_aload_n (pc' := 46) K 0 dX8_tryRows_45 rfl rfl ?_
      refine x_getr (pc' := 49) K fg_14_35 (Or.inl (K.2.2.2.2.1 _ q1347)) (fun _ h9 => h9) dX8_tryRows_46 rfl (fun x18 => ?_)
      refine x_iload (pc' := 51) K 2 dX8_tryRows_49 rfl rfl ?_
      refine x_dup2 (pc' := 52) K dX8_tryRows_51 rfl rfl rfl ?_
      refine x_iald (pc' := 53) K dX8_tryRows_52 rfl (fun x19 => ?_)
      refine x_iconst (pc' := 54) (v := 1) K dX8_tryRows_53 rfl rfl ?_
      refine x_aload_n (pc' := 55) K 0 dX8_tryRows_54 rfl rfl ?_
      refine x_getr (pc' := 58) K fg_14_33 (Or.inl (K.2.2.2.2.1 _ q1345)) (fun _ h9 => h9) dX8_tryRows_55 rfl (fun x20 => ?_)
      refine x_iload (pc' := 60) K 2 dX8_tryRows_58 rfl rfl ?_
      refine x_iald (pc' := 61) K dX8_tryRows_60 rfl (fun x21 => ?_)
      refine x_ishl (pc' := 62) K dX8_tryRows_61 rfl ?_
      refine x_ior (pc' := 63) K dX8_tryRows_62 rfl ?_
      refine x_iast (pc' := 64) K dX8_tryRows_63 rfl (fun g22 => ?_)
      refine x_aload_n (pc' := 65) K 0 dX8_tryRows_64 rfl rfl ?_
      refine x_getr (pc' := 68) K fg_14_36 (Or.inl (K.2.2.2.2.1 _ q1348)) (fun _ h9 => h9) dX8_tryRows_65 rfl (fun x23 => ?_)
      refine x_iload (pc' := 70) K 2 dX8_tryRows_68 rfl rfl ?_
      refine x_dup2 (pc' := 71) K dX8_tryRows_70 rfl rfl rfl ?_
      refine x_iald (pc' := 72) K dX8_tryRows_71 rfl (fun x24 => ?_)
      refine x_iconst (pc' := 73) (v := 1) K dX8_tryRows_72 rfl rfl ?_
      refine x_aload_n (pc' := 74) K 0 dX8_tryRows_73 rfl rfl ?_
      refine x_getr (pc' := 77) K fg_14_34 (Or.inl (K.2.2.2.2.1 _ q1346)) (fun _ h9 => h9) dX8_tryRows_74 rfl (fun x25 => ?_)
      refine x_iload (pc' := 79) K 2 dX8_tryRows_77 rfl rfl ?_
      refine x_iald (pc' := 80) K dX8_tryRows_79 rfl (fun x26 => ?_)
      refine x_ishl (pc' := 81) K dX8_tryRows_80 rfl ?_
      refine x_ior (pc' := 82) K dX8_tryRows_81 rfl ?_
      refine x_iast (pc' := 83) K dX8_tryRows_82 rfl (fun g27 => ?_)
      refine x_iinc (pc' := 86) (y := 1) (lv' := [(5, xI (v5 + 1)), (0, xR v0), (3, xI v3)]) K 2 dX8_tryRows_83 rfl rfl (by decide) (by decide) rfl ?_
      refine x_goto (tgt := 39) K dX8_tryRows_86 (by decide) ?_
      refine x_sub (lv' := [(0, xR v0), (3, xI v3), (5, xI (v5 + 1))]) [1, 2, 0] rfl ?_
      exact x_jump (fun hz => hj1 (v0, v3, (v5 + 1), g27) hz)
  have hA89_0 : ∀  (g : AH), XF p l e R s m args below meth c D 8 h0 Q 89 [] [] g (fM_tryRows_a89 rc g) (XEnd below s D h0 (fun _ => .inl none) Q) := by
    intro  g
    unfold fM_tryRows_a89
    exact x_vret K rfl hr dX8_tryRows_89
  refine (?_ : XF p l e R s m args below meth c D 8 h0 Q 0 [(0, xR v0), (1, xI v1), (2, xI v2), (3, xI v3), (4, xI v4)] [] h0 (fM_tryRows_R rc v0 v1 v2 v3 v4 h0) (XEnd below s D h0 (fun _ => .inl none) Q)) (a, h1) hF hQ.symm
  unfold fM_tryRows_R
  refine x_iload (pc' := 2) K 4 dX8_tryRows_0 rfl rfl ?_
  refine x_iload_n (pc' := 3) K 3 dX8_tryRows_2 rfl rfl ?_
  refine x_icmp_ne (tgt := 90) (pc' := 6) K dX8_tryRows_3 rfl (by decide) ?_ ?_
  · refine x_iload (pc' := 92) K 4 dX8_tryRows_90 rfl rfl ?_
    refine x_aload_n (pc' := 93) K 0 dX8_tryRows_92 rfl rfl ?_
    refine x_getr (pc' := 96) K fg_14_14 (Or.inl (K.2.2.2.2.1 _ q1326)) (fun _ h9 => h9) dX8_tryRows_93 rfl (fun x1 => ?_)
    refine x_bipush (pc' := 98) (v := 6) K dX8_tryRows_96 rfl (by decide) ?_
    refine x_iald (pc' := 99) K dX8_tryRows_98 rfl (fun x2 => ?_)
    refine x_icmp_lt (tgt := 103) (pc' := 102) K dX8_tryRows_99 rfl (by decide) ?_ ?_
    · refine x_iconst (pc' := 104) (v := 0) K dX8_tryRows_103 rfl rfl ?_
      refine x_istore (pc' := 106) (lv' := [(5, xI (0 : Int32)), (0, xR v0), (1, xI v1), (2, xI v2), (3, xI v3), (4, xI v4)]) K dX8_tryRows_104 rfl (by decide) rfl ?_
      refine x_sub (lv' := [(0, xR v0), (1, xI v1), (2, xI v2), (3, xI v3), (4, xI v4), (5, xI (0 : Int32))]) [1, 2, 3, 4, 5, 0] rfl ?_
      exact x_loop (pl := (fun s9 : (Nat × Int32 × Int32 × Int32 × Int32 × Int32 × AH) => [(0, xR s9.1), (1, xI s9.2.1), (2, xI s9.2.2.1), (3, xI s9.2.2.2.1), (4, xI s9.2.2.2.2.1), (5, xI s9.2.2.2.2.2.1)])) (ph := (fun s9 : (Nat × Int32 × Int32 × Int32 × Int32 × Int32 × AH) => s9.2.2.2.2.2.2)) (fun r9 : AH => XG p l e R s m args below meth c D 8 h0 Q 194 [] [] r9) (fun s9 => hL106 _ (fun _ hz => hz) (fun _ hz => hz) s9.1 s9.2.1 s9.2.2.1 s9.2.2.2.1 s9.2.2.2.2.1 s9.2.2.2.2.2.1 s9.2.2.2.2.2.2) (fun r9 x hx hc => hA194_0 r9 x hx hc) (v0, v1, v2, v3, v4, (0 : Int32), h0)
    · exact x_vret K rfl hr dX8_tryRows_102
  · refine x_iload_n (pc' := 7) K 2 dX8_tryRows_6 rfl rfl ?_
    refine x_aload_n (pc' := 8) K 0 dX8_tryRows_7 rfl rfl ?_
    refine x_iload_n (pc' := 9) K 1 dX8_tryRows_8 rfl rfl ?_
    refine x_iconst (pc' := 10) (v := 0) K dX8_tryRows_9 rfl rfl ?_
    refine x_cVO (pc' := 13) (As := [xI v1, xI (0 : Int32)]) (en := (fun v => some (xI v))) (rest := [xI v2]) K (fun a hF => ct_X8_ofCoin hF) rfl (by decide) q1610 q1612 qs56 q1613 q105 hy_X8_ofCoin (by omega) (by omega) (Nat.le_of_ble_eq_true rfl) dX8_tryRows_10 rfl (fun x13 => ?_)
    refine x_icmp_ne (tgt := 25) (pc' := 16) K dX8_tryRows_13 rfl (by decide) ?_ ?_
    · exact x_vret K rfl hr dX8_tryRows_25
    · refine x_aload_n (pc' := 17) K 0 dX8_tryRows_16 rfl rfl ?_
      refine x_iload_n (pc' := 18) K 1 dX8_tryRows_17 rfl rfl ?_
      refine x_iload_n (pc' := 19) K 3 dX8_tryRows_18 rfl rfl ?_
      refine x_cV (pc' := 22) (As := [xI v1, xI v3]) (en := (fun v => some (xI v))) (rest := []) K (fun a h1 hF => ct_X8_isLike hF) rfl (by decide) q1816 q1818 qs83 q1819 q105 hy_X8_isLike (by omega) (by omega) (Nat.le_of_ble_eq_true rfl) dX8_tryRows_19 rfl (fun x14 g15 => ?_)
      refine x_if_ne (tgt := 26) (pc' := 25) K dX8_tryRows_22 rfl (by decide) ?_ ?_
      · refine x_aload_n (pc' := 27) K 0 dX8_tryRows_26 rfl rfl ?_
        refine x_dup (pc' := 28) K dX8_tryRows_27 rfl rfl ?_
        refine x_geti (pc' := 31) K fg_14_39 (Or.inl (K.2.2.2.2.1 _ q1351)) (fun _ h9 => h9) dX8_tryRows_28 rfl (fun x16 => ?_)
        refine x_iconst (pc' := 32) (v := 1) K dX8_tryRows_31 rfl rfl ?_
        refine x_iadd (pc' := 33) K dX8_tryRows_32 rfl ?_
        refine x_puti (pc' := 36) K fp_14_39 (Or.inl (K.2.2.2.2.1 _ q1351)) (fun _ h9 => h9) (Or.inl rfl) dX8_tryRows_33 rfl (fun g17 => ?_)
        refine x_iconst (pc' := 37) (v := 0) K dX8_tryRows_36 rfl rfl ?_
        refine x_istore (pc' := 39) (lv' := [(5, xI (0 : Int32)), (0, xR v0), (1, xI v1), (2, xI v2), (3, xI v3), (4, xI v4)]) K dX8_tryRows_37 rfl (by decide) rfl ?_
        refine x_sub (lv' := [(0, xR v0), (3, xI v3), (5, xI (0 : Int32))]) [1, 4, 0] rfl ?_
        exact x_loop (pl := (fun s9 : (Nat × Int32 × Int32 × AH) => [(0, xR s9.1), (3, xI s9.2.1), (5, xI s9.2.2.1)])) (ph := (fun s9 : (Nat × Int32 × Int32 × AH) => s9.2.2.2)) (fun r9 : AH => XG p l e R s m args below meth c D 8 h0 Q 89 [] [] r9) (fun s9 => hL39 _ (fun _ hz => hz) (fun _ hz => hz) s9.1 s9.2.1 s9.2.2.1 s9.2.2.2) (fun r9 x hx hc => hA89_0 r9 x hx hc) (v0, v3, (0 : Int32), g17)
      · exact x_vret K rfl hr dX8_tryRows_25
set_option maxHeartbeats 4000000 in
theorem cg_fM_gTry {l : Launch} {D : XD} : ∀ d : Nat, (∀ {v0 : Nat} {v1 : Int32} {v2 : Int32} {v3 : Int32} {v4 : Int32} {h0 : AH} {a : Unit} {h1 : AH}, (fM_gTry d) v0 v1 v2 v3 v4 h0 = some (a, h1) → XCt l D yX8_tryRows (ws_ yX8_tryRows cX8_tryRows 8 none) (2 + d) (48 + d * 27) [xR v0, xI v1, xI v2, xI v3, xI v4] h0 (.inl none) h1) := by
  intro d
  induction d with
  | zero =>
    intro v0 v1 v2 v3 v4 h0 a h1 hF; exact absurd hF (by simp [fM_gTry])
  | succ d ih =>
    exact cs_X8_tryRows ih
set_option maxHeartbeats 4000000 in
theorem ct_X8_tryRows {l : Launch} {D : XD} : ∀ {v0 : Nat} {v1 : Int32} {v2 : Int32} {v3 : Int32} {v4 : Int32} {h0 : AH} {a : Unit} {h1 : AH}, fM_tryRows v0 v1 v2 v3 v4 h0 = some (a, h1) → XCt l D yX8_tryRows (ws_ yX8_tryRows cX8_tryRows 8 none) 13 345 [xR v0, xI v1, xI v2, xI v3, xI v4] h0 (.inl none) h1 := (cg_fM_gTry 11)
/-! FaceCoinsModel.rows(III)I -/
noncomputable def fM_rows_l46 (v0 : Nat) (v1 : Int32) (v2 : Int32) (v3 : Int32) (v4 : Int64) (v6 : Int32) (g : AH) : Option ((Nat × Int32 × Int32 × Int32 × Int64 × Int32) ⊕ ((Nat × Int32 × Int32 × Int32) ⊕ (Int32 × AH))) :=
  if v3 ≤ v6 then (
    some (Sum.inr (Sum.inl (v0, v1, v2, v3))))
  else (
    (xck g v0 14 (fM_people v0 g)).bind fun x6 =>
    (xck g v0 14 (fM_mints v0 g)).bind fun x7 =>
    if (lg_cmp (v4 * ((Int32.toInt64 x6) * (Int32.toInt64 x7))) (60000 : Int64)) ≤ 0 then (
      some (Sum.inl (v0, v1, v2, v3, (v4 * ((Int32.toInt64 x6) * (Int32.toInt64 x7))), (v6 + 1))))
    else (
      some (Sum.inr (Sum.inr ((((-2) : Int32), g))))))
noncomputable def fM_rows_l99 (v0 : Nat) (v1 : Int32) (v2 : Int32) (v3 : Int32) (v6 : Int32) (g : AH) : Option ((Nat × Int32 × Int32 × Int32 × Int32 × AH) ⊕ (Nat × Int32 × Int32 × Int32 × AH)) :=
  if (9 : Int32) ≤ v6 then (
    some (Sum.inr (v0, v1, v2, v3, g)))
  else (
    (xgr g v0 [14] 35).bind fun x10 =>
    (xsi g x10 v6 (0 : Int32)).bind fun g11 =>
    (xgr g11 v0 [14] 36).bind fun x12 =>
    (xsi g11 x12 v6 (0 : Int32)).bind fun g13 =>
    some (Sum.inl (v0, v1, v2, v3, (v6 + 1), g13)))
noncomputable def fM_rows_a128 (v0 : Nat) (v1 : Int32) (v2 : Int32) (v3 : Int32) (g : AH) : Option (Int32 × AH) :=
  xb2 (xck g v0 14 (fM_tryRows v0 v1 v2 v3 (0 : Int32) g)) fun x_ g14 =>
  (xgi g14 v0 [14] 39).bind fun x15 =>
  some ((x15, g14))
noncomputable def fM_rows_a86 (v0 : Nat) (v1 : Int32) (v2 : Int32) (v3 : Int32) (g : AH) : Option (Int32 × AH) :=
  (xpi g v0 [14] 39 (0 : Int32)).bind fun g8 =>
  (xpi g8 v0 [14] 40 v3).bind fun g9 =>
  (xloop (fun s9 : (Nat × Int32 × Int32 × Int32 × Int32 × AH) => fM_rows_l99 s9.1 s9.2.1 s9.2.2.1 s9.2.2.2.1 s9.2.2.2.2.1 s9.2.2.2.2.2) (v0, v1, v2, v3, (0 : Int32), g9)).bind (fun r9 : (Nat × Int32 × Int32 × Int32 × AH) => fM_rows_a128 r9.1 r9.2.1 r9.2.2.1 r9.2.2.2.1 r9.2.2.2.2)
noncomputable def fM_rows (v0 : Nat) (v1 : Int32) (v2 : Int32) (v3 : Int32) (h0 : AH) : Option (Int32 × AH) :=
  (xpi h0 v0 [14] 0 (0 : Int32)).bind fun g1 =>
  xb2 (xck g1 v0 14 (fM_lay v0 g1)) fun x_ g2 =>
  (xck g2 v0 14 (fM_isCoin v0 v1 g2)).bind fun x3 =>
  if x3 = 0 then (
    some ((((-1) : Int32), g2)))
  else (
    (fM_isIn v2 (1 : Int32) (9999 : Int32) g2).bind fun x4 =>
    if x4 = 0 then (
      some ((((-1) : Int32), g2)))
    else (
      (fM_isIn v3 (1 : Int32) (9 : Int32) g2).bind fun x5 =>
      if x5 = 0 then (
        some ((((-1) : Int32), g2)))
      else (
        (xloop (fun s9 : (Nat × Int32 × Int32 × Int32 × Int64 × Int32) => fM_rows_l46 s9.1 s9.2.1 s9.2.2.1 s9.2.2.2.1 s9.2.2.2.2.1 s9.2.2.2.2.2 g2) (v0, v1, v2, v3, (1 : Int64), (0 : Int32))).bind (Sum.elim (fun r9 : (Nat × Int32 × Int32 × Int32) => fM_rows_a86 r9.1 r9.2.1 r9.2.2.1 r9.2.2.2 g2) some))))
set_option maxHeartbeats 4000000 in
theorem ct_X8_rows {l : Launch} {D : XD} {v0 : Nat} {v1 : Int32} {v2 : Int32} {v3 : Int32} {h0 : AH} {a : Int32} {h1 : AH} (hF : fM_rows v0 v1 v2 v3 h0 = some (a, h1)) : XCt l D yX8_rows (ws_ yX8_rows cX8_rows 7 (some .int)) 14 372 [xR v0, xI v1, xI v2, xI v3] h0 (.inl (some (xI a))) h1 := by
  refine x_method (by decide) (Nat.le_of_ble_eq_true rfl) fun p e R s m args below meth c K hr hnm hex => ?_
  have K : XO p R s m args meth c D 7 h0 cX8_rows "FaceCoinsModel" 14 372 := K
  generalize hQ : XMQ below _ _ _ _ _ _ = Q
  have hL46 : ∀ (g : AH) (C1 : ((Nat × Int32 × Int32 × Int32 × Int64 × Int32) ⊕ ((Nat × Int32 × Int32 × Int32) ⊕ (Int32 × AH))) → Prop) (hj1 : ∀ s9 : (Nat × Int32 × Int32 × Int32 × Int64 × Int32), C1 (Sum.inl s9) → XG p l e R s m args below meth c D 7 h0 Q 46 [(0, xR s9.1), (1, xI s9.2.1), (2, xI s9.2.2.1), (3, xI s9.2.2.2.1), (4, xJ s9.2.2.2.2.1), (6, xI s9.2.2.2.2.2)] [] g) (he1 : ∀ r9 : (Nat × Int32 × Int32 × Int32), C1 (Sum.inr (Sum.inl r9)) → XG p l e R s m args below meth c D 7 h0 Q 86 [(0, xR r9.1), (1, xI r9.2.1), (2, xI r9.2.2.1), (3, xI r9.2.2.2)] [] g) (hd1 : ∀ y9 : (Int32 × AH), C1 (Sum.inr (Sum.inr y9)) → (XEnd below s D h0 (fun v => .inl (some (xI v))) Q) y9) (v0 : Nat) (v1 : Int32) (v2 : Int32) (v3 : Int32) (v4 : Int64) (v6 : Int32), XF p l e R s m args below meth c D 7 h0 Q 46 [(0, xR v0), (1, xI v1), (2, xI v2), (3, xI v3), (4, xJ v4), (6, xI v6)] [] g (fM_rows_l46 v0 v1 v2 v3 v4 v6 g) C1 := by
    intro g C1 hj1 he1 hd1
    intro v0 v1 v2 v3 v4 v6
    unfold fM_rows_l46
    refine x_iload (pc' := 48) K 5 dX8_rows_46 rfl rfl ?_
    refine x_iload_n (pc' := 49) K 3 dX8_rows_48 rfl rfl ?_
    refine x_icmp_ge (tgt := 86) (pc' := 52) K dX8_rows_49 rfl (by decide) ?_ ?_
    · refine x_sub (lv' := [(0, xR v0), (1, xI v1), (2, xI v2), (3, xI v3)]) [0, 1, 2, 3] rfl ?_
      exact x_jump (fun hz => he1 (v0, v1, v2, v3) hz)
    · refine x_lload (pc' := 54) K 4 dX8_rows_52 rfl rfl ?_
      refine x_aload_n (pc' := 55) K 0 dX8_rows_54 rfl rfl ?_
      refine x_cVO (pc' := 58) (As := []) (en := (fun v => some (xI v))) (rest := [xJ v4]) K (fun a hF => ct_X8_people hF) rfl (by decide) q1590 q1592 qs51 q1593 q105 hy_X8_people (Nat.le_of_ble_eq_true rfl) (Nat.le_of_ble_eq_true rfl) (Nat.le_of_ble_eq_true rfl) dX8_rows_55 rfl (fun x6 => ?_)
      refine x_i2l (pc' := 59) K dX8_rows_58 rfl ?_
      refine x_aload_n (pc' := 60) K 0 dX8_rows_59 rfl rfl ?_
      refine x_cVO (pc' := 63) (As := []) (en := (fun v => some (xI v))) (rest := [xJ (Int32.toInt64 x6), xJ v4]) K (fun a hF => ct_X8_mints hF) rfl (by decide) q1622 q1624 qs58 q1625 q105 hy_X8_mints (Nat.le_of_ble_eq_true rfl) (Nat.le_of_ble_eq_true rfl) (Nat.le_of_ble_eq_true rfl) dX8_rows_60 rfl (fun x7 => ?_)
      refine x_i2l (pc' := 64) K dX8_rows_63 rfl ?_
      refine x_lmul (pc' := 65) K dX8_rows_64 rfl ?_
      refine x_lmul (pc' := 66) K dX8_rows_65 rfl ?_
      refine x_lstore (pc' := 68) (lv' := [(4, xJ (v4 * ((Int32.toInt64 x6) * (Int32.toInt64 x7)))), (0, xR v0), (1, xI v1), (2, xI v2), (3, xI v3), (6, xI v6)]) K dX8_rows_66 rfl (by decide) rfl ?_
      refine x_lload (pc' := 70) K 0 dX8_rows_68 rfl rfl ?_
      refine x_ldc2 (pc' := 73) K q1811 dX8_rows_70 rfl ?_
      refine x_lcmp (pc' := 74) K dX8_rows_73 rfl ?_
      refine x_if_le (tgt := 80) (pc' := 77) K dX8_rows_74 rfl (by decide) ?_ ?_
      · refine x_iinc (pc' := 83) (y := 1) (lv' := [(6, xI (v6 + 1)), (4, xJ (v4 * ((Int32.toInt64 x6) * (Int32.toInt64 x7)))), (0, xR v0), (1, xI v1), (2, xI v2), (3, xI v3)]) K 5 dX8_rows_80 rfl rfl (by decide) (by decide) rfl ?_
        refine x_goto (tgt := 46) K dX8_rows_83 (by decide) ?_
        refine x_sub (lv' := [(0, xR v0), (1, xI v1), (2, xI v2), (3, xI v3), (4, xJ (v4 * ((Int32.toInt64 x6) * (Int32.toInt64 x7)))), (6, xI (v6 + 1))]) [2, 3, 4, 5, 1, 0] rfl ?_
        exact x_jump (fun hz => hj1 (v0, v1, v2, v3, (v4 * ((Int32.toInt64 x6) * (Int32.toInt64 x7))), (v6 + 1)) hz)
      · refine x_bipush (pc' := 79) (v := (-2)) K dX8_rows_77 rfl (by decide) ?_
        refine x_g (fun z => Sum.inr (Sum.inr z)) (x_C (C8 := (XEnd below s D h0 (fun v => .inl (some (xI v))) Q)) (fun z hz => hd1 z hz) ?_)
        exact x_iret K rfl hr dX8_rows_79
  have hL99 : ∀ (C1 : ((Nat × Int32 × Int32 × Int32 × Int32 × AH) ⊕ (Nat × Int32 × Int32 × Int32 × AH)) → Prop) (hj1 : ∀ s9 : (Nat × Int32 × Int32 × Int32 × Int32 × AH), C1 (Sum.inl s9) → XG p l e R s m args below meth c D 7 h0 Q 99 [(0, xR s9.1), (1, xI s9.2.1), (2, xI s9.2.2.1), (3, xI s9.2.2.2.1), (6, xI s9.2.2.2.2.1)] [] s9.2.2.2.2.2) (he1 : ∀ r9 : (Nat × Int32 × Int32 × Int32 × AH), C1 (Sum.inr r9) → XG p l e R s m args below meth c D 7 h0 Q 128 [(0, xR r9.1), (1, xI r9.2.1), (2, xI r9.2.2.1), (3, xI r9.2.2.2.1)] [] r9.2.2.2.2) (v0 : Nat) (v1 : Int32) (v2 : Int32) (v3 : Int32) (v6 : Int32) (g : AH), XF p l e R s m args below meth c D 7 h0 Q 99 [(0, xR v0), (1, xI v1), (2, xI v2), (3, xI v3), (6, xI v6)] [] g (fM_rows_l99 v0 v1 v2 v3 v6 g) C1 := by
    intro C1 hj1 he1
    intro v0 v1 v2 v3 v6 g
    unfold fM_rows_l99
    refine x_iload (pc' := 101) K 4 dX8_rows_99 rfl rfl ?_
    refine x_bipush (pc' := 103) (v := 9) K dX8_rows_101 rfl (by decide) ?_
    refine x_icmp_ge (tgt := 128) (pc' := 106) K dX8_rows_103 rfl (by decide) ?_ ?_
    · refine x_sub (lv' := [(0, xR v0), (1, xI v1), (2, xI v2), (3, xI v3)]) [0, 1, 2, 3] rfl ?_
      exact x_jump (fun hz => he1 (v0, v1, v2, v3, g) hz)
    · refine x_aload_n (pc' := 107) K 0 dX8_rows_106 rfl rfl ?_
      refine x_getr (pc' := 110) K fg_14_35 (Or.inl (K.2.2.2.2.1 _ q1347)) (fun _ h9 => h9) dX8_rows_107 rfl (fun x10 => ?_)
      refine x_iload (pc' := 112) K 4 dX8_rows_110 rfl rfl ?_
      refine x_iconst (pc' := 113) (v := 0) K dX8_rows_112 rfl rfl ?_
      refine x_iast (pc' := 114) K dX8_rows_113 rfl (fun g11 => ?_)
      refine x_aload_n (pc' := 115) K 0 dX8_rows_114 rfl rfl ?_
      refine x_getr (pc' := 118) K fg_14_36 (Or.inl (K.2.2.2.2.1 _ q1348)) (fun _ h9 => h9) dX8_rows_115 rfl (fun x12 => ?_)
      refine x_iload (pc' := 120) K 4 dX8_rows_118 rfl rfl ?_
      refine x_iconst (pc' := 121) (v := 0) K dX8_rows_120 rfl rfl ?_
      refine x_iast (pc' := 122) K dX8_rows_121 rfl (fun g13 => ?_)
      refine x_iinc (pc' := 125) (y := 1) (lv' := [(6, xI (v6 + 1)), (0, xR v0), (1, xI v1), (2, xI v2), (3, xI v3)]) K 4 dX8_rows_122 rfl rfl (by decide) (by decide) rfl ?_
      refine x_goto (tgt := 99) K dX8_rows_125 (by decide) ?_
      refine x_sub (lv' := [(0, xR v0), (1, xI v1), (2, xI v2), (3, xI v3), (6, xI (v6 + 1))]) [1, 2, 3, 4, 0] rfl ?_
      exact x_jump (fun hz => hj1 (v0, v1, v2, v3, (v6 + 1), g13) hz)
  have hA128_0 : ∀ (v0 : Nat) (v1 : Int32) (v2 : Int32) (v3 : Int32) (g : AH), XF p l e R s m args below meth c D 7 h0 Q 128 [(0, xR v0), (1, xI v1), (2, xI v2), (3, xI v3)] [] g (fM_rows_a128 v0 v1 v2 v3 g) (XEnd below s D h0 (fun v => .inl (some (xI v))) Q) := by
    intro v0 v1 v2 v3 g
    unfold fM_rows_a128
    refine x_aload_n (pc' := 129) K 0 dX8_rows_128 rfl rfl ?_
    refine x_iload_n (pc' := 130) K 1 dX8_rows_129 rfl rfl ?_
    refine x_iload_n (pc' := 131) K 2 dX8_rows_130 rfl rfl ?_
    refine x_iload_n (pc' := 132) K 3 dX8_rows_131 rfl rfl ?_
    refine x_iconst (pc' := 133) (v := 0) K dX8_rows_132 rfl rfl ?_
    refine x_cV (pc' := 136) (As := [xI v1, xI v2, xI v3, xI (0 : Int32)]) (en := (fun _ => none)) (rest := []) K (fun a h1 hF => ct_X8_tryRows hF) rfl (by decide) q1812 q1814 qs82 q1815 q105 hy_X8_tryRows (Nat.le_of_ble_eq_true rfl) (Nat.le_of_ble_eq_true rfl) (Nat.le_of_ble_eq_true rfl) dX8_rows_133 rfl (fun x_ g14 => ?_)
    refine x_aload_n (pc' := 137) K 0 dX8_rows_136 rfl rfl ?_
    refine x_geti (pc' := 140) K fg_14_39 (Or.inl (K.2.2.2.2.1 _ q1351)) (fun _ h9 => h9) dX8_rows_137 rfl (fun x15 => ?_)
    exact x_iret K rfl hr dX8_rows_140
  have hA86_0 : ∀ (v0 : Nat) (v1 : Int32) (v2 : Int32) (v3 : Int32) (g : AH), XF p l e R s m args below meth c D 7 h0 Q 86 [(0, xR v0), (1, xI v1), (2, xI v2), (3, xI v3)] [] g (fM_rows_a86 v0 v1 v2 v3 g) (XEnd below s D h0 (fun v => .inl (some (xI v))) Q) := by
    intro v0 v1 v2 v3 g
    unfold fM_rows_a86
    refine x_aload_n (pc' := 87) K 0 dX8_rows_86 rfl rfl ?_
    refine x_iconst (pc' := 88) (v := 0) K dX8_rows_87 rfl rfl ?_
    refine x_puti (pc' := 91) K fp_14_39 (Or.inl (K.2.2.2.2.1 _ q1351)) (fun _ h9 => h9) (Or.inl rfl) dX8_rows_88 rfl (fun g8 => ?_)
    refine x_aload_n (pc' := 92) K 0 dX8_rows_91 rfl rfl ?_
    refine x_iload_n (pc' := 93) K 3 dX8_rows_92 rfl rfl ?_
    refine x_puti (pc' := 96) K fp_14_40 (Or.inl (K.2.2.2.2.1 _ q1352)) (fun _ h9 => h9) (Or.inl rfl) dX8_rows_93 rfl (fun g9 => ?_)
    refine x_iconst (pc' := 97) (v := 0) K dX8_rows_96 rfl rfl ?_
    refine x_istore (pc' := 99) (lv' := [(6, xI (0 : Int32)), (0, xR v0), (1, xI v1), (2, xI v2), (3, xI v3)]) K dX8_rows_97 rfl (by decide) rfl ?_
    refine x_sub (lv' := [(0, xR v0), (1, xI v1), (2, xI v2), (3, xI v3), (6, xI (0 : Int32))]) [1, 2, 3, 4, 0] rfl ?_
    exact x_loop (pl := (fun s9 : (Nat × Int32 × Int32 × Int32 × Int32 × AH) => [(0, xR s9.1), (1, xI s9.2.1), (2, xI s9.2.2.1), (3, xI s9.2.2.2.1), (6, xI s9.2.2.2.2.1)])) (ph := (fun s9 : (Nat × Int32 × Int32 × Int32 × Int32 × AH) => s9.2.2.2.2.2)) (fun r9 : (Nat × Int32 × Int32 × Int32 × AH) => XG p l e R s m args below meth c D 7 h0 Q 128 [(0, xR r9.1), (1, xI r9.2.1), (2, xI r9.2.2.1), (3, xI r9.2.2.2.1)] [] r9.2.2.2.2) (fun s9 => hL99 _ (fun _ hz => hz) (fun _ hz => hz) s9.1 s9.2.1 s9.2.2.1 s9.2.2.2.1 s9.2.2.2.2.1 s9.2.2.2.2.2) (fun r9 x hx hc => hA128_0 r9.1 r9.2.1 r9.2.2.1 r9.2.2.2.1 r9.2.2.2.2 x hx hc) (v0, v1, v2, v3, (0 : Int32), g9)
  refine (?_ : XF p l e R s m args below meth c D 7 h0 Q 0 [(0, xR v0), (1, xI v1), (2, xI v2), (3, xI v3)] [] h0 (fM_rows v0 v1 v2 v3 h0) (XEnd below s D h0 (fun v => .inl (some (xI v))) Q)) (a, h1) hF hQ.symm
  unfold fM_rows
  refine x_aload_n (pc' := 1) K 0 dX8_rows_0 rfl rfl ?_
  refine x_iconst (pc' := 2) (v := 0) K dX8_rows_1 rfl rfl ?_
  refine x_puti (pc' := 5) K fp_14_0 (Or.inl (K.2.2.2.2.1 _ q1312)) (fun _ h9 => h9) (Or.inl rfl) dX8_rows_2 rfl (fun g1 => ?_)
  refine x_aload_n (pc' := 6) K 0 dX8_rows_5 rfl rfl ?_
  refine x_cV (pc' := 9) (As := []) (en := (fun _ => none)) (rest := []) K (fun a h1 hF => ct_X8_lay hF) rfl (by decide) q1479 q1481 qs31 q1482 q105 hy_X8_lay (Nat.le_of_ble_eq_true rfl) (Nat.le_of_ble_eq_true rfl) (Nat.le_of_ble_eq_true rfl) dX8_rows_6 rfl (fun x_ g2 => ?_)
  refine x_aload_n (pc' := 10) K 0 dX8_rows_9 rfl rfl ?_
  refine x_iload_n (pc' := 11) K 1 dX8_rows_10 rfl rfl ?_
  refine x_cVO (pc' := 14) (As := [xI v1]) (en := (fun v => some (xI v))) (rest := []) K (fun a hF => ct_X8_isCoin hF) rfl (by decide) q1654 q1656 qs64 q1657 q105 hy_X8_isCoin (Nat.le_of_ble_eq_true rfl) (Nat.le_of_ble_eq_true rfl) (Nat.le_of_ble_eq_true rfl) dX8_rows_11 rfl (fun x3 => ?_)
  refine x_if_eq (tgt := 38) (pc' := 17) K dX8_rows_14 rfl (by decide) ?_ ?_
  · refine x_iconst (pc' := 39) (v := (-1)) K dX8_rows_38 rfl rfl ?_
    exact x_iret K rfl hr dX8_rows_39
  · refine x_iload_n (pc' := 18) K 2 dX8_rows_17 rfl rfl ?_
    refine x_iconst (pc' := 19) (v := 1) K dX8_rows_18 rfl rfl ?_
    refine x_sipush (pc' := 22) (v := 9999) K dX8_rows_19 rfl (by decide) ?_
    refine x_cSO (pc' := 25) (As := [xI v2, xI (1 : Int32), xI (9999 : Int32)]) (en := (fun v => some (xI v))) (rest := []) K (fun a hF => ct_X8_isIn hF) rfl q1552 q1553 q1554 q105 hy_X8_isIn (Nat.le_of_ble_eq_true rfl) (Nat.le_of_ble_eq_true rfl) (Nat.le_of_ble_eq_true rfl) dX8_rows_22 rfl (fun x4 => ?_)
    refine x_if_eq (tgt := 38) (pc' := 28) K dX8_rows_25 rfl (by decide) ?_ ?_
    · refine x_iconst (pc' := 39) (v := (-1)) K dX8_rows_38 rfl rfl ?_
      exact x_iret K rfl hr dX8_rows_39
    · refine x_iload_n (pc' := 29) K 3 dX8_rows_28 rfl rfl ?_
      refine x_iconst (pc' := 30) (v := 1) K dX8_rows_29 rfl rfl ?_
      refine x_bipush (pc' := 32) (v := 9) K dX8_rows_30 rfl (by decide) ?_
      refine x_cSO (pc' := 35) (As := [xI v3, xI (1 : Int32), xI (9 : Int32)]) (en := (fun v => some (xI v))) (rest := []) K (fun a hF => ct_X8_isIn hF) rfl q1552 q1553 q1554 q105 hy_X8_isIn (Nat.le_of_ble_eq_true rfl) (Nat.le_of_ble_eq_true rfl) (Nat.le_of_ble_eq_true rfl) dX8_rows_32 rfl (fun x5 => ?_)
      refine x_if_ne (tgt := 40) (pc' := 38) K dX8_rows_35 rfl (by decide) ?_ ?_
      · refine x_lconst (pc' := 41) (v := 1) K dX8_rows_40 rfl rfl ?_
        refine x_lstore (pc' := 43) (lv' := [(4, xJ (1 : Int64)), (0, xR v0), (1, xI v1), (2, xI v2), (3, xI v3)]) K dX8_rows_41 rfl (by decide) rfl ?_
        refine x_iconst (pc' := 44) (v := 0) K dX8_rows_43 rfl rfl ?_
        refine x_istore (pc' := 46) (lv' := [(6, xI (0 : Int32)), (4, xJ (1 : Int64)), (0, xR v0), (1, xI v1), (2, xI v2), (3, xI v3)]) K dX8_rows_44 rfl (by decide) rfl ?_
        refine x_sub (lv' := [(0, xR v0), (1, xI v1), (2, xI v2), (3, xI v3), (4, xJ (1 : Int64)), (6, xI (0 : Int32))]) [2, 3, 4, 5, 1, 0] rfl ?_
        exact x_loop (pl := (fun s9 : (Nat × Int32 × Int32 × Int32 × Int64 × Int32) => [(0, xR s9.1), (1, xI s9.2.1), (2, xI s9.2.2.1), (3, xI s9.2.2.2.1), (4, xJ s9.2.2.2.2.1), (6, xI s9.2.2.2.2.2)])) (ph := (fun s9 : (Nat × Int32 × Int32 × Int32 × Int64 × Int32) => g2)) (Sum.elim (fun r9 : (Nat × Int32 × Int32 × Int32) => XG p l e R s m args below meth c D 7 h0 Q 86 [(0, xR r9.1), (1, xI r9.2.1), (2, xI r9.2.2.1), (3, xI r9.2.2.2)] [] g2) (XEnd below s D h0 (fun v => .inl (some (xI v))) Q)) (fun s9 => hL46 g2 _ (fun _ hz => hz) (fun _ hz => hz) (fun _ hz => hz) s9.1 s9.2.1 s9.2.2.1 s9.2.2.2.1 s9.2.2.2.2.1 s9.2.2.2.2.2) (x_ex2 (fun r9 x hx hc => hA86_0 r9.1 r9.2.1 r9.2.2.1 r9.2.2.2 g2 x hx hc)) (v0, v1, v2, v3, (1 : Int64), (0 : Int32))
      · refine x_iconst (pc' := 39) (v := (-1)) K dX8_rows_38 rfl rfl ?_
        exact x_iret K rfl hr dX8_rows_39
/-! FaceCoinsModel.could(II)I -/
noncomputable def fM_could (v0 : Nat) (v1 : Int32) (v2 : Int32) (h0 : AH) : Option (Int32 × AH) :=
  (xpi h0 v0 [14] 0 (0 : Int32)).bind fun g1 =>
  if v1 < 0 then (
    some ((((-1) : Int32), g1)))
  else (
    (xgi g1 v0 [14] 40).bind fun x2 =>
    if x2 ≤ v1 then (
      some ((((-1) : Int32), g1)))
    else (
      (fM_isIn v2 (0 : Int32) (1 : Int32) g1).bind fun x3 =>
      if x3 = 0 then (
        some ((((-1) : Int32), g1)))
      else (
        if v2 = 0 then (
          (xgr g1 v0 [14] 35).bind fun x6 =>
          (xai g1 x6 100 v1).bind fun x7 =>
          some ((x7, g1)))
        else (
          (xgr g1 v0 [14] 36).bind fun x4 =>
          (xai g1 x4 100 v1).bind fun x5 =>
          some ((x5, g1))))))
set_option maxHeartbeats 4000000 in
theorem ct_X8_could {l : Launch} {D : XD} {v0 : Nat} {v1 : Int32} {v2 : Int32} {h0 : AH} {a : Int32} {h1 : AH} (hF : fM_could v0 v1 v2 h0 = some (a, h1)) : XCt l D yX8_could (ws_ yX8_could cX8_could 3 (some .int)) 1 22 [xR v0, xI v1, xI v2] h0 (.inl (some (xI a))) h1 := by
  refine x_method (by decide) (Nat.le_of_ble_eq_true rfl) fun p e R s m args below meth c K hr hnm hex => ?_
  have K : XO p R s m args meth c D 3 h0 cX8_could "FaceCoinsModel" 1 22 := K
  generalize hQ : XMQ below _ _ _ _ _ _ = Q
  refine (?_ : XF p l e R s m args below meth c D 3 h0 Q 0 [(0, xR v0), (1, xI v1), (2, xI v2)] [] h0 (fM_could v0 v1 v2 h0) (XEnd below s D h0 (fun v => .inl (some (xI v))) Q)) (a, h1) hF hQ.symm
  unfold fM_could
  refine x_aload_n (pc' := 1) K 0 dX8_could_0 rfl rfl ?_
  refine x_iconst (pc' := 2) (v := 0) K dX8_could_1 rfl rfl ?_
  refine x_puti (pc' := 5) K fp_14_0 (Or.inl (K.2.2.2.2.1 _ q1312)) (fun _ h9 => h9) (Or.inl rfl) dX8_could_2 rfl (fun g1 => ?_)
  refine x_iload_n (pc' := 6) K 1 dX8_could_5 rfl rfl ?_
  refine x_if_lt (tgt := 48) (pc' := 9) K dX8_could_6 rfl (by decide) ?_ ?_
  · refine x_iconst (pc' := 49) (v := (-1)) K dX8_could_48 rfl rfl ?_
    exact x_iret K rfl hr dX8_could_49
  · refine x_iload_n (pc' := 10) K 1 dX8_could_9 rfl rfl ?_
    refine x_aload_n (pc' := 11) K 0 dX8_could_10 rfl rfl ?_
    refine x_geti (pc' := 14) K fg_14_40 (Or.inl (K.2.2.2.2.1 _ q1352)) (fun _ h9 => h9) dX8_could_11 rfl (fun x2 => ?_)
    refine x_icmp_ge (tgt := 48) (pc' := 17) K dX8_could_14 rfl (by decide) ?_ ?_
    · refine x_iconst (pc' := 49) (v := (-1)) K dX8_could_48 rfl rfl ?_
      exact x_iret K rfl hr dX8_could_49
    · refine x_iload_n (pc' := 18) K 2 dX8_could_17 rfl rfl ?_
      refine x_iconst (pc' := 19) (v := 0) K dX8_could_18 rfl rfl ?_
      refine x_iconst (pc' := 20) (v := 1) K dX8_could_19 rfl rfl ?_
      refine x_cSO (pc' := 23) (As := [xI v2, xI (0 : Int32), xI (1 : Int32)]) (en := (fun v => some (xI v))) (rest := []) K (fun a hF => ct_X8_isIn hF) rfl q1552 q1553 q1554 q105 hy_X8_isIn (Nat.le_of_ble_eq_true rfl) (Nat.le_of_ble_eq_true rfl) (Nat.le_of_ble_eq_true rfl) dX8_could_20 rfl (fun x3 => ?_)
      refine x_if_eq (tgt := 48) (pc' := 26) K dX8_could_23 rfl (by decide) ?_ ?_
      · refine x_iconst (pc' := 49) (v := (-1)) K dX8_could_48 rfl rfl ?_
        exact x_iret K rfl hr dX8_could_49
      · refine x_iload_n (pc' := 27) K 2 dX8_could_26 rfl rfl ?_
        refine x_if_ne (tgt := 39) (pc' := 30) K dX8_could_27 rfl (by decide) ?_ ?_
        · refine x_aload_n (pc' := 40) K 0 dX8_could_39 rfl rfl ?_
          refine x_getr (pc' := 43) K fg_14_36 (Or.inl (K.2.2.2.2.1 _ q1348)) (fun _ h9 => h9) dX8_could_40 rfl (fun x4 => ?_)
          refine x_iload_n (pc' := 44) K 1 dX8_could_43 rfl rfl ?_
          refine x_iald (pc' := 45) K dX8_could_44 rfl (fun x5 => ?_)
          refine x_goto (tgt := 49) K dX8_could_45 (by decide) ?_
          exact x_iret K rfl hr dX8_could_49
        · refine x_aload_n (pc' := 31) K 0 dX8_could_30 rfl rfl ?_
          refine x_getr (pc' := 34) K fg_14_35 (Or.inl (K.2.2.2.2.1 _ q1347)) (fun _ h9 => h9) dX8_could_31 rfl (fun x6 => ?_)
          refine x_iload_n (pc' := 35) K 1 dX8_could_34 rfl rfl ?_
          refine x_iald (pc' := 36) K dX8_could_35 rfl (fun x7 => ?_)
          refine x_goto (tgt := 49) K dX8_could_36 (by decide) ?_
          exact x_iret K rfl hr dX8_could_49
/-! FaceCoinsModel.draw(I)I -/
noncomputable def fM_draw (v0 : Nat) (v1 : Int32) (h0 : AH) : Option (Int32 × AH) :=
  (xgi h0 v0 [14] 41).bind fun x1 =>
  (xpi h0 v0 [14] 41 ((x1 * (1103515245 : Int32)) + (12345 : Int32))).bind fun g2 =>
  (xgi g2 v0 [14] 41).bind fun x3 =>
  (xrem ((Int32.toUInt32 x3 >>> (Int32.toUInt32 (8 : Int32) &&& Int32.toUInt32 31)).toInt32) v1).bind fun x4 =>
  some ((x4, g2))
set_option maxHeartbeats 4000000 in
theorem ct_X8_draw {l : Launch} {D : XD} {v0 : Nat} {v1 : Int32} {h0 : AH} {a : Int32} {h1 : AH} (hF : fM_draw v0 v1 h0 = some (a, h1)) : XCt l D yX8_draw (ws_ yX8_draw cX8_draw 2 (some .int)) 0 0 [xR v0, xI v1] h0 (.inl (some (xI a))) h1 := by
  refine x_method (by decide) (Nat.le_of_ble_eq_true rfl) fun p e R s m args below meth c K hr hnm hex => ?_
  have K : XO p R s m args meth c D 2 h0 cX8_draw "FaceCoinsModel" 0 0 := K
  generalize hQ : XMQ below _ _ _ _ _ _ = Q
  refine (?_ : XF p l e R s m args below meth c D 2 h0 Q 0 [(0, xR v0), (1, xI v1)] [] h0 (fM_draw v0 v1 h0) (XEnd below s D h0 (fun v => .inl (some (xI v))) Q)) (a, h1) hF hQ.symm
  unfold fM_draw
  refine x_aload_n (pc' := 1) K 0 dX8_draw_0 rfl rfl ?_
  refine x_aload_n (pc' := 2) K 0 dX8_draw_1 rfl rfl ?_
  refine x_geti (pc' := 5) K fg_14_41 (Or.inl (K.2.2.2.2.1 _ q1353)) (fun _ h9 => h9) dX8_draw_2 rfl (fun x1 => ?_)
  refine x_ldcw (pc' := 8) K q1832 dX8_draw_5 rfl ?_
  refine x_imul (pc' := 9) K dX8_draw_8 rfl ?_
  refine x_sipush (pc' := 12) (v := 12345) K dX8_draw_9 rfl (by decide) ?_
  refine x_iadd (pc' := 13) K dX8_draw_12 rfl ?_
  refine x_puti (pc' := 16) K fp_14_41 (Or.inl (K.2.2.2.2.1 _ q1353)) (fun _ h9 => h9) (Or.inl rfl) dX8_draw_13 rfl (fun g2 => ?_)
  refine x_aload_n (pc' := 17) K 0 dX8_draw_16 rfl rfl ?_
  refine x_geti (pc' := 20) K fg_14_41 (Or.inl (K.2.2.2.2.1 _ q1353)) (fun _ h9 => h9) dX8_draw_17 rfl (fun x3 => ?_)
  refine x_bipush (pc' := 22) (v := 8) K dX8_draw_20 rfl (by decide) ?_
  refine x_iushr (pc' := 23) K dX8_draw_22 rfl ?_
  refine x_iload_n (pc' := 24) K 1 dX8_draw_23 rfl rfl ?_
  refine x_irem (pc' := 25) K dX8_draw_24 rfl (fun x4 => ?_)
  exact x_iret K rfl hr dX8_draw_25
/-! FaceCoinsModel.market(II)I -/
noncomputable def fM_market_b93_49 (v0 : Nat) (v1 : Int32) (v3 : Int32) (v4 : Int32) (v5 : Int32) (v6 : Int32)  (g : AH) : Option ((Nat × Int32 × Int32 × Int32 × AH) ⊕ (Int32 × AH)) :=
  (xck g v0 14 (fM_mints v0 g)).bind fun x14 =>
  xb2 (xck g v0 14 (fM_draw v0 x14 g)) fun x15 g16 =>
  xb2 (xck g16 v0 14 (fM_draw v0 (200 : Int32) g16)) fun x17 g18 =>
  xb2 (xck g18 v0 14 (fM_layPayment v0 v5 v6 x15 (x17 + (1 : Int32)) g18)) fun x19 g20 =>
  if x19 < 0 then (
    some (Sum.inl (v0, v1, v3, (v4 + 1), g20)))
  else (
    (xck g20 v0 14 (fM_strokesToPay v0 g20)).bind fun x21 =>
    (xck g20 v0 14 (fM_isFull v0 x21 g20)).bind fun x22 =>
    if x22 = 0 then (
      xb2 (xck g20 v0 14 (fM_pay v0 v5 v6 x15 (x17 + (1 : Int32)) g20)) fun x_ g23 =>
      some (Sum.inl (v0, v1, (v3 + 1), (v4 + 1), g23)))
    else (
      some (Sum.inl (v0, v1, v3, (v4 + 1), g20))))
noncomputable def fM_market_l49 (v0 : Nat) (v1 : Int32) (v3 : Int32) (v4 : Int32) (g : AH) : Option ((Nat × Int32 × Int32 × Int32 × AH) ⊕ (Int32 × AH)) :=
  if v1 ≤ v4 then (
    some (Sum.inr (v3, g)))
  else (
    (xck g v0 14 (fM_people v0 g)).bind fun x8 =>
    xb2 (xck g v0 14 (fM_draw v0 x8 g)) fun x9 g10 =>
    (xck g10 v0 14 (fM_people v0 g10)).bind fun x11 =>
    xb2 (xck g10 v0 14 (fM_draw v0 x11 g10)) fun x12 g13 =>
    if x12 = x9 then (
      (xck g13 v0 14 (fM_people v0 g13)).bind fun x24 =>
      (xrem (x12 + (1 : Int32)) x24).bind fun x25 =>
      fM_market_b93_49 v0 v1 v3 v4 x9 x25 g13)
    else (
      fM_market_b93_49 v0 v1 v3 v4 x9 x12 g13))
noncomputable def fM_market_a164 (v3 : Int32) (g : AH) : Option (Int32 × AH) :=
  some ((v3, g))
noncomputable def fM_market (v0 : Nat) (v1 : Int32) (v2 : Int32) (h0 : AH) : Option (Int32 × AH) :=
  (xpi h0 v0 [14] 0 (0 : Int32)).bind fun g1 =>
  xb2 (xck g1 v0 14 (fM_lay v0 g1)) fun x_ g2 =>
  (fM_isIn v1 (1 : Int32) (50 : Int32) g2).bind fun x3 =>
  if x3 = 0 then (
    some ((((-1) : Int32), g2)))
  else (
    (xck g2 v0 14 (fM_people v0 g2)).bind fun x4 =>
    if x4 = 0 then (
      some ((((-1) : Int32), g2)))
    else (
      (xck g2 v0 14 (fM_mints v0 g2)).bind fun x5 =>
      if x5 = 0 then (
        some ((((-1) : Int32), g2)))
      else (
        xb2 (xck g2 v0 14 (fM_snap v0 g2)) fun x_ g6 =>
        (xpi g6 v0 [14] 41 v2).bind fun g7 =>
        (xloop (fun s9 : (Nat × Int32 × Int32 × Int32 × AH) => fM_market_l49 s9.1 s9.2.1 s9.2.2.1 s9.2.2.2.1 s9.2.2.2.2) (v0, v1, (0 : Int32), (0 : Int32), g7)).bind (fun r9 : (Int32 × AH) => fM_market_a164 r9.1 r9.2))))
set_option maxHeartbeats 4000000 in
theorem ct_X8_market {l : Launch} {D : XD} {v0 : Nat} {v1 : Int32} {v2 : Int32} {h0 : AH} {a : Int32} {h1 : AH} (hF : fM_market v0 v1 v2 h0 = some (a, h1)) : XCt l D yX8_market (ws_ yX8_market cX8_market 9 (some .int)) 4 105 [xR v0, xI v1, xI v2] h0 (.inl (some (xI a))) h1 := by
  refine x_method (by decide) (Nat.le_of_ble_eq_true rfl) fun p e R s m args below meth c K hr hnm hex => ?_
  have K : XO p R s m args meth c D 9 h0 cX8_market "FaceCoinsModel" 4 105 := K
  generalize hQ : XMQ below _ _ _ _ _ _ = Q
  have hL49 : ∀ (C1 : ((Nat × Int32 × Int32 × Int32 × AH) ⊕ (Int32 × AH)) → Prop) (hj1 : ∀ s9 : (Nat × Int32 × Int32 × Int32 × AH), C1 (Sum.inl s9) → XG p l e R s m args below meth c D 9 h0 Q 49 [(0, xR s9.1), (1, xI s9.2.1), (3, xI s9.2.2.1), (4, xI s9.2.2.2.1)] [] s9.2.2.2.2) (he1 : ∀ r9 : (Int32 × AH), C1 (Sum.inr r9) → XG p l e R s m args below meth c D 9 h0 Q 164 [(3, xI r9.1)] [] r9.2) (v0 : Nat) (v1 : Int32) (v3 : Int32) (v4 : Int32) (g : AH), XF p l e R s m args below meth c D 9 h0 Q 49 [(0, xR v0), (1, xI v1), (3, xI v3), (4, xI v4)] [] g (fM_market_l49 v0 v1 v3 v4 g) C1 := by
    intro C1 hj1 he1
    have hB93 : ∀ (v0 : Nat) (v1 : Int32) (v3 : Int32) (v4 : Int32) (v5 : Int32) (v6 : Int32)  (g : AH), XF p l e R s m args below meth c D 9 h0 Q 93 [(0, xR v0), (1, xI v1), (3, xI v3), (4, xI v4), (5, xI v5), (6, xI v6)] [] g (fM_market_b93_49 v0 v1 v3 v4 v5 v6 g) C1 := by
      intro v0 v1 v3 v4 v5 v6 g
      unfold fM_market_b93_49
      refine x_aload_n (pc' := 94) K 0 dX8_market_93 rfl rfl ?_
      refine x_aload_n (pc' := 95) K 0 dX8_market_94 rfl rfl ?_
      refine x_cVO (pc' := 98) (As := []) (en := (fun v => some (xI v))) (rest := [xR v0]) K (fun a hF => ct_X8_mints hF) rfl (by decide) q1622 q1624 qs58 q1625 q105 hy_X8_mints (Nat.le_of_ble_eq_true rfl) (Nat.le_of_ble_eq_true rfl) (Nat.le_of_ble_eq_true rfl) dX8_market_95 rfl (fun x14 => ?_)
      refine x_cV (pc' := 101) (As := [xI x14]) (en := (fun v => some (xI v))) (rest := []) K (fun a h1 hF => ct_X8_draw hF) rfl (by decide) q1828 q1830 qs84 q1831 q105 hy_X8_draw (Nat.le_of_ble_eq_true rfl) (Nat.le_of_ble_eq_true rfl) (Nat.le_of_ble_eq_true rfl) dX8_market_98 rfl (fun x15 g16 => ?_)
      refine x_istore (pc' := 103) (lv' := [(7, xI x15), (0, xR v0), (1, xI v1), (3, xI v3), (4, xI v4), (5, xI v5), (6, xI v6)]) K dX8_market_101 rfl (by decide) rfl ?_
      refine x_aload_n (pc' := 104) K 1 dX8_market_103 rfl rfl ?_
      refine x_sipush (pc' := 107) (v := 200) K dX8_market_104 rfl (by decide) ?_
      refine x_cV (pc' := 110) (As := [xI (200 : Int32)]) (en := (fun v => some (xI v))) (rest := []) K (fun a h1 hF => ct_X8_draw hF) rfl (by decide) q1828 q1830 qs84 q1831 q105 hy_X8_draw (Nat.le_of_ble_eq_true rfl) (Nat.le_of_ble_eq_true rfl) (Nat.le_of_ble_eq_true rfl) dX8_market_107 rfl (fun x17 g18 => ?_)
      refine x_iconst (pc' := 111) (v := 1) K dX8_market_110 rfl rfl ?_
      refine x_iadd (pc' := 112) K dX8_market_111 rfl ?_
      refine x_istore (pc' := 114) (lv' := [(8, xI (x17 + (1 : Int32))), (7, xI x15), (0, xR v0), (1, xI v1), (3, xI v3), (4, xI v4), (5, xI v5), (6, xI v6)]) K dX8_market_112 rfl (by decide) rfl ?_
      refine x_aload_n (pc' := 115) K 2 dX8_market_114 rfl rfl ?_
      refine x_iload (pc' := 117) K 6 dX8_market_115 rfl rfl ?_
      refine x_iload (pc' := 119) K 7 dX8_market_117 rfl rfl ?_
      refine x_iload (pc' := 121) K 1 dX8_market_119 rfl rfl ?_
      refine x_iload (pc' := 123) K 0 dX8_market_121 rfl rfl ?_
      refine x_cV (pc' := 126) (As := [xI v5, xI v6, xI x15, xI (x17 + (1 : Int32))]) (en := (fun v => some (xI v))) (rest := []) K (fun a h1 hF => ct_X8_layPayment hF) rfl (by decide) q1722 q1724 qs73 q1725 q105 hy_X8_layPayment (Nat.le_of_ble_eq_true rfl) (Nat.le_of_ble_eq_true rfl) (Nat.le_of_ble_eq_true rfl) dX8_market_123 rfl (fun x19 g20 => ?_)
      refine x_if_lt (tgt := 158) (pc' := 129) K dX8_market_126 rfl (by decide) ?_ ?_
      · refine x_iinc (pc' := 161) (y := 1) (lv' := [(4, xI (v4 + 1)), (8, xI (x17 + (1 : Int32))), (7, xI x15), (0, xR v0), (1, xI v1), (3, xI v3), (5, xI v5), (6, xI v6)]) K 5 dX8_market_158 rfl rfl (by decide) (by decide) rfl ?_
        refine x_goto (tgt := 49) K dX8_market_161 (by decide) ?_
        refine x_sub (lv' := [(0, xR v0), (1, xI v1), (3, xI v3), (4, xI (v4 + 1))]) [3, 4, 5, 0] rfl ?_
        exact x_jump (fun hz => hj1 (v0, v1, v3, (v4 + 1), g20) hz)
      · refine x_aload_n (pc' := 130) K 2 dX8_market_129 rfl rfl ?_
        refine x_aload_n (pc' := 131) K 2 dX8_market_130 rfl rfl ?_
        refine x_cVO (pc' := 134) (As := []) (en := (fun v => some (xI v))) (rest := [xR v0]) K (fun a hF => ct_X8_strokesToPay hF) rfl (by decide) q1751 q1753 qs78 q1754 q105 hy_X8_strokesToPay (Nat.le_of_ble_eq_true rfl) (Nat.le_of_ble_eq_true rfl) (Nat.le_of_ble_eq_true rfl) dX8_market_131 rfl (fun x21 => ?_)
        refine x_cVO (pc' := 137) (As := [xI x21]) (en := (fun v => some (xI v))) (rest := []) K (fun a hF => ct_X8_isFull hF) rfl (by decide) q1634 q1636 qs60 q1637 q105 hy_X8_isFull (Nat.le_of_ble_eq_true rfl) (Nat.le_of_ble_eq_true rfl) (Nat.le_of_ble_eq_true rfl) dX8_market_134 rfl (fun x22 => ?_)
        refine x_if_eq (tgt := 143) (pc' := 140) K dX8_market_137 rfl (by decide) ?_ ?_
        · refine x_aload_n (pc' := 144) K 2 dX8_market_143 rfl rfl ?_
          refine x_iload (pc' := 146) K 6 dX8_market_144 rfl rfl ?_
          refine x_iload (pc' := 148) K 7 dX8_market_146 rfl rfl ?_
          refine x_iload (pc' := 150) K 1 dX8_market_148 rfl rfl ?_
          refine x_iload (pc' := 152) K 0 dX8_market_150 rfl rfl ?_
          refine x_cV (pc' := 155) (As := [xI v5, xI v6, xI x15, xI (x17 + (1 : Int32))]) (en := (fun _ => none)) (rest := []) K (fun a h1 hF => ct_X8_pay hF) rfl (by decide) q1755 q1757 qs79 q1758 q105 hy_X8_pay (Nat.le_of_ble_eq_true rfl) (Nat.le_of_ble_eq_true rfl) (Nat.le_of_ble_eq_true rfl) dX8_market_152 rfl (fun x_ g23 => ?_)
          refine x_iinc (pc' := 158) (y := 1) (lv' := [(3, xI (v3 + 1)), (8, xI (x17 + (1 : Int32))), (7, xI x15), (0, xR v0), (1, xI v1), (4, xI v4), (5, xI v5), (6, xI v6)]) K 4 dX8_market_155 rfl rfl (by decide) (by decide) rfl ?_
          refine x_iinc (pc' := 161) (y := 1) (lv' := [(4, xI (v4 + 1)), (3, xI (v3 + 1)), (8, xI (x17 + (1 : Int32))), (7, xI x15), (0, xR v0), (1, xI v1), (5, xI v5), (6, xI v6)]) K 5 dX8_market_158 rfl rfl (by decide) (by decide) rfl ?_
          refine x_goto (tgt := 49) K dX8_market_161 (by decide) ?_
          refine x_sub (lv' := [(0, xR v0), (1, xI v1), (3, xI (v3 + 1)), (4, xI (v4 + 1))]) [4, 5, 1, 0] rfl ?_
          exact x_jump (fun hz => hj1 (v0, v1, (v3 + 1), (v4 + 1), g23) hz)
        · refine x_goto (tgt := 158) K dX8_market_140 (by decide) ?_
          refine x_iinc (pc' := 161) (y := 1) (lv' := [(4, xI (v4 + 1)), (8, xI (x17 + (1 : Int32))), (7, xI x15), (0, xR v0), (1, xI v1), (3, xI v3), (5, xI v5), (6, xI v6)]) K 5 dX8_market_158 rfl rfl (by decide) (by decide) rfl ?_
          refine x_goto (tgt := 49) K dX8_market_161 (by decide) ?_
          refine x_sub (lv' := [(0, xR v0), (1, xI v1), (3, xI v3), (4, xI (v4 + 1))]) [3, 4, 5, 0] rfl ?_
          exact x_jump (fun hz => hj1 (v0, v1, v3, (v4 + 1), g20) hz)
    intro v0 v1 v3 v4 g
    unfold fM_market_l49
    refine x_iload (pc' := 51) K 3 dX8_market_49 rfl rfl ?_
    refine x_iload_n (pc' := 52) K 1 dX8_market_51 rfl rfl ?_
    refine x_icmp_ge (tgt := 164) (pc' := 55) K dX8_market_52 rfl (by decide) ?_ ?_
    · refine x_sub (lv' := [(3, xI v3)]) [2] rfl ?_
      exact x_jump (fun hz => he1 (v3, g) hz)
    · refine x_aload_n (pc' := 56) K 0 dX8_market_55 rfl rfl ?_
      refine x_aload_n (pc' := 57) K 0 dX8_market_56 rfl rfl ?_
      refine x_cVO (pc' := 60) (As := []) (en := (fun v => some (xI v))) (rest := [xR v0]) K (fun a hF => ct_X8_people hF) rfl (by decide) q1590 q1592 qs51 q1593 q105 hy_X8_people (Nat.le_of_ble_eq_true rfl) (Nat.le_of_ble_eq_true rfl) (Nat.le_of_ble_eq_true rfl) dX8_market_57 rfl (fun x8 => ?_)
      refine x_cV (pc' := 63) (As := [xI x8]) (en := (fun v => some (xI v))) (rest := []) K (fun a h1 hF => ct_X8_draw hF) rfl (by decide) q1828 q1830 qs84 q1831 q105 hy_X8_draw (Nat.le_of_ble_eq_true rfl) (Nat.le_of_ble_eq_true rfl) (Nat.le_of_ble_eq_true rfl) dX8_market_60 rfl (fun x9 g10 => ?_)
      refine x_istore (pc' := 65) (lv' := [(5, xI x9), (0, xR v0), (1, xI v1), (3, xI v3), (4, xI v4)]) K dX8_market_63 rfl (by decide) rfl ?_
      refine x_aload_n (pc' := 66) K 1 dX8_market_65 rfl rfl ?_
      refine x_aload_n (pc' := 67) K 1 dX8_market_66 rfl rfl ?_
      refine x_cVO (pc' := 70) (As := []) (en := (fun v => some (xI v))) (rest := [xR v0]) K (fun a hF => ct_X8_people hF) rfl (by decide) q1590 q1592 qs51 q1593 q105 hy_X8_people (Nat.le_of_ble_eq_true rfl) (Nat.le_of_ble_eq_true rfl) (Nat.le_of_ble_eq_true rfl) dX8_market_67 rfl (fun x11 => ?_)
      refine x_cV (pc' := 73) (As := [xI x11]) (en := (fun v => some (xI v))) (rest := []) K (fun a h1 hF => ct_X8_draw hF) rfl (by decide) q1828 q1830 qs84 q1831 q105 hy_X8_draw (Nat.le_of_ble_eq_true rfl) (Nat.le_of_ble_eq_true rfl) (Nat.le_of_ble_eq_true rfl) dX8_market_70 rfl (fun x12 g13 => ?_)
      refine x_istore (pc' := 75) (lv' := [(6, xI x12), (5, xI x9), (0, xR v0), (1, xI v1), (3, xI v3), (4, xI v4)]) K dX8_market_73 rfl (by decide) rfl ?_
      refine x_iload (pc' := 77) K 0 dX8_market_75 rfl rfl ?_
      refine x_iload (pc' := 79) K 1 dX8_market_77 rfl rfl ?_
      refine x_icmp_ne (tgt := 93) (pc' := 82) K dX8_market_79 rfl (by decide) ?_ ?_
      · refine x_sub (lv' := [(0, xR v0), (1, xI v1), (3, xI v3), (4, xI v4), (5, xI x9), (6, xI x12)]) [2, 3, 4, 5, 1, 0] rfl ?_
        exact hB93 _ _ _ _ _ _ g13
      · refine x_iload (pc' := 84) K 0 dX8_market_82 rfl rfl ?_
        refine x_iconst (pc' := 85) (v := 1) K dX8_market_84 rfl rfl ?_
        refine x_iadd (pc' := 86) K dX8_market_85 rfl ?_
        refine x_aload_n (pc' := 87) K 2 dX8_market_86 rfl rfl ?_
        refine x_cVO (pc' := 90) (As := []) (en := (fun v => some (xI v))) (rest := [xI (x12 + (1 : Int32))]) K (fun a hF => ct_X8_people hF) rfl (by decide) q1590 q1592 qs51 q1593 q105 hy_X8_people (Nat.le_of_ble_eq_true rfl) (Nat.le_of_ble_eq_true rfl) (Nat.le_of_ble_eq_true rfl) dX8_market_87 rfl (fun x24 => ?_)
        refine x_irem (pc' := 91) K dX8_market_90 rfl (fun x25 => ?_)
        refine x_istore (pc' := 93) (lv' := [(6, xI x25), (5, xI x9), (0, xR v0), (1, xI v1), (3, xI v3), (4, xI v4)]) K dX8_market_91 rfl (by decide) rfl ?_
        refine x_sub (lv' := [(0, xR v0), (1, xI v1), (3, xI v3), (4, xI v4), (5, xI x9), (6, xI x25)]) [2, 3, 4, 5, 1, 0] rfl ?_
        exact hB93 _ _ _ _ _ _ g13
  have hA164_0 : ∀ (v3 : Int32) (g : AH), XF p l e R s m args below meth c D 9 h0 Q 164 [(3, xI v3)] [] g (fM_market_a164 v3 g) (XEnd below s D h0 (fun v => .inl (some (xI v))) Q) := by
    intro v3 g
    unfold fM_market_a164
    refine x_iload_n (pc' := 165) K 0 dX8_market_164 rfl rfl ?_
    exact x_iret K rfl hr dX8_market_165
  refine (?_ : XF p l e R s m args below meth c D 9 h0 Q 0 [(0, xR v0), (1, xI v1), (2, xI v2)] [] h0 (fM_market v0 v1 v2 h0) (XEnd below s D h0 (fun v => .inl (some (xI v))) Q)) (a, h1) hF hQ.symm
  unfold fM_market
  refine x_aload_n (pc' := 1) K 0 dX8_market_0 rfl rfl ?_
  refine x_iconst (pc' := 2) (v := 0) K dX8_market_1 rfl rfl ?_
  refine x_puti (pc' := 5) K fp_14_0 (Or.inl (K.2.2.2.2.1 _ q1312)) (fun _ h9 => h9) (Or.inl rfl) dX8_market_2 rfl (fun g1 => ?_)
  refine x_aload_n (pc' := 6) K 0 dX8_market_5 rfl rfl ?_
  refine x_cV (pc' := 9) (As := []) (en := (fun _ => none)) (rest := []) K (fun a h1 hF => ct_X8_lay hF) rfl (by decide) q1479 q1481 qs31 q1482 q105 hy_X8_lay (Nat.le_of_ble_eq_true rfl) (Nat.le_of_ble_eq_true rfl) (Nat.le_of_ble_eq_true rfl) dX8_market_6 rfl (fun x_ g2 => ?_)
  refine x_iload_n (pc' := 10) K 1 dX8_market_9 rfl rfl ?_
  refine x_iconst (pc' := 11) (v := 1) K dX8_market_10 rfl rfl ?_
  refine x_bipush (pc' := 13) (v := 50) K dX8_market_11 rfl (by decide) ?_
  refine x_cSO (pc' := 16) (As := [xI v1, xI (1 : Int32), xI (50 : Int32)]) (en := (fun v => some (xI v))) (rest := []) K (fun a hF => ct_X8_isIn hF) rfl q1552 q1553 q1554 q105 hy_X8_isIn (Nat.le_of_ble_eq_true rfl) (Nat.le_of_ble_eq_true rfl) (Nat.le_of_ble_eq_true rfl) dX8_market_13 rfl (fun x3 => ?_)
  refine x_if_eq (tgt := 33) (pc' := 19) K dX8_market_16 rfl (by decide) ?_ ?_
  · refine x_iconst (pc' := 34) (v := (-1)) K dX8_market_33 rfl rfl ?_
    exact x_iret K rfl hr dX8_market_34
  · refine x_aload_n (pc' := 20) K 0 dX8_market_19 rfl rfl ?_
    refine x_cVO (pc' := 23) (As := []) (en := (fun v => some (xI v))) (rest := []) K (fun a hF => ct_X8_people hF) rfl (by decide) q1590 q1592 qs51 q1593 q105 hy_X8_people (Nat.le_of_ble_eq_true rfl) (Nat.le_of_ble_eq_true rfl) (Nat.le_of_ble_eq_true rfl) dX8_market_20 rfl (fun x4 => ?_)
    refine x_if_eq (tgt := 33) (pc' := 26) K dX8_market_23 rfl (by decide) ?_ ?_
    · refine x_iconst (pc' := 34) (v := (-1)) K dX8_market_33 rfl rfl ?_
      exact x_iret K rfl hr dX8_market_34
    · refine x_aload_n (pc' := 27) K 0 dX8_market_26 rfl rfl ?_
      refine x_cVO (pc' := 30) (As := []) (en := (fun v => some (xI v))) (rest := []) K (fun a hF => ct_X8_mints hF) rfl (by decide) q1622 q1624 qs58 q1625 q105 hy_X8_mints (Nat.le_of_ble_eq_true rfl) (Nat.le_of_ble_eq_true rfl) (Nat.le_of_ble_eq_true rfl) dX8_market_27 rfl (fun x5 => ?_)
      refine x_if_ne (tgt := 35) (pc' := 33) K dX8_market_30 rfl (by decide) ?_ ?_
      · refine x_aload_n (pc' := 36) K 0 dX8_market_35 rfl rfl ?_
        refine x_cV (pc' := 39) (As := []) (en := (fun _ => none)) (rest := []) K (fun a h1 hF => ct_X8_snap hF) rfl (by decide) q1642 q1644 qs62 q1645 q105 hy_X8_snap (Nat.le_of_ble_eq_true rfl) (Nat.le_of_ble_eq_true rfl) (Nat.le_of_ble_eq_true rfl) dX8_market_36 rfl (fun x_ g6 => ?_)
        refine x_aload_n (pc' := 40) K 0 dX8_market_39 rfl rfl ?_
        refine x_iload_n (pc' := 41) K 2 dX8_market_40 rfl rfl ?_
        refine x_puti (pc' := 44) K fp_14_41 (Or.inl (K.2.2.2.2.1 _ q1353)) (fun _ h9 => h9) (Or.inl rfl) dX8_market_41 rfl (fun g7 => ?_)
        refine x_iconst (pc' := 45) (v := 0) K dX8_market_44 rfl rfl ?_
        refine x_istore_n (pc' := 46) (lv' := [(3, xI (0 : Int32)), (0, xR v0), (1, xI v1), (2, xI v2)]) K dX8_market_45 rfl (by decide) rfl ?_
        refine x_iconst (pc' := 47) (v := 0) K dX8_market_46 rfl rfl ?_
        refine x_istore (pc' := 49) (lv' := [(4, xI (0 : Int32)), (3, xI (0 : Int32)), (0, xR v0), (1, xI v1), (2, xI v2)]) K dX8_market_47 rfl (by decide) rfl ?_
        refine x_sub (lv' := [(0, xR v0), (1, xI v1), (3, xI (0 : Int32)), (4, xI (0 : Int32))]) [2, 3, 1, 0] rfl ?_
        exact x_loop (pl := (fun s9 : (Nat × Int32 × Int32 × Int32 × AH) => [(0, xR s9.1), (1, xI s9.2.1), (3, xI s9.2.2.1), (4, xI s9.2.2.2.1)])) (ph := (fun s9 : (Nat × Int32 × Int32 × Int32 × AH) => s9.2.2.2.2)) (fun r9 : (Int32 × AH) => XG p l e R s m args below meth c D 9 h0 Q 164 [(3, xI r9.1)] [] r9.2) (fun s9 => hL49 _ (fun _ hz => hz) (fun _ hz => hz) s9.1 s9.2.1 s9.2.2.1 s9.2.2.2.1 s9.2.2.2.2) (fun r9 x hx hc => hA164_0 r9.1 r9.2 x hx hc) (v0, v1, (0 : Int32), (0 : Int32), g7)
      · refine x_iconst (pc' := 34) (v := (-1)) K dX8_market_33 rfl rfl ?_
        exact x_iret K rfl hr dX8_market_34
/-! FaceCoinsModel.undo()I -/
noncomputable def fM_undo_l42 (v0 : Nat) (v1 : Int32) (v2 : Int32) (v3 : Int32) (g : AH) : Option ((Nat × Int32 × Int32 × Int32 × AH) ⊕ (Nat × Int32 × Int32 × AH)) :=
  if (7900 : Int32) ≤ v3 then (
    some (Sum.inr (v0, v1, v2, g)))
  else (
    (xgr g v0 [14] 14).bind fun x9 =>
    (xgr g v0 [14] 17).bind fun x10 =>
    (xgi g v0 [14] 23).bind fun x11 =>
    (xai g x10 100 (((7900 : Int32) * x11) + v3)).bind fun x12 =>
    (xsi g x9 v3 x12).bind fun g13 =>
    some (Sum.inl (v0, v1, v2, (v3 + 1), g13)))
noncomputable def fM_undo_a76 (v0 : Nat) (v1 : Int32) (v2 : Int32) (g : AH) : Option (Int32 × AH) :=
  (xgr g v0 [14] 14).bind fun x14 =>
  (xsi g x14 (116 : Int32) v1).bind fun g15 =>
  (xgr g15 v0 [14] 14).bind fun x16 =>
  (xsi g15 x16 (117 : Int32) v2).bind fun g17 =>
  (xgi g17 v0 [14] 23).bind fun x18 =>
  some ((x18, g17))
noncomputable def fM_undo (v0 : Nat) (h0 : AH) : Option (Int32 × AH) :=
  (xpi h0 v0 [14] 0 (0 : Int32)).bind fun g1 =>
  (xgi g1 v0 [14] 23).bind fun x2 =>
  if x2 = 0 then (
    some ((((-1) : Int32), g1)))
  else (
    (xgi g1 v0 [14] 23).bind fun x3 =>
    (xpi g1 v0 [14] 23 (x3 - (1 : Int32))).bind fun g4 =>
    (xgr g4 v0 [14] 14).bind fun x5 =>
    (xai g4 x5 100 (116 : Int32)).bind fun x6 =>
    (xgr g4 v0 [14] 14).bind fun x7 =>
    (xai g4 x7 100 (117 : Int32)).bind fun x8 =>
    (xloop (fun s9 : (Nat × Int32 × Int32 × Int32 × AH) => fM_undo_l42 s9.1 s9.2.1 s9.2.2.1 s9.2.2.2.1 s9.2.2.2.2) (v0, x6, x8, (0 : Int32), g4)).bind (fun r9 : (Nat × Int32 × Int32 × AH) => fM_undo_a76 r9.1 r9.2.1 r9.2.2.1 r9.2.2.2))
set_option maxHeartbeats 4000000 in
theorem ct_X8_undo {l : Launch} {D : XD} {v0 : Nat} {h0 : AH} {a : Int32} {h1 : AH} (hF : fM_undo v0 h0 = some (a, h1)) : XCt l D yX8_undo (ws_ yX8_undo cX8_undo 4 (some .int)) 0 0 [xR v0] h0 (.inl (some (xI a))) h1 := by
  refine x_method (by decide) (Nat.le_of_ble_eq_true rfl) fun p e R s m args below meth c K hr hnm hex => ?_
  have K : XO p R s m args meth c D 4 h0 cX8_undo "FaceCoinsModel" 0 0 := K
  generalize hQ : XMQ below _ _ _ _ _ _ = Q
  have hL42 : ∀ (C1 : ((Nat × Int32 × Int32 × Int32 × AH) ⊕ (Nat × Int32 × Int32 × AH)) → Prop) (hj1 : ∀ s9 : (Nat × Int32 × Int32 × Int32 × AH), C1 (Sum.inl s9) → XG p l e R s m args below meth c D 4 h0 Q 42 [(0, xR s9.1), (1, xI s9.2.1), (2, xI s9.2.2.1), (3, xI s9.2.2.2.1)] [] s9.2.2.2.2) (he1 : ∀ r9 : (Nat × Int32 × Int32 × AH), C1 (Sum.inr r9) → XG p l e R s m args below meth c D 4 h0 Q 76 [(0, xR r9.1), (1, xI r9.2.1), (2, xI r9.2.2.1)] [] r9.2.2.2) (v0 : Nat) (v1 : Int32) (v2 : Int32) (v3 : Int32) (g : AH), XF p l e R s m args below meth c D 4 h0 Q 42 [(0, xR v0), (1, xI v1), (2, xI v2), (3, xI v3)] [] g (fM_undo_l42 v0 v1 v2 v3 g) C1 := by
    intro C1 hj1 he1
    intro v0 v1 v2 v3 g
    unfold fM_undo_l42
    refine x_iload_n (pc' := 43) K 3 dX8_undo_42 rfl rfl ?_
    refine x_sipush (pc' := 46) (v := 7900) K dX8_undo_43 rfl (by decide) ?_
    refine x_icmp_ge (tgt := 76) (pc' := 49) K dX8_undo_46 rfl (by decide) ?_ ?_
    · refine x_sub (lv' := [(0, xR v0), (1, xI v1), (2, xI v2)]) [0, 1, 2] rfl ?_
      exact x_jump (fun hz => he1 (v0, v1, v2, g) hz)
    · refine x_aload_n (pc' := 50) K 0 dX8_undo_49 rfl rfl ?_
      refine x_getr (pc' := 53) K fg_14_14 (Or.inl (K.2.2.2.2.1 _ q1326)) (fun _ h9 => h9) dX8_undo_50 rfl (fun x9 => ?_)
      refine x_iload_n (pc' := 54) K 3 dX8_undo_53 rfl rfl ?_
      refine x_aload_n (pc' := 55) K 0 dX8_undo_54 rfl rfl ?_
      refine x_getr (pc' := 58) K fg_14_17 (Or.inl (K.2.2.2.2.1 _ q1329)) (fun _ h9 => h9) dX8_undo_55 rfl (fun x10 => ?_)
      refine x_sipush (pc' := 61) (v := 7900) K dX8_undo_58 rfl (by decide) ?_
      refine x_aload_n (pc' := 62) K 0 dX8_undo_61 rfl rfl ?_
      refine x_geti (pc' := 65) K fg_14_23 (Or.inl (K.2.2.2.2.1 _ q1335)) (fun _ h9 => h9) dX8_undo_62 rfl (fun x11 => ?_)
      refine x_imul (pc' := 66) K dX8_undo_65 rfl ?_
      refine x_iload_n (pc' := 67) K 3 dX8_undo_66 rfl rfl ?_
      refine x_iadd (pc' := 68) K dX8_undo_67 rfl ?_
      refine x_iald (pc' := 69) K dX8_undo_68 rfl (fun x12 => ?_)
      refine x_iast (pc' := 70) K dX8_undo_69 rfl (fun g13 => ?_)
      refine x_iinc (pc' := 73) (y := 1) (lv' := [(3, xI (v3 + 1)), (0, xR v0), (1, xI v1), (2, xI v2)]) K 3 dX8_undo_70 rfl rfl (by decide) (by decide) rfl ?_
      refine x_goto (tgt := 42) K dX8_undo_73 (by decide) ?_
      refine x_sub (lv' := [(0, xR v0), (1, xI v1), (2, xI v2), (3, xI (v3 + 1))]) [1, 2, 3, 0] rfl ?_
      exact x_jump (fun hz => hj1 (v0, v1, v2, (v3 + 1), g13) hz)
  have hA76_0 : ∀ (v0 : Nat) (v1 : Int32) (v2 : Int32) (g : AH), XF p l e R s m args below meth c D 4 h0 Q 76 [(0, xR v0), (1, xI v1), (2, xI v2)] [] g (fM_undo_a76 v0 v1 v2 g) (XEnd below s D h0 (fun v => .inl (some (xI v))) Q) := by
    intro v0 v1 v2 g
    unfold fM_undo_a76
    refine x_aload_n (pc' := 77) K 0 dX8_undo_76 rfl rfl ?_
    refine x_getr (pc' := 80) K fg_14_14 (Or.inl (K.2.2.2.2.1 _ q1326)) (fun _ h9 => h9) dX8_undo_77 rfl (fun x14 => ?_)
    refine x_bipush (pc' := 82) (v := 116) K dX8_undo_80 rfl (by decide) ?_
    refine x_iload_n (pc' := 83) K 1 dX8_undo_82 rfl rfl ?_
    refine x_iast (pc' := 84) K dX8_undo_83 rfl (fun g15 => ?_)
    refine x_aload_n (pc' := 85) K 0 dX8_undo_84 rfl rfl ?_
    refine x_getr (pc' := 88) K fg_14_14 (Or.inl (K.2.2.2.2.1 _ q1326)) (fun _ h9 => h9) dX8_undo_85 rfl (fun x16 => ?_)
    refine x_bipush (pc' := 90) (v := 117) K dX8_undo_88 rfl (by decide) ?_
    refine x_iload_n (pc' := 91) K 2 dX8_undo_90 rfl rfl ?_
    refine x_iast (pc' := 92) K dX8_undo_91 rfl (fun g17 => ?_)
    refine x_aload_n (pc' := 93) K 0 dX8_undo_92 rfl rfl ?_
    refine x_geti (pc' := 96) K fg_14_23 (Or.inl (K.2.2.2.2.1 _ q1335)) (fun _ h9 => h9) dX8_undo_93 rfl (fun x18 => ?_)
    exact x_iret K rfl hr dX8_undo_96
  refine (?_ : XF p l e R s m args below meth c D 4 h0 Q 0 [(0, xR v0)] [] h0 (fM_undo v0 h0) (XEnd below s D h0 (fun v => .inl (some (xI v))) Q)) (a, h1) hF hQ.symm
  unfold fM_undo
  refine x_aload_n (pc' := 1) K 0 dX8_undo_0 rfl rfl ?_
  refine x_iconst (pc' := 2) (v := 0) K dX8_undo_1 rfl rfl ?_
  refine x_puti (pc' := 5) K fp_14_0 (Or.inl (K.2.2.2.2.1 _ q1312)) (fun _ h9 => h9) (Or.inl rfl) dX8_undo_2 rfl (fun g1 => ?_)
  refine x_aload_n (pc' := 6) K 0 dX8_undo_5 rfl rfl ?_
  refine x_geti (pc' := 9) K fg_14_23 (Or.inl (K.2.2.2.2.1 _ q1335)) (fun _ h9 => h9) dX8_undo_6 rfl (fun x2 => ?_)
  refine x_if_ne (tgt := 14) (pc' := 12) K dX8_undo_9 rfl (by decide) ?_ ?_
  · refine x_aload_n (pc' := 15) K 0 dX8_undo_14 rfl rfl ?_
    refine x_dup (pc' := 16) K dX8_undo_15 rfl rfl ?_
    refine x_geti (pc' := 19) K fg_14_23 (Or.inl (K.2.2.2.2.1 _ q1335)) (fun _ h9 => h9) dX8_undo_16 rfl (fun x3 => ?_)
    refine x_iconst (pc' := 20) (v := 1) K dX8_undo_19 rfl rfl ?_
    refine x_isub (pc' := 21) K dX8_undo_20 rfl ?_
    refine x_puti (pc' := 24) K fp_14_23 (Or.inl (K.2.2.2.2.1 _ q1335)) (fun _ h9 => h9) (Or.inl rfl) dX8_undo_21 rfl (fun g4 => ?_)
    refine x_aload_n (pc' := 25) K 0 dX8_undo_24 rfl rfl ?_
    refine x_getr (pc' := 28) K fg_14_14 (Or.inl (K.2.2.2.2.1 _ q1326)) (fun _ h9 => h9) dX8_undo_25 rfl (fun x5 => ?_)
    refine x_bipush (pc' := 30) (v := 116) K dX8_undo_28 rfl (by decide) ?_
    refine x_iald (pc' := 31) K dX8_undo_30 rfl (fun x6 => ?_)
    refine x_istore_n (pc' := 32) (lv' := [(1, xI x6), (0, xR v0)]) K dX8_undo_31 rfl (by decide) rfl ?_
    refine x_aload_n (pc' := 33) K 1 dX8_undo_32 rfl rfl ?_
    refine x_getr (pc' := 36) K fg_14_14 (Or.inl (K.2.2.2.2.1 _ q1326)) (fun _ h9 => h9) dX8_undo_33 rfl (fun x7 => ?_)
    refine x_bipush (pc' := 38) (v := 117) K dX8_undo_36 rfl (by decide) ?_
    refine x_iald (pc' := 39) K dX8_undo_38 rfl (fun x8 => ?_)
    refine x_istore_n (pc' := 40) (lv' := [(2, xI x8), (1, xI x6), (0, xR v0)]) K dX8_undo_39 rfl (by decide) rfl ?_
    refine x_iconst (pc' := 41) (v := 0) K dX8_undo_40 rfl rfl ?_
    refine x_istore_n (pc' := 42) (lv' := [(3, xI (0 : Int32)), (2, xI x8), (1, xI x6), (0, xR v0)]) K dX8_undo_41 rfl (by decide) rfl ?_
    refine x_sub (lv' := [(0, xR v0), (1, xI x6), (2, xI x8), (3, xI (0 : Int32))]) [3, 2, 1, 0] rfl ?_
    exact x_loop (pl := (fun s9 : (Nat × Int32 × Int32 × Int32 × AH) => [(0, xR s9.1), (1, xI s9.2.1), (2, xI s9.2.2.1), (3, xI s9.2.2.2.1)])) (ph := (fun s9 : (Nat × Int32 × Int32 × Int32 × AH) => s9.2.2.2.2)) (fun r9 : (Nat × Int32 × Int32 × AH) => XG p l e R s m args below meth c D 4 h0 Q 76 [(0, xR r9.1), (1, xI r9.2.1), (2, xI r9.2.2.1)] [] r9.2.2.2) (fun s9 => hL42 _ (fun _ hz => hz) (fun _ hz => hz) s9.1 s9.2.1 s9.2.2.1 s9.2.2.2.1 s9.2.2.2.2) (fun r9 x hx hc => hA76_0 r9.1 r9.2.1 r9.2.2.1 r9.2.2.2 x hx hc) (v0, x6, x8, (0 : Int32), g4)
  · refine x_iconst (pc' := 13) (v := (-1)) K dX8_undo_12 rfl rfl ?_
    exact x_iret K rfl hr dX8_undo_13
/-! FaceCoinsModel.lays(IIII)I -/
noncomputable def fM_lays (v0 : Nat) (v1 : Int32) (v2 : Int32) (v3 : Int32) (v4 : Int32) (h0 : AH) : Option (Int32 × AH) :=
  (xgi h0 v0 [14] 43).bind fun x1 =>
  (xgr h0 v0 [14] 42).bind fun x2 =>
  (xsi h0 x2 ((4 : Int32) * x1) v1).bind fun g3 =>
  (xgr g3 v0 [14] 42).bind fun x4 =>
  (xsi g3 x4 (((4 : Int32) * x1) + (1 : Int32)) v2).bind fun g5 =>
  (xgr g5 v0 [14] 42).bind fun x6 =>
  (xsi g5 x6 (((4 : Int32) * x1) + (2 : Int32)) v3).bind fun g7 =>
  (xgr g7 v0 [14] 42).bind fun x8 =>
  (xsi g7 x8 (((4 : Int32) * x1) + (3 : Int32)) v4).bind fun g9 =>
  (xgi g9 v0 [14] 43).bind fun x10 =>
  (xpi g9 v0 [14] 43 (x10 + (1 : Int32))).bind fun g11 =>
  (xgi g11 v0 [14] 43).bind fun x12 =>
  some (((x12 - (1 : Int32)), g11))
set_option maxHeartbeats 4000000 in
theorem ct_X8_lays {l : Launch} {D : XD} {v0 : Nat} {v1 : Int32} {v2 : Int32} {v3 : Int32} {v4 : Int32} {h0 : AH} {a : Int32} {h1 : AH} (hF : fM_lays v0 v1 v2 v3 v4 h0 = some (a, h1)) : XCt l D yX8_lays (ws_ yX8_lays cX8_lays 6 (some .int)) 0 0 [xR v0, xI v1, xI v2, xI v3, xI v4] h0 (.inl (some (xI a))) h1 := by
  refine x_method (by decide) (Nat.le_of_ble_eq_true rfl) fun p e R s m args below meth c K hr hnm hex => ?_
  have K : XO p R s m args meth c D 6 h0 cX8_lays "FaceCoinsModel" 0 0 := K
  generalize hQ : XMQ below _ _ _ _ _ _ = Q
  refine (?_ : XF p l e R s m args below meth c D 6 h0 Q 0 [(0, xR v0), (1, xI v1), (2, xI v2), (3, xI v3), (4, xI v4)] [] h0 (fM_lays v0 v1 v2 v3 v4 h0) (XEnd below s D h0 (fun v => .inl (some (xI v))) Q)) (a, h1) hF hQ.symm
  unfold fM_lays
  refine x_iconst (pc' := 1) (v := 4) K dX8_lays_0 rfl rfl ?_
  refine x_aload_n (pc' := 2) K 0 dX8_lays_1 rfl rfl ?_
  refine x_geti (pc' := 5) K fg_14_43 (Or.inl (K.2.2.2.2.1 _ q1355)) (fun _ h9 => h9) dX8_lays_2 rfl (fun x1 => ?_)
  refine x_imul (pc' := 6) K dX8_lays_5 rfl ?_
  refine x_istore (pc' := 8) (lv' := [(5, xI ((4 : Int32) * x1)), (0, xR v0), (1, xI v1), (2, xI v2), (3, xI v3), (4, xI v4)]) K dX8_lays_6 rfl (by decide) rfl ?_
  refine x_aload_n (pc' := 9) K 1 dX8_lays_8 rfl rfl ?_
  refine x_getr (pc' := 12) K fg_14_42 (Or.inl (K.2.2.2.2.1 _ q1354)) (fun _ h9 => h9) dX8_lays_9 rfl (fun x2 => ?_)
  refine x_iload (pc' := 14) K 0 dX8_lays_12 rfl rfl ?_
  refine x_iload_n (pc' := 15) K 2 dX8_lays_14 rfl rfl ?_
  refine x_iast (pc' := 16) K dX8_lays_15 rfl (fun g3 => ?_)
  refine x_aload_n (pc' := 17) K 1 dX8_lays_16 rfl rfl ?_
  refine x_getr (pc' := 20) K fg_14_42 (Or.inl (K.2.2.2.2.1 _ q1354)) (fun _ h9 => h9) dX8_lays_17 rfl (fun x4 => ?_)
  refine x_iload (pc' := 22) K 0 dX8_lays_20 rfl rfl ?_
  refine x_iconst (pc' := 23) (v := 1) K dX8_lays_22 rfl rfl ?_
  refine x_iadd (pc' := 24) K dX8_lays_23 rfl ?_
  refine x_iload_n (pc' := 25) K 3 dX8_lays_24 rfl rfl ?_
  refine x_iast (pc' := 26) K dX8_lays_25 rfl (fun g5 => ?_)
  refine x_aload_n (pc' := 27) K 1 dX8_lays_26 rfl rfl ?_
  refine x_getr (pc' := 30) K fg_14_42 (Or.inl (K.2.2.2.2.1 _ q1354)) (fun _ h9 => h9) dX8_lays_27 rfl (fun x6 => ?_)
  refine x_iload (pc' := 32) K 0 dX8_lays_30 rfl rfl ?_
  refine x_iconst (pc' := 33) (v := 2) K dX8_lays_32 rfl rfl ?_
  refine x_iadd (pc' := 34) K dX8_lays_33 rfl ?_
  refine x_iload_n (pc' := 35) K 4 dX8_lays_34 rfl rfl ?_
  refine x_iast (pc' := 36) K dX8_lays_35 rfl (fun g7 => ?_)
  refine x_aload_n (pc' := 37) K 1 dX8_lays_36 rfl rfl ?_
  refine x_getr (pc' := 40) K fg_14_42 (Or.inl (K.2.2.2.2.1 _ q1354)) (fun _ h9 => h9) dX8_lays_37 rfl (fun x8 => ?_)
  refine x_iload (pc' := 42) K 0 dX8_lays_40 rfl rfl ?_
  refine x_iconst (pc' := 43) (v := 3) K dX8_lays_42 rfl rfl ?_
  refine x_iadd (pc' := 44) K dX8_lays_43 rfl ?_
  refine x_iload (pc' := 46) K 5 dX8_lays_44 rfl rfl ?_
  refine x_iast (pc' := 47) K dX8_lays_46 rfl (fun g9 => ?_)
  refine x_aload_n (pc' := 48) K 1 dX8_lays_47 rfl rfl ?_
  refine x_dup (pc' := 49) K dX8_lays_48 rfl rfl ?_
  refine x_geti (pc' := 52) K fg_14_43 (Or.inl (K.2.2.2.2.1 _ q1355)) (fun _ h9 => h9) dX8_lays_49 rfl (fun x10 => ?_)
  refine x_iconst (pc' := 53) (v := 1) K dX8_lays_52 rfl rfl ?_
  refine x_iadd (pc' := 54) K dX8_lays_53 rfl ?_
  refine x_puti (pc' := 57) K fp_14_43 (Or.inl (K.2.2.2.2.1 _ q1355)) (fun _ h9 => h9) (Or.inl rfl) dX8_lays_54 rfl (fun g11 => ?_)
  refine x_aload_n (pc' := 58) K 1 dX8_lays_57 rfl rfl ?_
  refine x_geti (pc' := 61) K fg_14_43 (Or.inl (K.2.2.2.2.1 _ q1355)) (fun _ h9 => h9) dX8_lays_58 rfl (fun x12 => ?_)
  refine x_iconst (pc' := 62) (v := 1) K dX8_lays_61 rfl rfl ?_
  refine x_isub (pc' := 63) K dX8_lays_62 rfl ?_
  exact x_iret K rfl hr dX8_lays_63
/-! FaceCoinsModel.readCompare(I)Z -/
noncomputable def fM_readCompare_b33 (v0 : Nat) (v1 : Int32)  (g : AH) : Option (Int32 × AH) :=
  (xgi g v0 [14] 9).bind fun x2 =>
  xb2 (xck g v0 14 (fM_go v0 g)) fun x_ g3 =>
  xb2 (xck g3 v0 14 (fM_readNumber v0 (0 : Int32) (9999 : Int32) g3)) fun x4 g5 =>
  if x4 = 0 then (
    some (((0 : Int32), g5)))
  else (
    (xgi g5 v0 [14] 13).bind fun x6 =>
    xb2 (xck g5 v0 14 (fM_lays v0 ((50 : Int32) + v1) (0 : Int32) x6 x2 g5)) fun x7 g8 =>
    (xpi g8 v0 [14] 46 x7).bind fun g9 =>
    some (((1 : Int32), g9)))
noncomputable def fM_readCompare (v0 : Nat) (v1 : Int32) (h0 : AH) : Option (Int32 × AH) :=
  (xck h0 v0 14 (fM_isSign v0 (60 : Int32) h0)).bind fun x1 =>
  if x1 = 0 then (
    (xck h0 v0 14 (fM_isSign v0 (61 : Int32) h0)).bind fun x10 =>
    if x10 = 0 then (
      (xck h0 v0 14 (fM_isSign v0 (62 : Int32) h0)).bind fun x11 =>
      if x11 = 0 then (
        xb2 (xck h0 v0 14 (fM_bad v0 (1 : Int32) h0)) fun x12 g13 =>
        if x12 = 0 ∨ x12 = 1 then (
          some ((x12, g13)))
        else none)
      else (
        fM_readCompare_b33 v0 v1 h0))
    else (
      fM_readCompare_b33 v0 v1 h0))
  else (
    fM_readCompare_b33 v0 v1 h0)
set_option maxHeartbeats 4000000 in
theorem ct_X8_readCompare {l : Launch} {D : XD} {v0 : Nat} {v1 : Int32} {h0 : AH} {a : Int32} {h1 : AH} (hF : fM_readCompare v0 v1 h0 = some (a, h1)) : XCt l D yX8_readCompare (ws_ yX8_readCompare cX8_readCompare 3 (some .boolean)) 3 67 [xR v0, xI v1] h0 (.inl (some (xI a))) h1 := by
  refine x_method (by decide) (Nat.le_of_ble_eq_true rfl) fun p e R s m args below meth c K hr hnm hex => ?_
  have K : XO p R s m args meth c D 3 h0 cX8_readCompare "FaceCoinsModel" 3 67 := K
  generalize hQ : XMQ below _ _ _ _ _ _ = Q
  have hB33 : ∀ (v0 : Nat) (v1 : Int32)  (g : AH), XF p l e R s m args below meth c D 3 h0 Q 33 [(0, xR v0), (1, xI v1)] [] g (fM_readCompare_b33 v0 v1 g) (XEnd below s D h0 (fun v => .inl (some (xI v))) Q) := by
    intro v0 v1 g
    unfold fM_readCompare_b33
    refine x_aload_n (pc' := 34) K 0 dX8_readCompare_33 rfl rfl ?_
    refine x_geti (pc' := 37) K fg_14_9 (Or.inl (K.2.2.2.2.1 _ q1321)) (fun _ h9 => h9) dX8_readCompare_34 rfl (fun x2 => ?_)
    refine x_istore_n (pc' := 38) (lv' := [(2, xI x2), (0, xR v0), (1, xI v1)]) K dX8_readCompare_37 rfl (by decide) rfl ?_
    refine x_aload_n (pc' := 39) K 1 dX8_readCompare_38 rfl rfl ?_
    refine x_cV (pc' := 42) (As := []) (en := (fun _ => none)) (rest := []) K (fun a h1 hF => ct_X8_go hF) rfl (by decide) q1491 q1493 qs34 q1494 q105 hy_X8_go (Nat.le_of_ble_eq_true rfl) (Nat.le_of_ble_eq_true rfl) (Nat.le_of_ble_eq_true rfl) dX8_readCompare_39 rfl (fun x_ g3 => ?_)
    refine x_aload_n (pc' := 43) K 1 dX8_readCompare_42 rfl rfl ?_
    refine x_iconst (pc' := 44) (v := 0) K dX8_readCompare_43 rfl rfl ?_
    refine x_sipush (pc' := 47) (v := 9999) K dX8_readCompare_44 rfl (by decide) ?_
    refine x_cV (pc' := 50) (As := [xI (0 : Int32), xI (9999 : Int32)]) (en := (fun v => some (xI v))) (rest := []) K (fun a h1 hF => ct_X8_readNumber hF) rfl (by decide) q1548 q1550 qs44 q1551 q105 hy_X8_readNumber (Nat.le_of_ble_eq_true rfl) (Nat.le_of_ble_eq_true rfl) (Nat.le_of_ble_eq_true rfl) dX8_readCompare_47 rfl (fun x4 g5 => ?_)
    refine x_if_ne (tgt := 55) (pc' := 53) K dX8_readCompare_50 rfl (by decide) ?_ ?_
    · refine x_aload_n (pc' := 56) K 1 dX8_readCompare_55 rfl rfl ?_
      refine x_aload_n (pc' := 57) K 1 dX8_readCompare_56 rfl rfl ?_
      refine x_bipush (pc' := 59) (v := 50) K dX8_readCompare_57 rfl (by decide) ?_
      refine x_iload_n (pc' := 60) K 2 dX8_readCompare_59 rfl rfl ?_
      refine x_iadd (pc' := 61) K dX8_readCompare_60 rfl ?_
      refine x_iconst (pc' := 62) (v := 0) K dX8_readCompare_61 rfl rfl ?_
      refine x_aload_n (pc' := 63) K 1 dX8_readCompare_62 rfl rfl ?_
      refine x_geti (pc' := 66) K fg_14_13 (Or.inl (K.2.2.2.2.1 _ q1325)) (fun _ h9 => h9) dX8_readCompare_63 rfl (fun x6 => ?_)
      refine x_iload_n (pc' := 67) K 0 dX8_readCompare_66 rfl rfl ?_
      refine x_cV (pc' := 70) (As := [xI ((50 : Int32) + v1), xI (0 : Int32), xI x6, xI x2]) (en := (fun v => some (xI v))) (rest := [xR v0]) K (fun a h1 hF => ct_X8_lays hF) rfl (by decide) q1861 q1863 qs90 q1864 q105 hy_X8_lays (Nat.le_of_ble_eq_true rfl) (Nat.le_of_ble_eq_true rfl) (Nat.le_of_ble_eq_true rfl) dX8_readCompare_67 rfl (fun x7 g8 => ?_)
      refine x_puti (pc' := 73) K fp_14_46 (Or.inl (K.2.2.2.2.1 _ q1358)) (fun _ h9 => h9) (Or.inl rfl) dX8_readCompare_70 rfl (fun g9 => ?_)
      refine x_iconst (pc' := 74) (v := 1) K dX8_readCompare_73 rfl rfl ?_
      exact x_zret K (Or.inr rfl) rfl hr dX8_readCompare_74
    · refine x_iconst (pc' := 54) (v := 0) K dX8_readCompare_53 rfl rfl ?_
      exact x_zret K (Or.inl rfl) rfl hr dX8_readCompare_54
  refine (?_ : XF p l e R s m args below meth c D 3 h0 Q 0 [(0, xR v0), (1, xI v1)] [] h0 (fM_readCompare v0 v1 h0) (XEnd below s D h0 (fun v => .inl (some (xI v))) Q)) (a, h1) hF hQ.symm
  unfold fM_readCompare
  refine x_aload_n (pc' := 1) K 0 dX8_readCompare_0 rfl rfl ?_
  refine x_bipush (pc' := 3) (v := 60) K dX8_readCompare_1 rfl (by decide) ?_
  refine x_cVO (pc' := 6) (As := [xI (60 : Int32)]) (en := (fun v => some (xI v))) (rest := []) K (fun a hF => ct_X8_isSign hF) rfl (by decide) q1574 q1576 qs49 q1577 q105 hy_X8_isSign (Nat.le_of_ble_eq_true rfl) (Nat.le_of_ble_eq_true rfl) (Nat.le_of_ble_eq_true rfl) dX8_readCompare_3 rfl (fun x1 => ?_)
  refine x_if_ne (tgt := 33) (pc' := 9) K dX8_readCompare_6 rfl (by decide) ?_ ?_
  · exact hB33 _ _ h0
  · refine x_aload_n (pc' := 10) K 0 dX8_readCompare_9 rfl rfl ?_
    refine x_bipush (pc' := 12) (v := 61) K dX8_readCompare_10 rfl (by decide) ?_
    refine x_cVO (pc' := 15) (As := [xI (61 : Int32)]) (en := (fun v => some (xI v))) (rest := []) K (fun a hF => ct_X8_isSign hF) rfl (by decide) q1574 q1576 qs49 q1577 q105 hy_X8_isSign (Nat.le_of_ble_eq_true rfl) (Nat.le_of_ble_eq_true rfl) (Nat.le_of_ble_eq_true rfl) dX8_readCompare_12 rfl (fun x10 => ?_)
    refine x_if_ne (tgt := 33) (pc' := 18) K dX8_readCompare_15 rfl (by decide) ?_ ?_
    · exact hB33 _ _ h0
    · refine x_aload_n (pc' := 19) K 0 dX8_readCompare_18 rfl rfl ?_
      refine x_bipush (pc' := 21) (v := 62) K dX8_readCompare_19 rfl (by decide) ?_
      refine x_cVO (pc' := 24) (As := [xI (62 : Int32)]) (en := (fun v => some (xI v))) (rest := []) K (fun a hF => ct_X8_isSign hF) rfl (by decide) q1574 q1576 qs49 q1577 q105 hy_X8_isSign (Nat.le_of_ble_eq_true rfl) (Nat.le_of_ble_eq_true rfl) (Nat.le_of_ble_eq_true rfl) dX8_readCompare_21 rfl (fun x11 => ?_)
      refine x_if_ne (tgt := 33) (pc' := 27) K dX8_readCompare_24 rfl (by decide) ?_ ?_
      · exact hB33 _ _ h0
      · refine x_aload_n (pc' := 28) K 0 dX8_readCompare_27 rfl rfl ?_
        refine x_iconst (pc' := 29) (v := 1) K dX8_readCompare_28 rfl rfl ?_
        refine x_cV (pc' := 32) (As := [xI (1 : Int32)]) (en := (fun v => some (xI v))) (rest := []) K (fun a h1 hF => ct_X8_bad hF) rfl (by decide) q1528 q1530 qs39 q1531 q105 hy_X8_bad (Nat.le_of_ble_eq_true rfl) (Nat.le_of_ble_eq_true rfl) (Nat.le_of_ble_eq_true rfl) dX8_readCompare_29 rfl (fun x12 g13 => ?_)
        refine x_check (fun qz => ?_)
        exact x_zret K qz rfl hr dX8_readCompare_32
/-! FaceCoinsModel.readNamed(I)Z -/
noncomputable def fM_readNamed (v0 : Nat) (v1 : Int32) (h0 : AH) : Option (Int32 × AH) :=
  (xck h0 v0 14 (fM_isName v0 h0)).bind fun x1 =>
  if x1 = 0 then (
    xb2 (xck h0 v0 14 (fM_bad v0 (1 : Int32) h0)) fun x11 g12 =>
    if x11 = 0 ∨ x11 = 1 then (
      some ((x11, g12)))
    else none)
  else (
    (xgr h0 v0 [14] 18).bind fun x2 =>
    (xck h0 v0 14 (fM_people v0 h0)).bind fun x3 =>
    (xck h0 v0 14 (fM_findIn v0 x2 (0 : Int32) x3 h0)).bind fun x4 =>
    if x4 = ((-1) : Int32) then (
      xb2 (xck h0 v0 14 (fM_bad v0 (3 : Int32) h0)) fun x9 g10 =>
      if x9 = 0 ∨ x9 = 1 then (
        some ((x9, g10)))
      else none)
    else (
      xb2 (xck h0 v0 14 (fM_lays v0 ((50 : Int32) + v1) x4 (0 : Int32) (0 : Int32) h0)) fun x5 g6 =>
      (xpi g6 v0 [14] 46 x5).bind fun g7 =>
      xb2 (xck g7 v0 14 (fM_go v0 g7)) fun x_ g8 =>
      some (((1 : Int32), g8))))
set_option maxHeartbeats 4000000 in
theorem ct_X8_readNamed {l : Launch} {D : XD} {v0 : Nat} {v1 : Int32} {h0 : AH} {a : Int32} {h1 : AH} (hF : fM_readNamed v0 v1 h0 = some (a, h1)) : XCt l D yX8_readNamed (ws_ yX8_readNamed cX8_readNamed 3 (some .boolean)) 3 66 [xR v0, xI v1] h0 (.inl (some (xI a))) h1 := by
  refine x_method (by decide) (Nat.le_of_ble_eq_true rfl) fun p e R s m args below meth c K hr hnm hex => ?_
  have K : XO p R s m args meth c D 3 h0 cX8_readNamed "FaceCoinsModel" 3 66 := K
  generalize hQ : XMQ below _ _ _ _ _ _ = Q
  refine (?_ : XF p l e R s m args below meth c D 3 h0 Q 0 [(0, xR v0), (1, xI v1)] [] h0 (fM_readNamed v0 v1 h0) (XEnd below s D h0 (fun v => .inl (some (xI v))) Q)) (a, h1) hF hQ.symm
  unfold fM_readNamed
  refine x_aload_n (pc' := 1) K 0 dX8_readNamed_0 rfl rfl ?_
  refine x_cVO (pc' := 4) (As := []) (en := (fun v => some (xI v))) (rest := []) K (fun a hF => ct_X8_isName hF) rfl (by decide) q1536 q1538 qs41 q1539 q105 hy_X8_isName (Nat.le_of_ble_eq_true rfl) (Nat.le_of_ble_eq_true rfl) (Nat.le_of_ble_eq_true rfl) dX8_readNamed_1 rfl (fun x1 => ?_)
  refine x_if_ne (tgt := 13) (pc' := 7) K dX8_readNamed_4 rfl (by decide) ?_ ?_
  · refine x_aload_n (pc' := 14) K 0 dX8_readNamed_13 rfl rfl ?_
    refine x_aload_n (pc' := 15) K 0 dX8_readNamed_14 rfl rfl ?_
    refine x_getr (pc' := 18) K fg_14_18 (Or.inl (K.2.2.2.2.1 _ q1330)) (fun _ h9 => h9) dX8_readNamed_15 rfl (fun x2 => ?_)
    refine x_iconst (pc' := 19) (v := 0) K dX8_readNamed_18 rfl rfl ?_
    refine x_aload_n (pc' := 20) K 0 dX8_readNamed_19 rfl rfl ?_
    refine x_cVO (pc' := 23) (As := []) (en := (fun v => some (xI v))) (rest := [xI (0 : Int32), xR x2, xR v0]) K (fun a hF => ct_X8_people hF) rfl (by decide) q1590 q1592 qs51 q1593 q105 hy_X8_people (Nat.le_of_ble_eq_true rfl) (Nat.le_of_ble_eq_true rfl) (Nat.le_of_ble_eq_true rfl) dX8_readNamed_20 rfl (fun x3 => ?_)
    refine x_cVO (pc' := 26) (As := [xR x2, xI (0 : Int32), xI x3]) (en := (fun v => some (xI v))) (rest := []) K (fun a hF => ct_X8_findIn hF) rfl (by decide) q1540 q1542 qs42 q1543 q105 hy_X8_findIn (Nat.le_of_ble_eq_true rfl) (Nat.le_of_ble_eq_true rfl) (Nat.le_of_ble_eq_true rfl) dX8_readNamed_23 rfl (fun x4 => ?_)
    refine x_istore_n (pc' := 27) (lv' := [(2, xI x4), (0, xR v0), (1, xI v1)]) K dX8_readNamed_26 rfl (by decide) rfl ?_
    refine x_iload_n (pc' := 28) K 0 dX8_readNamed_27 rfl rfl ?_
    refine x_iconst (pc' := 29) (v := (-1)) K dX8_readNamed_28 rfl rfl ?_
    refine x_icmp_ne (tgt := 38) (pc' := 32) K dX8_readNamed_29 rfl (by decide) ?_ ?_
    · refine x_aload_n (pc' := 39) K 1 dX8_readNamed_38 rfl rfl ?_
      refine x_aload_n (pc' := 40) K 1 dX8_readNamed_39 rfl rfl ?_
      refine x_bipush (pc' := 42) (v := 50) K dX8_readNamed_40 rfl (by decide) ?_
      refine x_iload_n (pc' := 43) K 2 dX8_readNamed_42 rfl rfl ?_
      refine x_iadd (pc' := 44) K dX8_readNamed_43 rfl ?_
      refine x_iload_n (pc' := 45) K 0 dX8_readNamed_44 rfl rfl ?_
      refine x_iconst (pc' := 46) (v := 0) K dX8_readNamed_45 rfl rfl ?_
      refine x_iconst (pc' := 47) (v := 0) K dX8_readNamed_46 rfl rfl ?_
      refine x_cV (pc' := 50) (As := [xI ((50 : Int32) + v1), xI x4, xI (0 : Int32), xI (0 : Int32)]) (en := (fun v => some (xI v))) (rest := [xR v0]) K (fun a h1 hF => ct_X8_lays hF) rfl (by decide) q1861 q1863 qs90 q1864 q105 hy_X8_lays (Nat.le_of_ble_eq_true rfl) (Nat.le_of_ble_eq_true rfl) (Nat.le_of_ble_eq_true rfl) dX8_readNamed_47 rfl (fun x5 g6 => ?_)
      refine x_puti (pc' := 53) K fp_14_46 (Or.inl (K.2.2.2.2.1 _ q1358)) (fun _ h9 => h9) (Or.inl rfl) dX8_readNamed_50 rfl (fun g7 => ?_)
      refine x_aload_n (pc' := 54) K 1 dX8_readNamed_53 rfl rfl ?_
      refine x_cV (pc' := 57) (As := []) (en := (fun _ => none)) (rest := []) K (fun a h1 hF => ct_X8_go hF) rfl (by decide) q1491 q1493 qs34 q1494 q105 hy_X8_go (Nat.le_of_ble_eq_true rfl) (Nat.le_of_ble_eq_true rfl) (Nat.le_of_ble_eq_true rfl) dX8_readNamed_54 rfl (fun x_ g8 => ?_)
      refine x_iconst (pc' := 58) (v := 1) K dX8_readNamed_57 rfl rfl ?_
      exact x_zret K (Or.inr rfl) rfl hr dX8_readNamed_58
    · refine x_aload_n (pc' := 33) K 1 dX8_readNamed_32 rfl rfl ?_
      refine x_iconst (pc' := 34) (v := 3) K dX8_readNamed_33 rfl rfl ?_
      refine x_cV (pc' := 37) (As := [xI (3 : Int32)]) (en := (fun v => some (xI v))) (rest := []) K (fun a h1 hF => ct_X8_bad hF) rfl (by decide) q1528 q1530 qs39 q1531 q105 hy_X8_bad (Nat.le_of_ble_eq_true rfl) (Nat.le_of_ble_eq_true rfl) (Nat.le_of_ble_eq_true rfl) dX8_readNamed_34 rfl (fun x9 g10 => ?_)
      refine x_check (fun qz => ?_)
      exact x_zret K qz rfl hr dX8_readNamed_37
  · refine x_aload_n (pc' := 8) K 0 dX8_readNamed_7 rfl rfl ?_
    refine x_iconst (pc' := 9) (v := 1) K dX8_readNamed_8 rfl rfl ?_
    refine x_cV (pc' := 12) (As := [xI (1 : Int32)]) (en := (fun v => some (xI v))) (rest := []) K (fun a h1 hF => ct_X8_bad hF) rfl (by decide) q1528 q1530 qs39 q1531 q105 hy_X8_bad (Nat.le_of_ble_eq_true rfl) (Nat.le_of_ble_eq_true rfl) (Nat.le_of_ble_eq_true rfl) dX8_readNamed_9 rfl (fun x11 g12 => ?_)
    refine x_check (fun qz => ?_)
    exact x_zret K qz rfl hr dX8_readNamed_12
/-! FaceCoinsModel.readOr()Z -/
noncomputable def fM_readOr_l14 (rc : ((Nat → AH → Option (Int32 × AH)) × (Nat → AH → Option (Int32 × AH)) × (Nat → AH → Option (Int32 × AH)) × (Nat → AH → Option (Int32 × AH)) × (Nat → AH → Option (Int32 × AH)))) (v0 : Nat) (v1 : Int32) (g : AH) : Option ((Nat × Int32 × AH) ⊕ ((Nat × Int32 × AH) ⊕ (Int32 × AH))) :=
  (xck g v0 14 (fM_isWord v0 (9 : Int32) g)).bind fun x4 =>
  if x4 = 0 then (
    some (Sum.inr (Sum.inl (v0, v1, g))))
  else (
    xb2 (xck g v0 14 (fM_go v0 g)) fun x_ g5 =>
    xb2 (xck g5 v0 14 (rc.2.1 v0 g5)) fun x6 g7 =>
    if x6 = 0 then (
      some (Sum.inr (Sum.inr (((0 : Int32), g7)))))
    else (
      (xgi g7 v0 [14] 46).bind fun x8 =>
      xb2 (xck g7 v0 14 (fM_lays v0 (3 : Int32) v1 x8 (0 : Int32) g7)) fun x9 g10 =>
      some (Sum.inl (v0, x9, g10))))
noncomputable def fM_readOr_a51 (rc : ((Nat → AH → Option (Int32 × AH)) × (Nat → AH → Option (Int32 × AH)) × (Nat → AH → Option (Int32 × AH)) × (Nat → AH → Option (Int32 × AH)) × (Nat → AH → Option (Int32 × AH)))) (v0 : Nat) (v1 : Int32) (g : AH) : Option (Int32 × AH) :=
  (xpi g v0 [14] 46 v1).bind fun g11 =>
  some (((1 : Int32), g11))
noncomputable def fM_readOr_R (rc : ((Nat → AH → Option (Int32 × AH)) × (Nat → AH → Option (Int32 × AH)) × (Nat → AH → Option (Int32 × AH)) × (Nat → AH → Option (Int32 × AH)) × (Nat → AH → Option (Int32 × AH)))) (v0 : Nat) (h0 : AH) : Option (Int32 × AH) :=
  xb2 (xck h0 v0 14 (rc.2.1 v0 h0)) fun x1 g2 =>
  if x1 = 0 then (
    some (((0 : Int32), g2)))
  else (
    (xgi g2 v0 [14] 46).bind fun x3 =>
    (xloop (fun s9 : (Nat × Int32 × AH) => fM_readOr_l14 rc s9.1 s9.2.1 s9.2.2) (v0, x3, g2)).bind (Sum.elim (fun r9 : (Nat × Int32 × AH) => fM_readOr_a51 rc r9.1 r9.2.1 r9.2.2) some))
noncomputable def fM_readAnd_l14 (rc : ((Nat → AH → Option (Int32 × AH)) × (Nat → AH → Option (Int32 × AH)) × (Nat → AH → Option (Int32 × AH)) × (Nat → AH → Option (Int32 × AH)) × (Nat → AH → Option (Int32 × AH)))) (v0 : Nat) (v1 : Int32) (g : AH) : Option ((Nat × Int32 × AH) ⊕ ((Nat × Int32 × AH) ⊕ (Int32 × AH))) :=
  (xck g v0 14 (fM_isWord v0 (10 : Int32) g)).bind fun x4 =>
  if x4 = 0 then (
    some (Sum.inr (Sum.inl (v0, v1, g))))
  else (
    xb2 (xck g v0 14 (fM_go v0 g)) fun x_ g5 =>
    xb2 (xck g5 v0 14 (rc.2.2.1 v0 g5)) fun x6 g7 =>
    if x6 = 0 then (
      some (Sum.inr (Sum.inr (((0 : Int32), g7)))))
    else (
      (xgi g7 v0 [14] 46).bind fun x8 =>
      xb2 (xck g7 v0 14 (fM_lays v0 (2 : Int32) v1 x8 (0 : Int32) g7)) fun x9 g10 =>
      some (Sum.inl (v0, x9, g10))))
noncomputable def fM_readAnd_a51 (rc : ((Nat → AH → Option (Int32 × AH)) × (Nat → AH → Option (Int32 × AH)) × (Nat → AH → Option (Int32 × AH)) × (Nat → AH → Option (Int32 × AH)) × (Nat → AH → Option (Int32 × AH)))) (v0 : Nat) (v1 : Int32) (g : AH) : Option (Int32 × AH) :=
  (xpi g v0 [14] 46 v1).bind fun g11 =>
  some (((1 : Int32), g11))
noncomputable def fM_readAnd_R (rc : ((Nat → AH → Option (Int32 × AH)) × (Nat → AH → Option (Int32 × AH)) × (Nat → AH → Option (Int32 × AH)) × (Nat → AH → Option (Int32 × AH)) × (Nat → AH → Option (Int32 × AH)))) (v0 : Nat) (h0 : AH) : Option (Int32 × AH) :=
  xb2 (xck h0 v0 14 (rc.2.2.1 v0 h0)) fun x1 g2 =>
  if x1 = 0 then (
    some (((0 : Int32), g2)))
  else (
    (xgi g2 v0 [14] 46).bind fun x3 =>
    (xloop (fun s9 : (Nat × Int32 × AH) => fM_readAnd_l14 rc s9.1 s9.2.1 s9.2.2) (v0, x3, g2)).bind (Sum.elim (fun r9 : (Nat × Int32 × AH) => fM_readAnd_a51 rc r9.1 r9.2.1 r9.2.2) some))
noncomputable def fM_readOne_l10 (rc : ((Nat → AH → Option (Int32 × AH)) × (Nat → AH → Option (Int32 × AH)) × (Nat → AH → Option (Int32 × AH)) × (Nat → AH → Option (Int32 × AH)) × (Nat → AH → Option (Int32 × AH)))) (v0 : Nat) (v1 : Int32) (v2 : Int32) (g : AH) : Option ((Nat × Int32 × Int32) ⊕ (Nat × Int32 × Int32)) :=
  if (18 : Int32) < v2 then (
    some (Sum.inr (v0, v1, v2)))
  else (
    (xck g v0 14 (fM_isWord v0 v2 g)).bind fun x2 =>
    if x2 = 0 then (
      some (Sum.inl (v0, v1, (v2 + 1))))
    else (
      some (Sum.inr (v0, v1, v2))))
noncomputable def fM_readOne_b46 (rc : ((Nat → AH → Option (Int32 × AH)) × (Nat → AH → Option (Int32 × AH)) × (Nat → AH → Option (Int32 × AH)) × (Nat → AH → Option (Int32 × AH)) × (Nat → AH → Option (Int32 × AH)))) (v0 : Nat) (v1 : Int32) (v2 : Int32)  (g : AH) : Option (Int32 × AH) :=
  (xgi g v0 [14] 44).bind fun x3 =>
  if x3 = (20 : Int32) then (
    xb2 (xck g v0 14 (fM_bad v0 (4 : Int32) g)) fun x4 g5 =>
    if x4 = 0 ∨ x4 = 1 then (
      some ((x4, g5)))
    else none)
  else (
    (xgi g v0 [14] 45).bind fun x6 =>
    if x6 = (8 : Int32) then (
      xb2 (xck g v0 14 (fM_bad v0 (4 : Int32) g)) fun x33 g34 =>
      if x33 = 0 ∨ x33 = 1 then (
        some ((x33, g34)))
      else none)
    else (
      (xgi g v0 [14] 44).bind fun x7 =>
      (xpi g v0 [14] 44 (x7 + (1 : Int32))).bind fun g8 =>
      (xgi g8 v0 [14] 45).bind fun x9 =>
      (xpi g8 v0 [14] 45 (x9 + (1 : Int32))).bind fun g10 =>
      xb2 (xck g10 v0 14 (fM_go v0 g10)) fun x_ g11 =>
      if v1 = 0 then (
        if v2 = (11 : Int32) then (
          xb2 (xck g11 v0 14 (rc.2.2.2.1 v0 g11)) fun x25 g26 =>
          (xgi g26 v0 [14] 45).bind fun x27 =>
          (xpi g26 v0 [14] 45 (x27 - (1 : Int32))).bind fun g28 =>
          if x25 = 0 ∨ x25 = 1 then (
            some ((x25, g28)))
          else none)
        else (
          if v2 = (15 : Int32) then (
            xb2 (xck g11 v0 14 (fM_lays v0 (4 : Int32) (0 : Int32) (0 : Int32) (0 : Int32) g11)) fun x20 g21 =>
            (xpi g21 v0 [14] 46 x20).bind fun g22 =>
            (xgi g22 v0 [14] 45).bind fun x23 =>
            (xpi g22 v0 [14] 45 (x23 - (1 : Int32))).bind fun g24 =>
            some (((1 : Int32), g24)))
          else (
            if (15 : Int32) ≤ v2 then (
              xb2 (xck g11 v0 14 (fM_readCompare v0 v2 g11)) fun x12 g13 =>
              (xgi g13 v0 [14] 45).bind fun x14 =>
              (xpi g13 v0 [14] 45 (x14 - (1 : Int32))).bind fun g15 =>
              if x12 = 0 ∨ x12 = 1 then (
                some ((x12, g15)))
              else none)
            else (
              xb2 (xck g11 v0 14 (fM_readNamed v0 v2 g11)) fun x16 g17 =>
              (xgi g17 v0 [14] 45).bind fun x18 =>
              (xpi g17 v0 [14] 45 (x18 - (1 : Int32))).bind fun g19 =>
              if x16 = 0 ∨ x16 = 1 then (
                some ((x16, g19)))
              else none))))
      else (
        xb2 (xck g11 v0 14 (rc.2.2.2.2 v0 g11)) fun x29 g30 =>
        (xgi g30 v0 [14] 45).bind fun x31 =>
        (xpi g30 v0 [14] 45 (x31 - (1 : Int32))).bind fun g32 =>
        if x29 = 0 ∨ x29 = 1 then (
          some ((x29, g32)))
        else none)))
noncomputable def fM_readOne_b30 (rc : ((Nat → AH → Option (Int32 × AH)) × (Nat → AH → Option (Int32 × AH)) × (Nat → AH → Option (Int32 × AH)) × (Nat → AH → Option (Int32 × AH)) × (Nat → AH → Option (Int32 × AH)))) (v0 : Nat) (v1 : Int32) (v2 : Int32)  (g : AH) : Option (Int32 × AH) :=
  if v1 = 0 then (
    if v2 ≤ (18 : Int32) then (
      fM_readOne_b46 rc v0 v1 v2 g)
    else (
      xb2 (xck g v0 14 (fM_bad v0 (1 : Int32) g)) fun x35 g36 =>
      if x35 = 0 ∨ x35 = 1 then (
        some ((x35, g36)))
      else none))
  else (
    fM_readOne_b46 rc v0 v1 v2 g)
noncomputable def fM_readOne_a30 (rc : ((Nat → AH → Option (Int32 × AH)) × (Nat → AH → Option (Int32 × AH)) × (Nat → AH → Option (Int32 × AH)) × (Nat → AH → Option (Int32 × AH)) × (Nat → AH → Option (Int32 × AH)))) (v0 : Nat) (v1 : Int32) (v2 : Int32) (g : AH) : Option (Int32 × AH) :=
  fM_readOne_b30 rc v0 v1 v2 g
noncomputable def fM_readOne_R (rc : ((Nat → AH → Option (Int32 × AH)) × (Nat → AH → Option (Int32 × AH)) × (Nat → AH → Option (Int32 × AH)) × (Nat → AH → Option (Int32 × AH)) × (Nat → AH → Option (Int32 × AH)))) (v0 : Nat) (h0 : AH) : Option (Int32 × AH) :=
  (xck h0 v0 14 (fM_isSign v0 (40 : Int32) h0)).bind fun x1 =>
  (xloop (fun s9 : (Nat × Int32 × Int32) => fM_readOne_l10 rc s9.1 s9.2.1 s9.2.2 h0) (v0, x1, (11 : Int32))).bind (fun r9 : (Nat × Int32 × Int32) => fM_readOne_a30 rc r9.1 r9.2.1 r9.2.2 h0)
noncomputable def fM_readNot_R (rc : ((Nat → AH → Option (Int32 × AH)) × (Nat → AH → Option (Int32 × AH)) × (Nat → AH → Option (Int32 × AH)) × (Nat → AH → Option (Int32 × AH)) × (Nat → AH → Option (Int32 × AH)))) (v0 : Nat) (h0 : AH) : Option (Int32 × AH) :=
  xb2 (xck h0 v0 14 (rc.2.2.1 v0 h0)) fun x1 g2 =>
  if x1 = 0 then (
    some (((0 : Int32), g2)))
  else (
    (xgi g2 v0 [14] 46).bind fun x3 =>
    xb2 (xck g2 v0 14 (fM_lays v0 (1 : Int32) x3 (0 : Int32) (0 : Int32) g2)) fun x4 g5 =>
    (xpi g5 v0 [14] 46 x4).bind fun g6 =>
    some (((1 : Int32), g6)))
noncomputable def fM_readBracket_R (rc : ((Nat → AH → Option (Int32 × AH)) × (Nat → AH → Option (Int32 × AH)) × (Nat → AH → Option (Int32 × AH)) × (Nat → AH → Option (Int32 × AH)) × (Nat → AH → Option (Int32 × AH)))) (v0 : Nat) (h0 : AH) : Option (Int32 × AH) :=
  xb2 (xck h0 v0 14 (rc.1 v0 h0)) fun x1 g2 =>
  if x1 = 0 then (
    some (((0 : Int32), g2)))
  else (
    (xck g2 v0 14 (fM_isSign v0 (41 : Int32) g2)).bind fun x3 =>
    if x3 = 0 then (
      xb2 (xck g2 v0 14 (fM_bad v0 (1 : Int32) g2)) fun x5 g6 =>
      if x5 = 0 ∨ x5 = 1 then (
        some ((x5, g6)))
      else none)
    else (
      xb2 (xck g2 v0 14 (fM_go v0 g2)) fun x_ g4 =>
      some (((1 : Int32), g4))))
noncomputable def fM_gRead : Nat → ((Nat → AH → Option (Int32 × AH)) × (Nat → AH → Option (Int32 × AH)) × (Nat → AH → Option (Int32 × AH)) × (Nat → AH → Option (Int32 × AH)) × (Nat → AH → Option (Int32 × AH)))
  | 0 => ((fun _ _ => none), (fun _ _ => none), (fun _ _ => none), (fun _ _ => none), (fun _ _ => none))
  | d + 1 => (fM_readOr_R (fM_gRead d), fM_readAnd_R (fM_gRead d), fM_readOne_R (fM_gRead d), fM_readNot_R (fM_gRead d), fM_readBracket_R (fM_gRead d))
noncomputable def fM_readOr : Nat → AH → Option (Int32 × AH) := (fM_gRead 45).1
noncomputable def fM_readAnd : Nat → AH → Option (Int32 × AH) := (fM_gRead 45).2.1
noncomputable def fM_readOne : Nat → AH → Option (Int32 × AH) := (fM_gRead 45).2.2.1
noncomputable def fM_readNot : Nat → AH → Option (Int32 × AH) := (fM_gRead 45).2.2.2.1
noncomputable def fM_readBracket : Nat → AH → Option (Int32 × AH) := (fM_gRead 45).2.2.2.2
set_option maxHeartbeats 4000000 in
theorem cs_X8_readOr {l : Launch} {D : XD} {rc : ((Nat → AH → Option (Int32 × AH)) × (Nat → AH → Option (Int32 × AH)) × (Nat → AH → Option (Int32 × AH)) × (Nat → AH → Option (Int32 × AH)) × (Nat → AH → Option (Int32 × AH)))} {d : Nat} (ih0 : ∀ {v0 : Nat} {h0 : AH} {a : Int32} {h1 : AH}, rc.1 v0 h0 = some (a, h1) → XCt l D yX8_readOr (ws_ yX8_readOr cX8_readOr 2 (some .boolean)) (4 + d) (89 + d * 23) [xR v0] h0 (.inl (some (xI a))) h1) (ih1 : ∀ {v0 : Nat} {h0 : AH} {a : Int32} {h1 : AH}, rc.2.1 v0 h0 = some (a, h1) → XCt l D yX8_readAnd (ws_ yX8_readAnd cX8_readAnd 2 (some .boolean)) (4 + d) (89 + d * 23) [xR v0] h0 (.inl (some (xI a))) h1) (ih2 : ∀ {v0 : Nat} {h0 : AH} {a : Int32} {h1 : AH}, rc.2.2.1 v0 h0 = some (a, h1) → XCt l D yX8_readOne (ws_ yX8_readOne cX8_readOne 4 (some .boolean)) (4 + d) (89 + d * 23) [xR v0] h0 (.inl (some (xI a))) h1) (ih3 : ∀ {v0 : Nat} {h0 : AH} {a : Int32} {h1 : AH}, rc.2.2.2.1 v0 h0 = some (a, h1) → XCt l D yX8_readNot (ws_ yX8_readNot cX8_readNot 1 (some .boolean)) (4 + d) (89 + d * 23) [xR v0] h0 (.inl (some (xI a))) h1) (ih4 : ∀ {v0 : Nat} {h0 : AH} {a : Int32} {h1 : AH}, rc.2.2.2.2 v0 h0 = some (a, h1) → XCt l D yX8_readBracket (ws_ yX8_readBracket cX8_readBracket 1 (some .boolean)) (4 + d) (89 + d * 23) [xR v0] h0 (.inl (some (xI a))) h1) : ∀ {v0 : Nat} {h0 : AH} {a : Int32} {h1 : AH}, fM_readOr_R rc v0 h0 = some (a, h1) → XCt l D yX8_readOr (ws_ yX8_readOr cX8_readOr 2 (some .boolean)) (4 + (d + 1)) (89 + (d + 1) * 23) [xR v0] h0 (.inl (some (xI a))) h1 := by
  intro v0 h0 a h1 hF
  refine x_method (by decide) (Nat.le_of_ble_eq_true rfl) fun p e R s m args below meth c K hr hnm hex => ?_
  have K : XO p R s m args meth c D 2 h0 cX8_readOr "FaceCoinsModel" (4 + (d + 1)) (89 + (d + 1) * 23) := K
  generalize hQ : XMQ below _ _ _ _ _ _ = Q
  have hL14 : ∀ (C1 : ((Nat × Int32 × AH) ⊕ ((Nat × Int32 × AH) ⊕ (Int32 × AH))) → Prop) (hj1 : ∀ s9 : (Nat × Int32 × AH), C1 (Sum.inl s9) → XG p l e R s m args below meth c D 2 h0 Q 14 [(0, xR s9.1), (1, xI s9.2.1)] [] s9.2.2) (he1 : ∀ r9 : (Nat × Int32 × AH), C1 (Sum.inr (Sum.inl r9)) → XG p l e R s m args below meth c D 2 h0 Q 51 [(0, xR r9.1), (1, xI r9.2.1)] [] r9.2.2) (hd1 : ∀ y9 : (Int32 × AH), C1 (Sum.inr (Sum.inr y9)) → (XEnd below s D h0 (fun v => .inl (some (xI v))) Q) y9) (v0 : Nat) (v1 : Int32) (g : AH), XF p l e R s m args below meth c D 2 h0 Q 14 [(0, xR v0), (1, xI v1)] [] g (fM_readOr_l14 rc v0 v1 g) C1 := by
    intro C1 hj1 he1 hd1
    intro v0 v1 g
    unfold fM_readOr_l14
    refine x_aload_n (pc' := 15) K 0 dX8_readOr_14 rfl rfl ?_
    refine x_bipush (pc' := 17) (v := 9) K dX8_readOr_15 rfl (by decide) ?_
    refine x_cVO (pc' := 20) (As := [xI (9 : Int32)]) (en := (fun v => some (xI v))) (rest := []) K (fun a hF => ct_X8_isWord hF) rfl (by decide) q1511 q1513 qs37 q1514 q105 hy_X8_isWord (by omega) (by omega) (Nat.le_of_ble_eq_true rfl) dX8_readOr_17 rfl (fun x4 => ?_)
    refine x_if_eq (tgt := 51) (pc' := 23) K dX8_readOr_20 rfl (by decide) ?_ ?_
    · exact x_jump (fun hz => he1 (v0, v1, g) hz)
    · refine x_aload_n (pc' := 24) K 0 dX8_readOr_23 rfl rfl ?_
      refine x_cV (pc' := 27) (As := []) (en := (fun _ => none)) (rest := []) K (fun a h1 hF => ct_X8_go hF) rfl (by decide) q1491 q1493 qs34 q1494 q105 hy_X8_go (by omega) (by omega) (Nat.le_of_ble_eq_true rfl) dX8_readOr_24 rfl (fun x_ g5 => ?_)
      refine x_aload_n (pc' := 28) K 0 dX8_readOr_27 rfl rfl ?_
      refine x_cV (pc' := 31) (As := []) (en := (fun v => some (xI v))) (rest := []) K (fun a h1 hF => ih1 hF) rfl (by decide) q1845 q1847 qs86 q1848 q105 hy_X8_readAnd (by omega) (by omega) (Nat.le_of_ble_eq_true rfl) dX8_readOr_28 rfl (fun x6 g7 => ?_)
      refine x_if_ne (tgt := 36) (pc' := 34) K dX8_readOr_31 rfl (by decide) ?_ ?_
      · refine x_aload_n (pc' := 37) K 0 dX8_readOr_36 rfl rfl ?_
        refine x_iconst (pc' := 38) (v := 3) K dX8_readOr_37 rfl rfl ?_
        refine x_iload_n (pc' := 39) K 1 dX8_readOr_38 rfl rfl ?_
        refine x_aload_n (pc' := 40) K 0 dX8_readOr_39 rfl rfl ?_
        refine x_geti (pc' := 43) K fg_14_46 (Or.inl (K.2.2.2.2.1 _ q1358)) (fun _ h9 => h9) dX8_readOr_40 rfl (fun x8 => ?_)
        refine x_iconst (pc' := 44) (v := 0) K dX8_readOr_43 rfl rfl ?_
        refine x_cV (pc' := 47) (As := [xI (3 : Int32), xI v1, xI x8, xI (0 : Int32)]) (en := (fun v => some (xI v))) (rest := []) K (fun a h1 hF => ct_X8_lays hF) rfl (by decide) q1861 q1863 qs90 q1864 q105 hy_X8_lays (by omega) (by omega) (Nat.le_of_ble_eq_true rfl) dX8_readOr_44 rfl (fun x9 g10 => ?_)
        refine x_istore_n (pc' := 48) (lv' := [(1, xI x9), (0, xR v0)]) K dX8_readOr_47 rfl (by decide) rfl ?_
        refine x_goto (tgt := 14) K dX8_readOr_48 (by decide) ?_
        refine x_sub (lv' := [(0, xR v0), (1, xI x9)]) [1, 0] rfl ?_
        exact x_jump (fun hz => hj1 (v0, x9, g10) hz)
      · refine x_iconst (pc' := 35) (v := 0) K dX8_readOr_34 rfl rfl ?_
        refine x_g (fun z => Sum.inr (Sum.inr z)) (x_C (C8 := (XEnd below s D h0 (fun v => .inl (some (xI v))) Q)) (fun z hz => hd1 z hz) ?_)
        exact x_zret K (Or.inl rfl) rfl hr dX8_readOr_35
  have hA51_0 : ∀ (v0 : Nat) (v1 : Int32) (g : AH), XF p l e R s m args below meth c D 2 h0 Q 51 [(0, xR v0), (1, xI v1)] [] g (fM_readOr_a51 rc v0 v1 g) (XEnd below s D h0 (fun v => .inl (some (xI v))) Q) := by
    intro v0 v1 g
    unfold fM_readOr_a51
    refine x_aload_n (pc' := 52) K 0 dX8_readOr_51 rfl rfl ?_
    refine x_iload_n (pc' := 53) K 1 dX8_readOr_52 rfl rfl ?_
    refine x_puti (pc' := 56) K fp_14_46 (Or.inl (K.2.2.2.2.1 _ q1358)) (fun _ h9 => h9) (Or.inl rfl) dX8_readOr_53 rfl (fun g11 => ?_)
    refine x_iconst (pc' := 57) (v := 1) K dX8_readOr_56 rfl rfl ?_
    exact x_zret K (Or.inr rfl) rfl hr dX8_readOr_57
  refine (?_ : XF p l e R s m args below meth c D 2 h0 Q 0 [(0, xR v0)] [] h0 (fM_readOr_R rc v0 h0) (XEnd below s D h0 (fun v => .inl (some (xI v))) Q)) (a, h1) hF hQ.symm
  unfold fM_readOr_R
  refine x_aload_n (pc' := 1) K 0 dX8_readOr_0 rfl rfl ?_
  refine x_cV (pc' := 4) (As := []) (en := (fun v => some (xI v))) (rest := []) K (fun a h1 hF => ih1 hF) rfl (by decide) q1845 q1847 qs86 q1848 q105 hy_X8_readAnd (by omega) (by omega) (Nat.le_of_ble_eq_true rfl) dX8_readOr_1 rfl (fun x1 g2 => ?_)
  refine x_if_ne (tgt := 9) (pc' := 7) K dX8_readOr_4 rfl (by decide) ?_ ?_
  · refine x_aload_n (pc' := 10) K 0 dX8_readOr_9 rfl rfl ?_
    refine x_geti (pc' := 13) K fg_14_46 (Or.inl (K.2.2.2.2.1 _ q1358)) (fun _ h9 => h9) dX8_readOr_10 rfl (fun x3 => ?_)
    refine x_istore_n (pc' := 14) (lv' := [(1, xI x3), (0, xR v0)]) K dX8_readOr_13 rfl (by decide) rfl ?_
    refine x_sub (lv' := [(0, xR v0), (1, xI x3)]) [1, 0] rfl ?_
    exact x_loop (pl := (fun s9 : (Nat × Int32 × AH) => [(0, xR s9.1), (1, xI s9.2.1)])) (ph := (fun s9 : (Nat × Int32 × AH) => s9.2.2)) (Sum.elim (fun r9 : (Nat × Int32 × AH) => XG p l e R s m args below meth c D 2 h0 Q 51 [(0, xR r9.1), (1, xI r9.2.1)] [] r9.2.2) (XEnd below s D h0 (fun v => .inl (some (xI v))) Q)) (fun s9 => hL14 _ (fun _ hz => hz) (fun _ hz => hz) (fun _ hz => hz) s9.1 s9.2.1 s9.2.2) (x_ex2 (fun r9 x hx hc => hA51_0 r9.1 r9.2.1 r9.2.2 x hx hc)) (v0, x3, g2)
  · refine x_iconst (pc' := 8) (v := 0) K dX8_readOr_7 rfl rfl ?_
    exact x_zret K (Or.inl rfl) rfl hr dX8_readOr_8
set_option maxHeartbeats 4000000 in
theorem cs_X8_readAnd {l : Launch} {D : XD} {rc : ((Nat → AH → Option (Int32 × AH)) × (Nat → AH → Option (Int32 × AH)) × (Nat → AH → Option (Int32 × AH)) × (Nat → AH → Option (Int32 × AH)) × (Nat → AH → Option (Int32 × AH)))} {d : Nat} (ih0 : ∀ {v0 : Nat} {h0 : AH} {a : Int32} {h1 : AH}, rc.1 v0 h0 = some (a, h1) → XCt l D yX8_readOr (ws_ yX8_readOr cX8_readOr 2 (some .boolean)) (4 + d) (89 + d * 23) [xR v0] h0 (.inl (some (xI a))) h1) (ih1 : ∀ {v0 : Nat} {h0 : AH} {a : Int32} {h1 : AH}, rc.2.1 v0 h0 = some (a, h1) → XCt l D yX8_readAnd (ws_ yX8_readAnd cX8_readAnd 2 (some .boolean)) (4 + d) (89 + d * 23) [xR v0] h0 (.inl (some (xI a))) h1) (ih2 : ∀ {v0 : Nat} {h0 : AH} {a : Int32} {h1 : AH}, rc.2.2.1 v0 h0 = some (a, h1) → XCt l D yX8_readOne (ws_ yX8_readOne cX8_readOne 4 (some .boolean)) (4 + d) (89 + d * 23) [xR v0] h0 (.inl (some (xI a))) h1) (ih3 : ∀ {v0 : Nat} {h0 : AH} {a : Int32} {h1 : AH}, rc.2.2.2.1 v0 h0 = some (a, h1) → XCt l D yX8_readNot (ws_ yX8_readNot cX8_readNot 1 (some .boolean)) (4 + d) (89 + d * 23) [xR v0] h0 (.inl (some (xI a))) h1) (ih4 : ∀ {v0 : Nat} {h0 : AH} {a : Int32} {h1 : AH}, rc.2.2.2.2 v0 h0 = some (a, h1) → XCt l D yX8_readBracket (ws_ yX8_readBracket cX8_readBracket 1 (some .boolean)) (4 + d) (89 + d * 23) [xR v0] h0 (.inl (some (xI a))) h1) : ∀ {v0 : Nat} {h0 : AH} {a : Int32} {h1 : AH}, fM_readAnd_R rc v0 h0 = some (a, h1) → XCt l D yX8_readAnd (ws_ yX8_readAnd cX8_readAnd 2 (some .boolean)) (4 + (d + 1)) (89 + (d + 1) * 23) [xR v0] h0 (.inl (some (xI a))) h1 := by
  intro v0 h0 a h1 hF
  refine x_method (by decide) (Nat.le_of_ble_eq_true rfl) fun p e R s m args below meth c K hr hnm hex => ?_
  have K : XO p R s m args meth c D 2 h0 cX8_readAnd "FaceCoinsModel" (4 + (d + 1)) (89 + (d + 1) * 23) := K
  generalize hQ : XMQ below _ _ _ _ _ _ = Q
  have hL14 : ∀ (C1 : ((Nat × Int32 × AH) ⊕ ((Nat × Int32 × AH) ⊕ (Int32 × AH))) → Prop) (hj1 : ∀ s9 : (Nat × Int32 × AH), C1 (Sum.inl s9) → XG p l e R s m args below meth c D 2 h0 Q 14 [(0, xR s9.1), (1, xI s9.2.1)] [] s9.2.2) (he1 : ∀ r9 : (Nat × Int32 × AH), C1 (Sum.inr (Sum.inl r9)) → XG p l e R s m args below meth c D 2 h0 Q 51 [(0, xR r9.1), (1, xI r9.2.1)] [] r9.2.2) (hd1 : ∀ y9 : (Int32 × AH), C1 (Sum.inr (Sum.inr y9)) → (XEnd below s D h0 (fun v => .inl (some (xI v))) Q) y9) (v0 : Nat) (v1 : Int32) (g : AH), XF p l e R s m args below meth c D 2 h0 Q 14 [(0, xR v0), (1, xI v1)] [] g (fM_readAnd_l14 rc v0 v1 g) C1 := by
    intro C1 hj1 he1 hd1
    intro v0 v1 g
    unfold fM_readAnd_l14
    refine x_aload_n (pc' := 15) K 0 dX8_readAnd_14 rfl rfl ?_
    refine x_bipush (pc' := 17) (v := 10) K dX8_readAnd_15 rfl (by decide) ?_
    refine x_cVO (pc' := 20) (As := [xI (10 : Int32)]) (en := (fun v => some (xI v))) (rest := []) K (fun a hF => ct_X8_isWord hF) rfl (by decide) q1511 q1513 qs37 q1514 q105 hy_X8_isWord (by omega) (by omega) (Nat.le_of_ble_eq_true rfl) dX8_readAnd_17 rfl (fun x4 => ?_)
    refine x_if_eq (tgt := 51) (pc' := 23) K dX8_readAnd_20 rfl (by decide) ?_ ?_
    · exact x_jump (fun hz => he1 (v0, v1, g) hz)
    · refine x_aload_n (pc' := 24) K 0 dX8_readAnd_23 rfl rfl ?_
      refine x_cV (pc' := 27) (As := []) (en := (fun _ => none)) (rest := []) K (fun a h1 hF => ct_X8_go hF) rfl (by decide) q1491 q1493 qs34 q1494 q105 hy_X8_go (by omega) (by omega) (Nat.le_of_ble_eq_true rfl) dX8_readAnd_24 rfl (fun x_ g5 => ?_)
      refine x_aload_n (pc' := 28) K 0 dX8_readAnd_27 rfl rfl ?_
      refine x_cV (pc' := 31) (As := []) (en := (fun v => some (xI v))) (rest := []) K (fun a h1 hF => ih2 hF) rfl (by decide) q1849 q1851 qs87 q1852 q105 hy_X8_readOne (by omega) (by omega) (Nat.le_of_ble_eq_true rfl) dX8_readAnd_28 rfl (fun x6 g7 => ?_)
      refine x_if_ne (tgt := 36) (pc' := 34) K dX8_readAnd_31 rfl (by decide) ?_ ?_
      · refine x_aload_n (pc' := 37) K 0 dX8_readAnd_36 rfl rfl ?_
        refine x_iconst (pc' := 38) (v := 2) K dX8_readAnd_37 rfl rfl ?_
        refine x_iload_n (pc' := 39) K 1 dX8_readAnd_38 rfl rfl ?_
        refine x_aload_n (pc' := 40) K 0 dX8_readAnd_39 rfl rfl ?_
        refine x_geti (pc' := 43) K fg_14_46 (Or.inl (K.2.2.2.2.1 _ q1358)) (fun _ h9 => h9) dX8_readAnd_40 rfl (fun x8 => ?_)
        refine x_iconst (pc' := 44) (v := 0) K dX8_readAnd_43 rfl rfl ?_
        refine x_cV (pc' := 47) (As := [xI (2 : Int32), xI v1, xI x8, xI (0 : Int32)]) (en := (fun v => some (xI v))) (rest := []) K (fun a h1 hF => ct_X8_lays hF) rfl (by decide) q1861 q1863 qs90 q1864 q105 hy_X8_lays (by omega) (by omega) (Nat.le_of_ble_eq_true rfl) dX8_readAnd_44 rfl (fun x9 g10 => ?_)
        refine x_istore_n (pc' := 48) (lv' := [(1, xI x9), (0, xR v0)]) K dX8_readAnd_47 rfl (by decide) rfl ?_
        refine x_goto (tgt := 14) K dX8_readAnd_48 (by decide) ?_
        refine x_sub (lv' := [(0, xR v0), (1, xI x9)]) [1, 0] rfl ?_
        exact x_jump (fun hz => hj1 (v0, x9, g10) hz)
      · refine x_iconst (pc' := 35) (v := 0) K dX8_readAnd_34 rfl rfl ?_
        refine x_g (fun z => Sum.inr (Sum.inr z)) (x_C (C8 := (XEnd below s D h0 (fun v => .inl (some (xI v))) Q)) (fun z hz => hd1 z hz) ?_)
        exact x_zret K (Or.inl rfl) rfl hr dX8_readAnd_35
  have hA51_0 : ∀ (v0 : Nat) (v1 : Int32) (g : AH), XF p l e R s m args below meth c D 2 h0 Q 51 [(0, xR v0), (1, xI v1)] [] g (fM_readAnd_a51 rc v0 v1 g) (XEnd below s D h0 (fun v => .inl (some (xI v))) Q) := by
    intro v0 v1 g
    unfold fM_readAnd_a51
    refine x_aload_n (pc' := 52) K 0 dX8_readAnd_51 rfl rfl ?_
    refine x_iload_n (pc' := 53) K 1 dX8_readAnd_52 rfl rfl ?_
    refine x_puti (pc' := 56) K fp_14_46 (Or.inl (K.2.2.2.2.1 _ q1358)) (fun _ h9 => h9) (Or.inl rfl) dX8_readAnd_53 rfl (fun g11 => ?_)
    refine x_iconst (pc' := 57) (v := 1) K dX8_readAnd_56 rfl rfl ?_
    exact x_zret K (Or.inr rfl) rfl hr dX8_readAnd_57
  refine (?_ : XF p l e R s m args below meth c D 2 h0 Q 0 [(0, xR v0)] [] h0 (fM_readAnd_R rc v0 h0) (XEnd below s D h0 (fun v => .inl (some (xI v))) Q)) (a, h1) hF hQ.symm
  unfold fM_readAnd_R
  refine x_aload_n (pc' := 1) K 0 dX8_readAnd_0 rfl rfl ?_
  refine x_cV (pc' := 4) (As := []) (en := (fun v => some (xI v))) (rest := []) K (fun a h1 hF => ih2 hF) rfl (by decide) q1849 q1851 qs87 q1852 q105 hy_X8_readOne (by omega) (by omega) (Nat.le_of_ble_eq_true rfl) dX8_readAnd_1 rfl (fun x1 g2 => ?_)
  refine x_if_ne (tgt := 9) (pc' := 7) K dX8_readAnd_4 rfl (by decide) ?_ ?_
  · refine x_aload_n (pc' := 10) K 0 dX8_readAnd_9 rfl rfl ?_
    refine x_geti (pc' := 13) K fg_14_46 (Or.inl (K.2.2.2.2.1 _ q1358)) (fun _ h9 => h9) dX8_readAnd_10 rfl (fun x3 => ?_)
    refine x_istore_n (pc' := 14) (lv' := [(1, xI x3), (0, xR v0)]) K dX8_readAnd_13 rfl (by decide) rfl ?_
    refine x_sub (lv' := [(0, xR v0), (1, xI x3)]) [1, 0] rfl ?_
    exact x_loop (pl := (fun s9 : (Nat × Int32 × AH) => [(0, xR s9.1), (1, xI s9.2.1)])) (ph := (fun s9 : (Nat × Int32 × AH) => s9.2.2)) (Sum.elim (fun r9 : (Nat × Int32 × AH) => XG p l e R s m args below meth c D 2 h0 Q 51 [(0, xR r9.1), (1, xI r9.2.1)] [] r9.2.2) (XEnd below s D h0 (fun v => .inl (some (xI v))) Q)) (fun s9 => hL14 _ (fun _ hz => hz) (fun _ hz => hz) (fun _ hz => hz) s9.1 s9.2.1 s9.2.2) (x_ex2 (fun r9 x hx hc => hA51_0 r9.1 r9.2.1 r9.2.2 x hx hc)) (v0, x3, g2)
  · refine x_iconst (pc' := 8) (v := 0) K dX8_readAnd_7 rfl rfl ?_
    exact x_zret K (Or.inl rfl) rfl hr dX8_readAnd_8
set_option maxHeartbeats 4000000 in
theorem cs_X8_readOne {l : Launch} {D : XD} {rc : ((Nat → AH → Option (Int32 × AH)) × (Nat → AH → Option (Int32 × AH)) × (Nat → AH → Option (Int32 × AH)) × (Nat → AH → Option (Int32 × AH)) × (Nat → AH → Option (Int32 × AH)))} {d : Nat} (ih0 : ∀ {v0 : Nat} {h0 : AH} {a : Int32} {h1 : AH}, rc.1 v0 h0 = some (a, h1) → XCt l D yX8_readOr (ws_ yX8_readOr cX8_readOr 2 (some .boolean)) (4 + d) (89 + d * 23) [xR v0] h0 (.inl (some (xI a))) h1) (ih1 : ∀ {v0 : Nat} {h0 : AH} {a : Int32} {h1 : AH}, rc.2.1 v0 h0 = some (a, h1) → XCt l D yX8_readAnd (ws_ yX8_readAnd cX8_readAnd 2 (some .boolean)) (4 + d) (89 + d * 23) [xR v0] h0 (.inl (some (xI a))) h1) (ih2 : ∀ {v0 : Nat} {h0 : AH} {a : Int32} {h1 : AH}, rc.2.2.1 v0 h0 = some (a, h1) → XCt l D yX8_readOne (ws_ yX8_readOne cX8_readOne 4 (some .boolean)) (4 + d) (89 + d * 23) [xR v0] h0 (.inl (some (xI a))) h1) (ih3 : ∀ {v0 : Nat} {h0 : AH} {a : Int32} {h1 : AH}, rc.2.2.2.1 v0 h0 = some (a, h1) → XCt l D yX8_readNot (ws_ yX8_readNot cX8_readNot 1 (some .boolean)) (4 + d) (89 + d * 23) [xR v0] h0 (.inl (some (xI a))) h1) (ih4 : ∀ {v0 : Nat} {h0 : AH} {a : Int32} {h1 : AH}, rc.2.2.2.2 v0 h0 = some (a, h1) → XCt l D yX8_readBracket (ws_ yX8_readBracket cX8_readBracket 1 (some .boolean)) (4 + d) (89 + d * 23) [xR v0] h0 (.inl (some (xI a))) h1) : ∀ {v0 : Nat} {h0 : AH} {a : Int32} {h1 : AH}, fM_readOne_R rc v0 h0 = some (a, h1) → XCt l D yX8_readOne (ws_ yX8_readOne cX8_readOne 4 (some .boolean)) (4 + (d + 1)) (89 + (d + 1) * 23) [xR v0] h0 (.inl (some (xI a))) h1 := by
  intro v0 h0 a h1 hF
  refine x_method (by decide) (Nat.le_of_ble_eq_true rfl) fun p e R s m args below meth c K hr hnm hex => ?_
  have K : XO p R s m args meth c D 4 h0 cX8_readOne "FaceCoinsModel" (4 + (d + 1)) (89 + (d + 1) * 23) := K
  generalize hQ : XMQ below _ _ _ _ _ _ = Q
  have hL10 : ∀ (g : AH) (C1 : ((Nat × Int32 × Int32) ⊕ (Nat × Int32 × Int32)) → Prop) (hj1 : ∀ s9 : (Nat × Int32 × Int32), C1 (Sum.inl s9) → XG p l e R s m args below meth c D 4 h0 Q 10 [(0, xR s9.1), (1, xI s9.2.1), (2, xI s9.2.2)] [] g) (he1 : ∀ r9 : (Nat × Int32 × Int32), C1 (Sum.inr r9) → XG p l e R s m args below meth c D 4 h0 Q 30 [(0, xR r9.1), (1, xI r9.2.1), (2, xI r9.2.2)] [] g) (v0 : Nat) (v1 : Int32) (v2 : Int32), XF p l e R s m args below meth c D 4 h0 Q 10 [(0, xR v0), (1, xI v1), (2, xI v2)] [] g (fM_readOne_l10 rc v0 v1 v2 g) C1 := by
    intro g C1 hj1 he1
    intro v0 v1 v2
    unfold fM_readOne_l10
    refine x_iload_n (pc' := 11) K 2 dX8_readOne_10 rfl rfl ?_
    refine x_bipush (pc' := 13) (v := 18) K dX8_readOne_11 rfl (by decide) ?_
    refine x_icmp_gt (tgt := 30) (pc' := 16) K dX8_readOne_13 rfl (by decide) ?_ ?_
    · exact x_jump (fun hz => he1 (v0, v1, v2) hz)
    · refine x_aload_n (pc' := 17) K 0 dX8_readOne_16 rfl rfl ?_
      refine x_iload_n (pc' := 18) K 2 dX8_readOne_17 rfl rfl ?_
      refine x_cVO (pc' := 21) (As := [xI v2]) (en := (fun v => some (xI v))) (rest := []) K (fun a hF => ct_X8_isWord hF) rfl (by decide) q1511 q1513 qs37 q1514 q105 hy_X8_isWord (by omega) (by omega) (Nat.le_of_ble_eq_true rfl) dX8_readOne_18 rfl (fun x2 => ?_)
      refine x_if_ne (tgt := 30) (pc' := 24) K dX8_readOne_21 rfl (by decide) ?_ ?_
      · exact x_jump (fun hz => he1 (v0, v1, v2) hz)
      · refine x_iinc (pc' := 27) (y := 1) (lv' := [(2, xI (v2 + 1)), (0, xR v0), (1, xI v1)]) K 2 dX8_readOne_24 rfl rfl (by decide) (by decide) rfl ?_
        refine x_goto (tgt := 10) K dX8_readOne_27 (by decide) ?_
        refine x_sub (lv' := [(0, xR v0), (1, xI v1), (2, xI (v2 + 1))]) [1, 2, 0] rfl ?_
        exact x_jump (fun hz => hj1 (v0, v1, (v2 + 1)) hz)
  have hB46 : ∀ (v0 : Nat) (v1 : Int32) (v2 : Int32)  (g : AH), XF p l e R s m args below meth c D 4 h0 Q 46 [(0, xR v0), (1, xI v1), (2, xI v2)] [] g (fM_readOne_b46 rc v0 v1 v2 g) (XEnd below s D h0 (fun v => .inl (some (xI v))) Q) := by
    intro v0 v1 v2 g
    unfold fM_readOne_b46
    refine x_aload_n (pc' := 47) K 0 dX8_readOne_46 rfl rfl ?_
    refine x_geti (pc' := 50) K fg_14_44 (Or.inl (K.2.2.2.2.1 _ q1356)) (fun _ h9 => h9) dX8_readOne_47 rfl (fun x3 => ?_)
    refine x_bipush (pc' := 52) (v := 20) K dX8_readOne_50 rfl (by decide) ?_
    refine x_icmp_eq (tgt := 64) (pc' := 55) K dX8_readOne_52 rfl (by decide) ?_ ?_
    · refine x_aload_n (pc' := 65) K 0 dX8_readOne_64 rfl rfl ?_
      refine x_iconst (pc' := 66) (v := 4) K dX8_readOne_65 rfl rfl ?_
      refine x_cV (pc' := 69) (As := [xI (4 : Int32)]) (en := (fun v => some (xI v))) (rest := []) K (fun a h1 hF => ct_X8_bad hF) rfl (by decide) q1528 q1530 qs39 q1531 q105 hy_X8_bad (by omega) (by omega) (Nat.le_of_ble_eq_true rfl) dX8_readOne_66 rfl (fun x4 g5 => ?_)
      refine x_check (fun qz => ?_)
      exact x_zret K qz rfl hr dX8_readOne_69
    · refine x_aload_n (pc' := 56) K 0 dX8_readOne_55 rfl rfl ?_
      refine x_geti (pc' := 59) K fg_14_45 (Or.inl (K.2.2.2.2.1 _ q1357)) (fun _ h9 => h9) dX8_readOne_56 rfl (fun x6 => ?_)
      refine x_bipush (pc' := 61) (v := 8) K dX8_readOne_59 rfl (by decide) ?_
      refine x_icmp_ne (tgt := 70) (pc' := 64) K dX8_readOne_61 rfl (by decide) ?_ ?_
      · refine x_aload_n (pc' := 71) K 0 dX8_readOne_70 rfl rfl ?_
        refine x_dup (pc' := 72) K dX8_readOne_71 rfl rfl ?_
        refine x_geti (pc' := 75) K fg_14_44 (Or.inl (K.2.2.2.2.1 _ q1356)) (fun _ h9 => h9) dX8_readOne_72 rfl (fun x7 => ?_)
        refine x_iconst (pc' := 76) (v := 1) K dX8_readOne_75 rfl rfl ?_
        refine x_iadd (pc' := 77) K dX8_readOne_76 rfl ?_
        refine x_puti (pc' := 80) K fp_14_44 (Or.inl (K.2.2.2.2.1 _ q1356)) (fun _ h9 => h9) (Or.inl rfl) dX8_readOne_77 rfl (fun g8 => ?_)
        refine x_aload_n (pc' := 81) K 0 dX8_readOne_80 rfl rfl ?_
        refine x_dup (pc' := 82) K dX8_readOne_81 rfl rfl ?_
        refine x_geti (pc' := 85) K fg_14_45 (Or.inl (K.2.2.2.2.1 _ q1357)) (fun _ h9 => h9) dX8_readOne_82 rfl (fun x9 => ?_)
        refine x_iconst (pc' := 86) (v := 1) K dX8_readOne_85 rfl rfl ?_
        refine x_iadd (pc' := 87) K dX8_readOne_86 rfl ?_
        refine x_puti (pc' := 90) K fp_14_45 (Or.inl (K.2.2.2.2.1 _ q1357)) (fun _ h9 => h9) (Or.inl rfl) dX8_readOne_87 rfl (fun g10 => ?_)
        refine x_aload_n (pc' := 91) K 0 dX8_readOne_90 rfl rfl ?_
        refine x_cV (pc' := 94) (As := []) (en := (fun _ => none)) (rest := []) K (fun a h1 hF => ct_X8_go hF) rfl (by decide) q1491 q1493 qs34 q1494 q105 hy_X8_go (by omega) (by omega) (Nat.le_of_ble_eq_true rfl) dX8_readOne_91 rfl (fun x_ g11 => ?_)
        refine x_iconst (pc' := 95) (v := 1) K dX8_readOne_94 rfl rfl ?_
        refine x_istore_n (pc' := 96) (lv' := [(3, xI (1 : Int32)), (0, xR v0), (1, xI v1), (2, xI v2)]) K dX8_readOne_95 rfl (by decide) rfl ?_
        refine x_iload_n (pc' := 97) K 2 dX8_readOne_96 rfl rfl ?_
        refine x_if_eq (tgt := 108) (pc' := 100) K dX8_readOne_97 rfl (by decide) ?_ ?_
        · refine x_iload_n (pc' := 109) K 3 dX8_readOne_108 rfl rfl ?_
          refine x_bipush (pc' := 111) (v := 11) K dX8_readOne_109 rfl (by decide) ?_
          refine x_icmp_ne (tgt := 122) (pc' := 114) K dX8_readOne_111 rfl (by decide) ?_ ?_
          · refine x_iload_n (pc' := 123) K 3 dX8_readOne_122 rfl rfl ?_
            refine x_bipush (pc' := 125) (v := 15) K dX8_readOne_123 rfl (by decide) ?_
            refine x_icmp_ne (tgt := 143) (pc' := 128) K dX8_readOne_125 rfl (by decide) ?_ ?_
            · refine x_iload_n (pc' := 144) K 3 dX8_readOne_143 rfl rfl ?_
              refine x_bipush (pc' := 146) (v := 15) K dX8_readOne_144 rfl (by decide) ?_
              refine x_icmp_ge (tgt := 157) (pc' := 149) K dX8_readOne_146 rfl (by decide) ?_ ?_
              · refine x_aload_n (pc' := 158) K 1 dX8_readOne_157 rfl rfl ?_
                refine x_iload_n (pc' := 159) K 3 dX8_readOne_158 rfl rfl ?_
                refine x_cV (pc' := 162) (As := [xI v2]) (en := (fun v => some (xI v))) (rest := []) K (fun a h1 hF => ct_X8_readCompare hF) rfl (by decide) q1869 q1871 qs92 q1872 q105 hy_X8_readCompare (by omega) (by omega) (Nat.le_of_ble_eq_true rfl) dX8_readOne_159 rfl (fun x12 g13 => ?_)
                refine x_istore_n (pc' := 163) (lv' := [(3, xI x12), (0, xR v0), (1, xI v1), (2, xI v2)]) K dX8_readOne_162 rfl (by decide) rfl ?_
                refine x_aload_n (pc' := 164) K 1 dX8_readOne_163 rfl rfl ?_
                refine x_dup (pc' := 165) K dX8_readOne_164 rfl rfl ?_
                refine x_geti (pc' := 168) K fg_14_45 (Or.inl (K.2.2.2.2.1 _ q1357)) (fun _ h9 => h9) dX8_readOne_165 rfl (fun x14 => ?_)
                refine x_iconst (pc' := 169) (v := 1) K dX8_readOne_168 rfl rfl ?_
                refine x_isub (pc' := 170) K dX8_readOne_169 rfl ?_
                refine x_puti (pc' := 173) K fp_14_45 (Or.inl (K.2.2.2.2.1 _ q1357)) (fun _ h9 => h9) (Or.inl rfl) dX8_readOne_170 rfl (fun g15 => ?_)
                refine x_iload_n (pc' := 174) K 0 dX8_readOne_173 rfl rfl ?_
                refine x_check (fun qz => ?_)
                exact x_zret K qz rfl hr dX8_readOne_174
              · refine x_aload_n (pc' := 150) K 1 dX8_readOne_149 rfl rfl ?_
                refine x_iload_n (pc' := 151) K 3 dX8_readOne_150 rfl rfl ?_
                refine x_cV (pc' := 154) (As := [xI v2]) (en := (fun v => some (xI v))) (rest := []) K (fun a h1 hF => ct_X8_readNamed hF) rfl (by decide) q1865 q1867 qs91 q1868 q105 hy_X8_readNamed (by omega) (by omega) (Nat.le_of_ble_eq_true rfl) dX8_readOne_151 rfl (fun x16 g17 => ?_)
                refine x_goto (tgt := 162) K dX8_readOne_154 (by decide) ?_
                refine x_istore_n (pc' := 163) (lv' := [(3, xI x16), (0, xR v0), (1, xI v1), (2, xI v2)]) K dX8_readOne_162 rfl (by decide) rfl ?_
                refine x_aload_n (pc' := 164) K 1 dX8_readOne_163 rfl rfl ?_
                refine x_dup (pc' := 165) K dX8_readOne_164 rfl rfl ?_
                refine x_geti (pc' := 168) K fg_14_45 (Or.inl (K.2.2.2.2.1 _ q1357)) (fun _ h9 => h9) dX8_readOne_165 rfl (fun x18 => ?_)
                refine x_iconst (pc' := 169) (v := 1) K dX8_readOne_168 rfl rfl ?_
                refine x_isub (pc' := 170) K dX8_readOne_169 rfl ?_
                refine x_puti (pc' := 173) K fp_14_45 (Or.inl (K.2.2.2.2.1 _ q1357)) (fun _ h9 => h9) (Or.inl rfl) dX8_readOne_170 rfl (fun g19 => ?_)
                refine x_iload_n (pc' := 174) K 0 dX8_readOne_173 rfl rfl ?_
                refine x_check (fun qz => ?_)
                exact x_zret K qz rfl hr dX8_readOne_174
            · refine x_aload_n (pc' := 129) K 1 dX8_readOne_128 rfl rfl ?_
              refine x_aload_n (pc' := 130) K 1 dX8_readOne_129 rfl rfl ?_
              refine x_iconst (pc' := 131) (v := 4) K dX8_readOne_130 rfl rfl ?_
              refine x_iconst (pc' := 132) (v := 0) K dX8_readOne_131 rfl rfl ?_
              refine x_iconst (pc' := 133) (v := 0) K dX8_readOne_132 rfl rfl ?_
              refine x_iconst (pc' := 134) (v := 0) K dX8_readOne_133 rfl rfl ?_
              refine x_cV (pc' := 137) (As := [xI (4 : Int32), xI (0 : Int32), xI (0 : Int32), xI (0 : Int32)]) (en := (fun v => some (xI v))) (rest := [xR v0]) K (fun a h1 hF => ct_X8_lays hF) rfl (by decide) q1861 q1863 qs90 q1864 q105 hy_X8_lays (by omega) (by omega) (Nat.le_of_ble_eq_true rfl) dX8_readOne_134 rfl (fun x20 g21 => ?_)
              refine x_puti (pc' := 140) K fp_14_46 (Or.inl (K.2.2.2.2.1 _ q1358)) (fun _ h9 => h9) (Or.inl rfl) dX8_readOne_137 rfl (fun g22 => ?_)
              refine x_goto (tgt := 163) K dX8_readOne_140 (by decide) ?_
              refine x_aload_n (pc' := 164) K 1 dX8_readOne_163 rfl rfl ?_
              refine x_dup (pc' := 165) K dX8_readOne_164 rfl rfl ?_
              refine x_geti (pc' := 168) K fg_14_45 (Or.inl (K.2.2.2.2.1 _ q1357)) (fun _ h9 => h9) dX8_readOne_165 rfl (fun x23 => ?_)
              refine x_iconst (pc' := 169) (v := 1) K dX8_readOne_168 rfl rfl ?_
              refine x_isub (pc' := 170) K dX8_readOne_169 rfl ?_
              refine x_puti (pc' := 173) K fp_14_45 (Or.inl (K.2.2.2.2.1 _ q1357)) (fun _ h9 => h9) (Or.inl rfl) dX8_readOne_170 rfl (fun g24 => ?_)
              refine x_iload_n (pc' := 174) K 0 dX8_readOne_173 rfl rfl ?_
              exact x_zret K (Or.inr rfl) rfl hr dX8_readOne_174
          · refine x_aload_n (pc' := 115) K 1 dX8_readOne_114 rfl rfl ?_
            refine x_cV (pc' := 118) (As := []) (en := (fun v => some (xI v))) (rest := []) K (fun a h1 hF => ih3 hF) rfl (by decide) q1857 q1859 qs89 q1860 q105 hy_X8_readNot (by omega) (by omega) (Nat.le_of_ble_eq_true rfl) dX8_readOne_115 rfl (fun x25 g26 => ?_)
            refine x_istore_n (pc' := 119) (lv' := [(3, xI x25), (0, xR v0), (1, xI v1), (2, xI v2)]) K dX8_readOne_118 rfl (by decide) rfl ?_
            refine x_goto (tgt := 163) K dX8_readOne_119 (by decide) ?_
            refine x_aload_n (pc' := 164) K 1 dX8_readOne_163 rfl rfl ?_
            refine x_dup (pc' := 165) K dX8_readOne_164 rfl rfl ?_
            refine x_geti (pc' := 168) K fg_14_45 (Or.inl (K.2.2.2.2.1 _ q1357)) (fun _ h9 => h9) dX8_readOne_165 rfl (fun x27 => ?_)
            refine x_iconst (pc' := 169) (v := 1) K dX8_readOne_168 rfl rfl ?_
            refine x_isub (pc' := 170) K dX8_readOne_169 rfl ?_
            refine x_puti (pc' := 173) K fp_14_45 (Or.inl (K.2.2.2.2.1 _ q1357)) (fun _ h9 => h9) (Or.inl rfl) dX8_readOne_170 rfl (fun g28 => ?_)
            refine x_iload_n (pc' := 174) K 0 dX8_readOne_173 rfl rfl ?_
            refine x_check (fun qz => ?_)
            exact x_zret K qz rfl hr dX8_readOne_174
        · refine x_aload_n (pc' := 101) K 1 dX8_readOne_100 rfl rfl ?_
          refine x_cV (pc' := 104) (As := []) (en := (fun v => some (xI v))) (rest := []) K (fun a h1 hF => ih4 hF) rfl (by decide) q1853 q1855 qs88 q1856 q105 hy_X8_readBracket (by omega) (by omega) (Nat.le_of_ble_eq_true rfl) dX8_readOne_101 rfl (fun x29 g30 => ?_)
          refine x_istore_n (pc' := 105) (lv' := [(3, xI x29), (0, xR v0), (1, xI v1), (2, xI v2)]) K dX8_readOne_104 rfl (by decide) rfl ?_
          refine x_goto (tgt := 163) K dX8_readOne_105 (by decide) ?_
          refine x_aload_n (pc' := 164) K 1 dX8_readOne_163 rfl rfl ?_
          refine x_dup (pc' := 165) K dX8_readOne_164 rfl rfl ?_
          refine x_geti (pc' := 168) K fg_14_45 (Or.inl (K.2.2.2.2.1 _ q1357)) (fun _ h9 => h9) dX8_readOne_165 rfl (fun x31 => ?_)
          refine x_iconst (pc' := 169) (v := 1) K dX8_readOne_168 rfl rfl ?_
          refine x_isub (pc' := 170) K dX8_readOne_169 rfl ?_
          refine x_puti (pc' := 173) K fp_14_45 (Or.inl (K.2.2.2.2.1 _ q1357)) (fun _ h9 => h9) (Or.inl rfl) dX8_readOne_170 rfl (fun g32 => ?_)
          refine x_iload_n (pc' := 174) K 0 dX8_readOne_173 rfl rfl ?_
          refine x_check (fun qz => ?_)
          exact x_zret K qz rfl hr dX8_readOne_174
      · refine x_aload_n (pc' := 65) K 0 dX8_readOne_64 rfl rfl ?_
        refine x_iconst (pc' := 66) (v := 4) K dX8_readOne_65 rfl rfl ?_
        refine x_cV (pc' := 69) (As := [xI (4 : Int32)]) (en := (fun v => some (xI v))) (rest := []) K (fun a h1 hF => ct_X8_bad hF) rfl (by decide) q1528 q1530 qs39 q1531 q105 hy_X8_bad (by omega) (by omega) (Nat.le_of_ble_eq_true rfl) dX8_readOne_66 rfl (fun x33 g34 => ?_)
        refine x_check (fun qz => ?_)
        exact x_zret K qz rfl hr dX8_readOne_69
  have hB30 : ∀ (v0 : Nat) (v1 : Int32) (v2 : Int32)  (g : AH), XF p l e R s m args below meth c D 4 h0 Q 30 [(0, xR v0), (1, xI v1), (2, xI v2)] [] g (fM_readOne_b30 rc v0 v1 v2 g) (XEnd below s D h0 (fun v => .inl (some (xI v))) Q) := by
    intro v0 v1 v2 g
    unfold fM_readOne_b30
    refine x_iload_n (pc' := 31) K 1 dX8_readOne_30 rfl rfl ?_
    refine x_if_ne (tgt := 46) (pc' := 34) K dX8_readOne_31 rfl (by decide) ?_ ?_
    · exact hB46 _ _ _ g
    · refine x_iload_n (pc' := 35) K 2 dX8_readOne_34 rfl rfl ?_
      refine x_bipush (pc' := 37) (v := 18) K dX8_readOne_35 rfl (by decide) ?_
      refine x_icmp_le (tgt := 46) (pc' := 40) K dX8_readOne_37 rfl (by decide) ?_ ?_
      · exact hB46 _ _ _ g
      · refine x_aload_n (pc' := 41) K 0 dX8_readOne_40 rfl rfl ?_
        refine x_iconst (pc' := 42) (v := 1) K dX8_readOne_41 rfl rfl ?_
        refine x_cV (pc' := 45) (As := [xI (1 : Int32)]) (en := (fun v => some (xI v))) (rest := []) K (fun a h1 hF => ct_X8_bad hF) rfl (by decide) q1528 q1530 qs39 q1531 q105 hy_X8_bad (by omega) (by omega) (Nat.le_of_ble_eq_true rfl) dX8_readOne_42 rfl (fun x35 g36 => ?_)
        refine x_check (fun qz => ?_)
        exact x_zret K qz rfl hr dX8_readOne_45
  have hA30_0 : ∀ (v0 : Nat) (v1 : Int32) (v2 : Int32) (g : AH), XF p l e R s m args below meth c D 4 h0 Q 30 [(0, xR v0), (1, xI v1), (2, xI v2)] [] g (fM_readOne_a30 rc v0 v1 v2 g) (XEnd below s D h0 (fun v => .inl (some (xI v))) Q) := by
    intro v0 v1 v2 g
    unfold fM_readOne_a30
    exact hB30 _ _ _ g
  refine (?_ : XF p l e R s m args below meth c D 4 h0 Q 0 [(0, xR v0)] [] h0 (fM_readOne_R rc v0 h0) (XEnd below s D h0 (fun v => .inl (some (xI v))) Q)) (a, h1) hF hQ.symm
  unfold fM_readOne_R
  refine x_aload_n (pc' := 1) K 0 dX8_readOne_0 rfl rfl ?_
  refine x_bipush (pc' := 3) (v := 40) K dX8_readOne_1 rfl (by decide) ?_
  refine x_cVO (pc' := 6) (As := [xI (40 : Int32)]) (en := (fun v => some (xI v))) (rest := []) K (fun a hF => ct_X8_isSign hF) rfl (by decide) q1574 q1576 qs49 q1577 q105 hy_X8_isSign (by omega) (by omega) (Nat.le_of_ble_eq_true rfl) dX8_readOne_3 rfl (fun x1 => ?_)
  refine x_istore_n (pc' := 7) (lv' := [(1, xI x1), (0, xR v0)]) K dX8_readOne_6 rfl (by decide) rfl ?_
  refine x_bipush (pc' := 9) (v := 11) K dX8_readOne_7 rfl (by decide) ?_
  refine x_istore_n (pc' := 10) (lv' := [(2, xI (11 : Int32)), (1, xI x1), (0, xR v0)]) K dX8_readOne_9 rfl (by decide) rfl ?_
  refine x_sub (lv' := [(0, xR v0), (1, xI x1), (2, xI (11 : Int32))]) [2, 1, 0] rfl ?_
  exact x_loop (pl := (fun s9 : (Nat × Int32 × Int32) => [(0, xR s9.1), (1, xI s9.2.1), (2, xI s9.2.2)])) (ph := (fun s9 : (Nat × Int32 × Int32) => h0)) (fun r9 : (Nat × Int32 × Int32) => XG p l e R s m args below meth c D 4 h0 Q 30 [(0, xR r9.1), (1, xI r9.2.1), (2, xI r9.2.2)] [] h0) (fun s9 => hL10 h0 _ (fun _ hz => hz) (fun _ hz => hz) s9.1 s9.2.1 s9.2.2) (fun r9 x hx hc => hA30_0 r9.1 r9.2.1 r9.2.2 h0 x hx hc) (v0, x1, (11 : Int32))
set_option maxHeartbeats 4000000 in
theorem cs_X8_readNot {l : Launch} {D : XD} {rc : ((Nat → AH → Option (Int32 × AH)) × (Nat → AH → Option (Int32 × AH)) × (Nat → AH → Option (Int32 × AH)) × (Nat → AH → Option (Int32 × AH)) × (Nat → AH → Option (Int32 × AH)))} {d : Nat} (ih0 : ∀ {v0 : Nat} {h0 : AH} {a : Int32} {h1 : AH}, rc.1 v0 h0 = some (a, h1) → XCt l D yX8_readOr (ws_ yX8_readOr cX8_readOr 2 (some .boolean)) (4 + d) (89 + d * 23) [xR v0] h0 (.inl (some (xI a))) h1) (ih1 : ∀ {v0 : Nat} {h0 : AH} {a : Int32} {h1 : AH}, rc.2.1 v0 h0 = some (a, h1) → XCt l D yX8_readAnd (ws_ yX8_readAnd cX8_readAnd 2 (some .boolean)) (4 + d) (89 + d * 23) [xR v0] h0 (.inl (some (xI a))) h1) (ih2 : ∀ {v0 : Nat} {h0 : AH} {a : Int32} {h1 : AH}, rc.2.2.1 v0 h0 = some (a, h1) → XCt l D yX8_readOne (ws_ yX8_readOne cX8_readOne 4 (some .boolean)) (4 + d) (89 + d * 23) [xR v0] h0 (.inl (some (xI a))) h1) (ih3 : ∀ {v0 : Nat} {h0 : AH} {a : Int32} {h1 : AH}, rc.2.2.2.1 v0 h0 = some (a, h1) → XCt l D yX8_readNot (ws_ yX8_readNot cX8_readNot 1 (some .boolean)) (4 + d) (89 + d * 23) [xR v0] h0 (.inl (some (xI a))) h1) (ih4 : ∀ {v0 : Nat} {h0 : AH} {a : Int32} {h1 : AH}, rc.2.2.2.2 v0 h0 = some (a, h1) → XCt l D yX8_readBracket (ws_ yX8_readBracket cX8_readBracket 1 (some .boolean)) (4 + d) (89 + d * 23) [xR v0] h0 (.inl (some (xI a))) h1) : ∀ {v0 : Nat} {h0 : AH} {a : Int32} {h1 : AH}, fM_readNot_R rc v0 h0 = some (a, h1) → XCt l D yX8_readNot (ws_ yX8_readNot cX8_readNot 1 (some .boolean)) (4 + (d + 1)) (89 + (d + 1) * 23) [xR v0] h0 (.inl (some (xI a))) h1 := by
  intro v0 h0 a h1 hF
  refine x_method (by decide) (Nat.le_of_ble_eq_true rfl) fun p e R s m args below meth c K hr hnm hex => ?_
  have K : XO p R s m args meth c D 1 h0 cX8_readNot "FaceCoinsModel" (4 + (d + 1)) (89 + (d + 1) * 23) := K
  generalize hQ : XMQ below _ _ _ _ _ _ = Q
  refine (?_ : XF p l e R s m args below meth c D 1 h0 Q 0 [(0, xR v0)] [] h0 (fM_readNot_R rc v0 h0) (XEnd below s D h0 (fun v => .inl (some (xI v))) Q)) (a, h1) hF hQ.symm
  unfold fM_readNot_R
  refine x_aload_n (pc' := 1) K 0 dX8_readNot_0 rfl rfl ?_
  refine x_cV (pc' := 4) (As := []) (en := (fun v => some (xI v))) (rest := []) K (fun a h1 hF => ih2 hF) rfl (by decide) q1849 q1851 qs87 q1852 q105 hy_X8_readOne (by omega) (by omega) (Nat.le_of_ble_eq_true rfl) dX8_readNot_1 rfl (fun x1 g2 => ?_)
  refine x_if_ne (tgt := 9) (pc' := 7) K dX8_readNot_4 rfl (by decide) ?_ ?_
  · refine x_aload_n (pc' := 10) K 0 dX8_readNot_9 rfl rfl ?_
    refine x_aload_n (pc' := 11) K 0 dX8_readNot_10 rfl rfl ?_
    refine x_iconst (pc' := 12) (v := 1) K dX8_readNot_11 rfl rfl ?_
    refine x_aload_n (pc' := 13) K 0 dX8_readNot_12 rfl rfl ?_
    refine x_geti (pc' := 16) K fg_14_46 (Or.inl (K.2.2.2.2.1 _ q1358)) (fun _ h9 => h9) dX8_readNot_13 rfl (fun x3 => ?_)
    refine x_iconst (pc' := 17) (v := 0) K dX8_readNot_16 rfl rfl ?_
    refine x_iconst (pc' := 18) (v := 0) K dX8_readNot_17 rfl rfl ?_
    refine x_cV (pc' := 21) (As := [xI (1 : Int32), xI x3, xI (0 : Int32), xI (0 : Int32)]) (en := (fun v => some (xI v))) (rest := [xR v0]) K (fun a h1 hF => ct_X8_lays hF) rfl (by decide) q1861 q1863 qs90 q1864 q105 hy_X8_lays (by omega) (by omega) (Nat.le_of_ble_eq_true rfl) dX8_readNot_18 rfl (fun x4 g5 => ?_)
    refine x_puti (pc' := 24) K fp_14_46 (Or.inl (K.2.2.2.2.1 _ q1358)) (fun _ h9 => h9) (Or.inl rfl) dX8_readNot_21 rfl (fun g6 => ?_)
    refine x_iconst (pc' := 25) (v := 1) K dX8_readNot_24 rfl rfl ?_
    exact x_zret K (Or.inr rfl) rfl hr dX8_readNot_25
  · refine x_iconst (pc' := 8) (v := 0) K dX8_readNot_7 rfl rfl ?_
    exact x_zret K (Or.inl rfl) rfl hr dX8_readNot_8
set_option maxHeartbeats 4000000 in
theorem cs_X8_readBracket {l : Launch} {D : XD} {rc : ((Nat → AH → Option (Int32 × AH)) × (Nat → AH → Option (Int32 × AH)) × (Nat → AH → Option (Int32 × AH)) × (Nat → AH → Option (Int32 × AH)) × (Nat → AH → Option (Int32 × AH)))} {d : Nat} (ih0 : ∀ {v0 : Nat} {h0 : AH} {a : Int32} {h1 : AH}, rc.1 v0 h0 = some (a, h1) → XCt l D yX8_readOr (ws_ yX8_readOr cX8_readOr 2 (some .boolean)) (4 + d) (89 + d * 23) [xR v0] h0 (.inl (some (xI a))) h1) (ih1 : ∀ {v0 : Nat} {h0 : AH} {a : Int32} {h1 : AH}, rc.2.1 v0 h0 = some (a, h1) → XCt l D yX8_readAnd (ws_ yX8_readAnd cX8_readAnd 2 (some .boolean)) (4 + d) (89 + d * 23) [xR v0] h0 (.inl (some (xI a))) h1) (ih2 : ∀ {v0 : Nat} {h0 : AH} {a : Int32} {h1 : AH}, rc.2.2.1 v0 h0 = some (a, h1) → XCt l D yX8_readOne (ws_ yX8_readOne cX8_readOne 4 (some .boolean)) (4 + d) (89 + d * 23) [xR v0] h0 (.inl (some (xI a))) h1) (ih3 : ∀ {v0 : Nat} {h0 : AH} {a : Int32} {h1 : AH}, rc.2.2.2.1 v0 h0 = some (a, h1) → XCt l D yX8_readNot (ws_ yX8_readNot cX8_readNot 1 (some .boolean)) (4 + d) (89 + d * 23) [xR v0] h0 (.inl (some (xI a))) h1) (ih4 : ∀ {v0 : Nat} {h0 : AH} {a : Int32} {h1 : AH}, rc.2.2.2.2 v0 h0 = some (a, h1) → XCt l D yX8_readBracket (ws_ yX8_readBracket cX8_readBracket 1 (some .boolean)) (4 + d) (89 + d * 23) [xR v0] h0 (.inl (some (xI a))) h1) : ∀ {v0 : Nat} {h0 : AH} {a : Int32} {h1 : AH}, fM_readBracket_R rc v0 h0 = some (a, h1) → XCt l D yX8_readBracket (ws_ yX8_readBracket cX8_readBracket 1 (some .boolean)) (4 + (d + 1)) (89 + (d + 1) * 23) [xR v0] h0 (.inl (some (xI a))) h1 := by
  intro v0 h0 a h1 hF
  refine x_method (by decide) (Nat.le_of_ble_eq_true rfl) fun p e R s m args below meth c K hr hnm hex => ?_
  have K : XO p R s m args meth c D 1 h0 cX8_readBracket "FaceCoinsModel" (4 + (d + 1)) (89 + (d + 1) * 23) := K
  generalize hQ : XMQ below _ _ _ _ _ _ = Q
  refine (?_ : XF p l e R s m args below meth c D 1 h0 Q 0 [(0, xR v0)] [] h0 (fM_readBracket_R rc v0 h0) (XEnd below s D h0 (fun v => .inl (some (xI v))) Q)) (a, h1) hF hQ.symm
  unfold fM_readBracket_R
  refine x_aload_n (pc' := 1) K 0 dX8_readBracket_0 rfl rfl ?_
  refine x_cV (pc' := 4) (As := []) (en := (fun v => some (xI v))) (rest := []) K (fun a h1 hF => ih0 hF) rfl (by decide) q1841 q1843 qs85 q1844 q105 hy_X8_readOr (by omega) (by omega) (Nat.le_of_ble_eq_true rfl) dX8_readBracket_1 rfl (fun x1 g2 => ?_)
  refine x_if_ne (tgt := 9) (pc' := 7) K dX8_readBracket_4 rfl (by decide) ?_ ?_
  · refine x_aload_n (pc' := 10) K 0 dX8_readBracket_9 rfl rfl ?_
    refine x_bipush (pc' := 12) (v := 41) K dX8_readBracket_10 rfl (by decide) ?_
    refine x_cVO (pc' := 15) (As := [xI (41 : Int32)]) (en := (fun v => some (xI v))) (rest := []) K (fun a hF => ct_X8_isSign hF) rfl (by decide) q1574 q1576 qs49 q1577 q105 hy_X8_isSign (by omega) (by omega) (Nat.le_of_ble_eq_true rfl) dX8_readBracket_12 rfl (fun x3 => ?_)
    refine x_if_ne (tgt := 24) (pc' := 18) K dX8_readBracket_15 rfl (by decide) ?_ ?_
    · refine x_aload_n (pc' := 25) K 0 dX8_readBracket_24 rfl rfl ?_
      refine x_cV (pc' := 28) (As := []) (en := (fun _ => none)) (rest := []) K (fun a h1 hF => ct_X8_go hF) rfl (by decide) q1491 q1493 qs34 q1494 q105 hy_X8_go (by omega) (by omega) (Nat.le_of_ble_eq_true rfl) dX8_readBracket_25 rfl (fun x_ g4 => ?_)
      refine x_iconst (pc' := 29) (v := 1) K dX8_readBracket_28 rfl rfl ?_
      exact x_zret K (Or.inr rfl) rfl hr dX8_readBracket_29
    · refine x_aload_n (pc' := 19) K 0 dX8_readBracket_18 rfl rfl ?_
      refine x_iconst (pc' := 20) (v := 1) K dX8_readBracket_19 rfl rfl ?_
      refine x_cV (pc' := 23) (As := [xI (1 : Int32)]) (en := (fun v => some (xI v))) (rest := []) K (fun a h1 hF => ct_X8_bad hF) rfl (by decide) q1528 q1530 qs39 q1531 q105 hy_X8_bad (by omega) (by omega) (Nat.le_of_ble_eq_true rfl) dX8_readBracket_20 rfl (fun x5 g6 => ?_)
      refine x_check (fun qz => ?_)
      exact x_zret K qz rfl hr dX8_readBracket_23
  · refine x_iconst (pc' := 8) (v := 0) K dX8_readBracket_7 rfl rfl ?_
    exact x_zret K (Or.inl rfl) rfl hr dX8_readBracket_8
set_option maxHeartbeats 4000000 in
theorem cg_fM_gRead {l : Launch} {D : XD} : ∀ d : Nat, (∀ {v0 : Nat} {h0 : AH} {a : Int32} {h1 : AH}, (fM_gRead d).1 v0 h0 = some (a, h1) → XCt l D yX8_readOr (ws_ yX8_readOr cX8_readOr 2 (some .boolean)) (4 + d) (89 + d * 23) [xR v0] h0 (.inl (some (xI a))) h1) ∧ (∀ {v0 : Nat} {h0 : AH} {a : Int32} {h1 : AH}, (fM_gRead d).2.1 v0 h0 = some (a, h1) → XCt l D yX8_readAnd (ws_ yX8_readAnd cX8_readAnd 2 (some .boolean)) (4 + d) (89 + d * 23) [xR v0] h0 (.inl (some (xI a))) h1) ∧ (∀ {v0 : Nat} {h0 : AH} {a : Int32} {h1 : AH}, (fM_gRead d).2.2.1 v0 h0 = some (a, h1) → XCt l D yX8_readOne (ws_ yX8_readOne cX8_readOne 4 (some .boolean)) (4 + d) (89 + d * 23) [xR v0] h0 (.inl (some (xI a))) h1) ∧ (∀ {v0 : Nat} {h0 : AH} {a : Int32} {h1 : AH}, (fM_gRead d).2.2.2.1 v0 h0 = some (a, h1) → XCt l D yX8_readNot (ws_ yX8_readNot cX8_readNot 1 (some .boolean)) (4 + d) (89 + d * 23) [xR v0] h0 (.inl (some (xI a))) h1) ∧ (∀ {v0 : Nat} {h0 : AH} {a : Int32} {h1 : AH}, (fM_gRead d).2.2.2.2 v0 h0 = some (a, h1) → XCt l D yX8_readBracket (ws_ yX8_readBracket cX8_readBracket 1 (some .boolean)) (4 + d) (89 + d * 23) [xR v0] h0 (.inl (some (xI a))) h1) := by
  intro d
  induction d with
  | zero =>
    exact ⟨(by intro v0 h0 a h1 hF; exact absurd hF (by simp [fM_gRead])), (by intro v0 h0 a h1 hF; exact absurd hF (by simp [fM_gRead])), (by intro v0 h0 a h1 hF; exact absurd hF (by simp [fM_gRead])), (by intro v0 h0 a h1 hF; exact absurd hF (by simp [fM_gRead])), (by intro v0 h0 a h1 hF; exact absurd hF (by simp [fM_gRead]))⟩
  | succ d ih =>
    obtain ⟨i0, i1, i2, i3, i4⟩ := ih
    exact ⟨cs_X8_readOr i0 i1 i2 i3 i4, cs_X8_readAnd i0 i1 i2 i3 i4, cs_X8_readOne i0 i1 i2 i3 i4, cs_X8_readNot i0 i1 i2 i3 i4, cs_X8_readBracket i0 i1 i2 i3 i4⟩
set_option maxHeartbeats 4000000 in
theorem ct_X8_readOr {l : Launch} {D : XD} : ∀ {v0 : Nat} {h0 : AH} {a : Int32} {h1 : AH}, fM_readOr v0 h0 = some (a, h1) → XCt l D yX8_readOr (ws_ yX8_readOr cX8_readOr 2 (some .boolean)) 49 1124 [xR v0] h0 (.inl (some (xI a))) h1 := (cg_fM_gRead 45).1
set_option maxHeartbeats 4000000 in
theorem ct_X8_readAnd {l : Launch} {D : XD} : ∀ {v0 : Nat} {h0 : AH} {a : Int32} {h1 : AH}, fM_readAnd v0 h0 = some (a, h1) → XCt l D yX8_readAnd (ws_ yX8_readAnd cX8_readAnd 2 (some .boolean)) 49 1124 [xR v0] h0 (.inl (some (xI a))) h1 := (cg_fM_gRead 45).2.1
set_option maxHeartbeats 4000000 in
theorem ct_X8_readOne {l : Launch} {D : XD} : ∀ {v0 : Nat} {h0 : AH} {a : Int32} {h1 : AH}, fM_readOne v0 h0 = some (a, h1) → XCt l D yX8_readOne (ws_ yX8_readOne cX8_readOne 4 (some .boolean)) 49 1124 [xR v0] h0 (.inl (some (xI a))) h1 := (cg_fM_gRead 45).2.2.1
set_option maxHeartbeats 4000000 in
theorem ct_X8_readNot {l : Launch} {D : XD} : ∀ {v0 : Nat} {h0 : AH} {a : Int32} {h1 : AH}, fM_readNot v0 h0 = some (a, h1) → XCt l D yX8_readNot (ws_ yX8_readNot cX8_readNot 1 (some .boolean)) 49 1124 [xR v0] h0 (.inl (some (xI a))) h1 := (cg_fM_gRead 45).2.2.2.1
set_option maxHeartbeats 4000000 in
theorem ct_X8_readBracket {l : Launch} {D : XD} : ∀ {v0 : Nat} {h0 : AH} {a : Int32} {h1 : AH}, fM_readBracket v0 h0 = some (a, h1) → XCt l D yX8_readBracket (ws_ yX8_readBracket cX8_readBracket 1 (some .boolean)) 49 1124 [xR v0] h0 (.inl (some (xI a))) h1 := (cg_fM_gRead 45).2.2.2.2
/-! FaceCoinsModel.sentence()I -/
noncomputable def fM_sentence_l77 (v0 : Nat) (v1 : Int32) (g : AH) : Option ((Nat × Int32 × AH) ⊕ (Nat × AH)) :=
  if (240 : Int32) ≤ v1 then (
    some (Sum.inr (v0, g)))
  else (
    (xgr g v0 [14] 14).bind fun x13 =>
    (xgr g v0 [14] 42).bind fun x14 =>
    (xai g x14 100 v1).bind fun x15 =>
    (xsi g x13 ((7900 : Int32) + v1) x15).bind fun g16 =>
    some (Sum.inl (v0, (v1 + 1), g16)))
noncomputable def fM_sentence_a106 (v0 : Nat) (g : AH) : Option (Int32 × AH) :=
  (xgi g v0 [14] 44).bind fun x17 =>
  some ((x17, g))
noncomputable def fM_sentence (v0 : Nat) (h0 : AH) : Option (Int32 × AH) :=
  xb2 (xck h0 v0 14 (fM_begin v0 (200 : Int32) h0)) fun x_ g1 =>
  (xpi g1 v0 [14] 43 (0 : Int32)).bind fun g2 =>
  (xpi g2 v0 [14] 44 (0 : Int32)).bind fun g3 =>
  (xpi g3 v0 [14] 45 (0 : Int32)).bind fun g4 =>
  xb2 (xck g4 v0 14 (fM_readOr v0 g4)) fun x5 g6 =>
  if x5 = 0 then (
    (xgi g6 v0 [14] 11).bind fun x21 =>
    some (((((-1) : Int32) - x21), g6)))
  else (
    (xgi g6 v0 [14] 7).bind fun x7 =>
    if x7 = 0 then (
      (xgr g6 v0 [14] 14).bind fun x8 =>
      (xsi g6 x8 (116 : Int32) (1 : Int32)).bind fun g9 =>
      (xgr g9 v0 [14] 14).bind fun x10 =>
      (xgi g9 v0 [14] 46).bind fun x11 =>
      (xsi g9 x10 (117 : Int32) x11).bind fun g12 =>
      (xloop (fun s9 : (Nat × Int32 × AH) => fM_sentence_l77 s9.1 s9.2.1 s9.2.2) (v0, (0 : Int32), g12)).bind (fun r9 : (Nat × AH) => fM_sentence_a106 r9.1 r9.2))
    else (
      xb2 (xck g6 v0 14 (fM_bad v0 (1 : Int32) g6)) fun x18 g19 =>
      (xgi g19 v0 [14] 11).bind fun x20 =>
      some (((((-1) : Int32) - x20), g19))))
set_option maxHeartbeats 4000000 in
theorem ct_X8_sentence {l : Launch} {D : XD} {v0 : Nat} {h0 : AH} {a : Int32} {h1 : AH} (hF : fM_sentence v0 h0 = some (a, h1)) : XCt l D yX8_sentence (ws_ yX8_sentence cX8_sentence 2 (some .int)) 50 1145 [xR v0] h0 (.inl (some (xI a))) h1 := by
  refine x_method (by decide) (Nat.le_of_ble_eq_true rfl) fun p e R s m args below meth c K hr hnm hex => ?_
  have K : XO p R s m args meth c D 2 h0 cX8_sentence "FaceCoinsModel" 50 1145 := K
  generalize hQ : XMQ below _ _ _ _ _ _ = Q
  have hL77 : ∀ (C1 : ((Nat × Int32 × AH) ⊕ (Nat × AH)) → Prop) (hj1 : ∀ s9 : (Nat × Int32 × AH), C1 (Sum.inl s9) → XG p l e R s m args below meth c D 2 h0 Q 77 [(0, xR s9.1), (1, xI s9.2.1)] [] s9.2.2) (he1 : ∀ r9 : (Nat × AH), C1 (Sum.inr r9) → XG p l e R s m args below meth c D 2 h0 Q 106 [(0, xR r9.1)] [] r9.2) (v0 : Nat) (v1 : Int32) (g : AH), XF p l e R s m args below meth c D 2 h0 Q 77 [(0, xR v0), (1, xI v1)] [] g (fM_sentence_l77 v0 v1 g) C1 := by
    intro C1 hj1 he1
    intro v0 v1 g
    unfold fM_sentence_l77
    refine x_iload_n (pc' := 78) K 1 dX8_sentence_77 rfl rfl ?_
    refine x_sipush (pc' := 81) (v := 240) K dX8_sentence_78 rfl (by decide) ?_
    refine x_icmp_ge (tgt := 106) (pc' := 84) K dX8_sentence_81 rfl (by decide) ?_ ?_
    · refine x_sub (lv' := [(0, xR v0)]) [0] rfl ?_
      exact x_jump (fun hz => he1 (v0, g) hz)
    · refine x_aload_n (pc' := 85) K 0 dX8_sentence_84 rfl rfl ?_
      refine x_getr (pc' := 88) K fg_14_14 (Or.inl (K.2.2.2.2.1 _ q1326)) (fun _ h9 => h9) dX8_sentence_85 rfl (fun x13 => ?_)
      refine x_sipush (pc' := 91) (v := 7900) K dX8_sentence_88 rfl (by decide) ?_
      refine x_iload_n (pc' := 92) K 1 dX8_sentence_91 rfl rfl ?_
      refine x_iadd (pc' := 93) K dX8_sentence_92 rfl ?_
      refine x_aload_n (pc' := 94) K 0 dX8_sentence_93 rfl rfl ?_
      refine x_getr (pc' := 97) K fg_14_42 (Or.inl (K.2.2.2.2.1 _ q1354)) (fun _ h9 => h9) dX8_sentence_94 rfl (fun x14 => ?_)
      refine x_iload_n (pc' := 98) K 1 dX8_sentence_97 rfl rfl ?_
      refine x_iald (pc' := 99) K dX8_sentence_98 rfl (fun x15 => ?_)
      refine x_iast (pc' := 100) K dX8_sentence_99 rfl (fun g16 => ?_)
      refine x_iinc (pc' := 103) (y := 1) (lv' := [(1, xI (v1 + 1)), (0, xR v0)]) K 1 dX8_sentence_100 rfl rfl (by decide) (by decide) rfl ?_
      refine x_goto (tgt := 77) K dX8_sentence_103 (by decide) ?_
      refine x_sub (lv' := [(0, xR v0), (1, xI (v1 + 1))]) [1, 0] rfl ?_
      exact x_jump (fun hz => hj1 (v0, (v1 + 1), g16) hz)
  have hA106_0 : ∀ (v0 : Nat) (g : AH), XF p l e R s m args below meth c D 2 h0 Q 106 [(0, xR v0)] [] g (fM_sentence_a106 v0 g) (XEnd below s D h0 (fun v => .inl (some (xI v))) Q) := by
    intro v0 g
    unfold fM_sentence_a106
    refine x_aload_n (pc' := 107) K 0 dX8_sentence_106 rfl rfl ?_
    refine x_geti (pc' := 110) K fg_14_44 (Or.inl (K.2.2.2.2.1 _ q1356)) (fun _ h9 => h9) dX8_sentence_107 rfl (fun x17 => ?_)
    exact x_iret K rfl hr dX8_sentence_110
  refine (?_ : XF p l e R s m args below meth c D 2 h0 Q 0 [(0, xR v0)] [] h0 (fM_sentence v0 h0) (XEnd below s D h0 (fun v => .inl (some (xI v))) Q)) (a, h1) hF hQ.symm
  unfold fM_sentence
  refine x_aload_n (pc' := 1) K 0 dX8_sentence_0 rfl rfl ?_
  refine x_sipush (pc' := 4) (v := 200) K dX8_sentence_1 rfl (by decide) ?_
  refine x_cV (pc' := 7) (As := [xI (200 : Int32)]) (en := (fun _ => none)) (rest := []) K (fun a h1 hF => ct_X8_begin hF) rfl (by decide) q1475 q1477 qs30 q1478 q105 hy_X8_begin (Nat.le_of_ble_eq_true rfl) (Nat.le_of_ble_eq_true rfl) (Nat.le_of_ble_eq_true rfl) dX8_sentence_4 rfl (fun x_ g1 => ?_)
  refine x_aload_n (pc' := 8) K 0 dX8_sentence_7 rfl rfl ?_
  refine x_iconst (pc' := 9) (v := 0) K dX8_sentence_8 rfl rfl ?_
  refine x_puti (pc' := 12) K fp_14_43 (Or.inl (K.2.2.2.2.1 _ q1355)) (fun _ h9 => h9) (Or.inl rfl) dX8_sentence_9 rfl (fun g2 => ?_)
  refine x_aload_n (pc' := 13) K 0 dX8_sentence_12 rfl rfl ?_
  refine x_iconst (pc' := 14) (v := 0) K dX8_sentence_13 rfl rfl ?_
  refine x_puti (pc' := 17) K fp_14_44 (Or.inl (K.2.2.2.2.1 _ q1356)) (fun _ h9 => h9) (Or.inl rfl) dX8_sentence_14 rfl (fun g3 => ?_)
  refine x_aload_n (pc' := 18) K 0 dX8_sentence_17 rfl rfl ?_
  refine x_iconst (pc' := 19) (v := 0) K dX8_sentence_18 rfl rfl ?_
  refine x_puti (pc' := 22) K fp_14_45 (Or.inl (K.2.2.2.2.1 _ q1357)) (fun _ h9 => h9) (Or.inl rfl) dX8_sentence_19 rfl (fun g4 => ?_)
  refine x_aload_n (pc' := 23) K 0 dX8_sentence_22 rfl rfl ?_
  refine x_cV (pc' := 26) (As := []) (en := (fun v => some (xI v))) (rest := []) K (fun a h1 hF => ct_X8_readOr hF) rfl (by decide) q1841 q1843 qs85 q1844 q105 hy_X8_readOr (Nat.le_of_ble_eq_true rfl) (Nat.le_of_ble_eq_true rfl) (Nat.le_of_ble_eq_true rfl) dX8_sentence_23 rfl (fun x5 g6 => ?_)
  refine x_if_ne (tgt := 36) (pc' := 29) K dX8_sentence_26 rfl (by decide) ?_ ?_
  · refine x_aload_n (pc' := 37) K 0 dX8_sentence_36 rfl rfl ?_
    refine x_geti (pc' := 40) K fg_14_7 (Or.inl (K.2.2.2.2.1 _ q1319)) (fun _ h9 => h9) dX8_sentence_37 rfl (fun x7 => ?_)
    refine x_if_eq (tgt := 56) (pc' := 43) K dX8_sentence_40 rfl (by decide) ?_ ?_
    · refine x_aload_n (pc' := 57) K 0 dX8_sentence_56 rfl rfl ?_
      refine x_getr (pc' := 60) K fg_14_14 (Or.inl (K.2.2.2.2.1 _ q1326)) (fun _ h9 => h9) dX8_sentence_57 rfl (fun x8 => ?_)
      refine x_bipush (pc' := 62) (v := 116) K dX8_sentence_60 rfl (by decide) ?_
      refine x_iconst (pc' := 63) (v := 1) K dX8_sentence_62 rfl rfl ?_
      refine x_iast (pc' := 64) K dX8_sentence_63 rfl (fun g9 => ?_)
      refine x_aload_n (pc' := 65) K 0 dX8_sentence_64 rfl rfl ?_
      refine x_getr (pc' := 68) K fg_14_14 (Or.inl (K.2.2.2.2.1 _ q1326)) (fun _ h9 => h9) dX8_sentence_65 rfl (fun x10 => ?_)
      refine x_bipush (pc' := 70) (v := 117) K dX8_sentence_68 rfl (by decide) ?_
      refine x_aload_n (pc' := 71) K 0 dX8_sentence_70 rfl rfl ?_
      refine x_geti (pc' := 74) K fg_14_46 (Or.inl (K.2.2.2.2.1 _ q1358)) (fun _ h9 => h9) dX8_sentence_71 rfl (fun x11 => ?_)
      refine x_iast (pc' := 75) K dX8_sentence_74 rfl (fun g12 => ?_)
      refine x_iconst (pc' := 76) (v := 0) K dX8_sentence_75 rfl rfl ?_
      refine x_istore_n (pc' := 77) (lv' := [(1, xI (0 : Int32)), (0, xR v0)]) K dX8_sentence_76 rfl (by decide) rfl ?_
      refine x_sub (lv' := [(0, xR v0), (1, xI (0 : Int32))]) [1, 0] rfl ?_
      exact x_loop (pl := (fun s9 : (Nat × Int32 × AH) => [(0, xR s9.1), (1, xI s9.2.1)])) (ph := (fun s9 : (Nat × Int32 × AH) => s9.2.2)) (fun r9 : (Nat × AH) => XG p l e R s m args below meth c D 2 h0 Q 106 [(0, xR r9.1)] [] r9.2) (fun s9 => hL77 _ (fun _ hz => hz) (fun _ hz => hz) s9.1 s9.2.1 s9.2.2) (fun r9 x hx hc => hA106_0 r9.1 r9.2 x hx hc) (v0, (0 : Int32), g12)
    · refine x_aload_n (pc' := 44) K 0 dX8_sentence_43 rfl rfl ?_
      refine x_iconst (pc' := 45) (v := 1) K dX8_sentence_44 rfl rfl ?_
      refine x_cV (pc' := 48) (As := [xI (1 : Int32)]) (en := (fun v => some (xI v))) (rest := []) K (fun a h1 hF => ct_X8_bad hF) rfl (by decide) q1528 q1530 qs39 q1531 q105 hy_X8_bad (Nat.le_of_ble_eq_true rfl) (Nat.le_of_ble_eq_true rfl) (Nat.le_of_ble_eq_true rfl) dX8_sentence_45 rfl (fun x18 g19 => ?_)
      refine x_pop (pc' := 49) K dX8_sentence_48 rfl rfl ?_
      refine x_iconst (pc' := 50) (v := (-1)) K dX8_sentence_49 rfl rfl ?_
      refine x_aload_n (pc' := 51) K 0 dX8_sentence_50 rfl rfl ?_
      refine x_geti (pc' := 54) K fg_14_11 (Or.inl (K.2.2.2.2.1 _ q1323)) (fun _ h9 => h9) dX8_sentence_51 rfl (fun x20 => ?_)
      refine x_isub (pc' := 55) K dX8_sentence_54 rfl ?_
      exact x_iret K rfl hr dX8_sentence_55
  · refine x_iconst (pc' := 30) (v := (-1)) K dX8_sentence_29 rfl rfl ?_
    refine x_aload_n (pc' := 31) K 0 dX8_sentence_30 rfl rfl ?_
    refine x_geti (pc' := 34) K fg_14_11 (Or.inl (K.2.2.2.2.1 _ q1323)) (fun _ h9 => h9) dX8_sentence_31 rfl (fun x21 => ?_)
    refine x_isub (pc' := 35) K dX8_sentence_34 rfl ?_
    exact x_iret K rfl hr dX8_sentence_35
/-! FaceCoinsModel.shows(II)Z -/
noncomputable def fM_shows_l2 (v0 : Nat) (v1 : Int32) (v2 : Int32) (v3 : Int32) (h0 : AH) : Option ((Nat × Int32 × Int32 × Int32) ⊕ (Unit ⊕ Int32)) :=
  (xck h0 v0 14 (fM_ofCoin v0 v1 (3 : Int32) h0)).bind fun x1 =>
  if x1 ≤ v3 then (
    some (Sum.inr (Sum.inl ())))
  else (
    (xck h0 v0 14 (fM_ofCoin v0 v1 ((4 : Int32) + ((3 : Int32) * v3)) h0)).bind fun x2 =>
    if x2 = v2 then (
      some (Sum.inr (Sum.inr ((1 : Int32)))))
    else (
      some (Sum.inl (v0, v1, v2, (v3 + 1)))))
noncomputable def fM_shows_a34  (h0 : AH) : Option Int32 :=
  some ((0 : Int32))
noncomputable def fM_shows (v0 : Nat) (v1 : Int32) (v2 : Int32) (h0 : AH) : Option Int32 :=
  (xloop (fun s9 : (Nat × Int32 × Int32 × Int32) => fM_shows_l2 s9.1 s9.2.1 s9.2.2.1 s9.2.2.2 h0) (v0, v1, v2, (0 : Int32))).bind (Sum.elim (fun r9 : Unit => fM_shows_a34 h0) some)
set_option maxHeartbeats 4000000 in
theorem ct_X8_shows {l : Launch} {D : XD} {v0 : Nat} {v1 : Int32} {v2 : Int32} {h0 : AH} {a : Int32} (hF : fM_shows v0 v1 v2 h0 = some a) : XCt l D yX8_shows (ws_ yX8_shows cX8_shows 4 (some .boolean)) 1 22 [xR v0, xI v1, xI v2] h0 (.inl (some (xI a))) h0 := by
  refine x_method (by decide) (Nat.le_of_ble_eq_true rfl) fun p e R s m args below meth c K hr hnm hex => ?_
  have K : XO p R s m args meth c D 4 h0 cX8_shows "FaceCoinsModel" 1 22 := K
  generalize hQ : XMQ below _ _ _ _ _ _ = Q
  have hL2 : ∀ (C1 : ((Nat × Int32 × Int32 × Int32) ⊕ (Unit ⊕ Int32)) → Prop) (hj1 : ∀ s9 : (Nat × Int32 × Int32 × Int32), C1 (Sum.inl s9) → XG p l e R s m args below meth c D 4 h0 Q 2 [(0, xR s9.1), (1, xI s9.2.1), (2, xI s9.2.2.1), (3, xI s9.2.2.2)] [] h0) (he1 : ∀ r9 : Unit, C1 (Sum.inr (Sum.inl r9)) → XG p l e R s m args below meth c D 4 h0 Q 34 [] [] h0) (hd1 : ∀ y9 : Int32, C1 (Sum.inr (Sum.inr y9)) → (fun z => XEnd below s D h0 (fun v => .inl (some (xI v))) Q (z, h0)) y9) (v0 : Nat) (v1 : Int32) (v2 : Int32) (v3 : Int32), XF p l e R s m args below meth c D 4 h0 Q 2 [(0, xR v0), (1, xI v1), (2, xI v2), (3, xI v3)] [] h0 (fM_shows_l2 v0 v1 v2 v3 h0) C1 := by
    intro C1 hj1 he1 hd1
    intro v0 v1 v2 v3
    unfold fM_shows_l2
    refine x_iload_n (pc' := 3) K 3 dX8_shows_2 rfl rfl ?_
    refine x_aload_n (pc' := 4) K 0 dX8_shows_3 rfl rfl ?_
    refine x_iload_n (pc' := 5) K 1 dX8_shows_4 rfl rfl ?_
    refine x_iconst (pc' := 6) (v := 3) K dX8_shows_5 rfl rfl ?_
    refine x_cVO (pc' := 9) (As := [xI v1, xI (3 : Int32)]) (en := (fun v => some (xI v))) (rest := [xI v3]) K (fun a hF => ct_X8_ofCoin hF) rfl (by decide) q1610 q1612 qs56 q1613 q105 hy_X8_ofCoin (Nat.le_of_ble_eq_true rfl) (Nat.le_of_ble_eq_true rfl) (Nat.le_of_ble_eq_true rfl) dX8_shows_6 rfl (fun x1 => ?_)
    refine x_icmp_ge (tgt := 34) (pc' := 12) K dX8_shows_9 rfl (by decide) ?_ ?_
    · refine x_sub (lv' := []) [] rfl ?_
      exact x_jump (fun hz => he1 () hz)
    · refine x_aload_n (pc' := 13) K 0 dX8_shows_12 rfl rfl ?_
      refine x_iload_n (pc' := 14) K 1 dX8_shows_13 rfl rfl ?_
      refine x_iconst (pc' := 15) (v := 4) K dX8_shows_14 rfl rfl ?_
      refine x_iconst (pc' := 16) (v := 3) K dX8_shows_15 rfl rfl ?_
      refine x_iload_n (pc' := 17) K 3 dX8_shows_16 rfl rfl ?_
      refine x_imul (pc' := 18) K dX8_shows_17 rfl ?_
      refine x_iadd (pc' := 19) K dX8_shows_18 rfl ?_
      refine x_cVO (pc' := 22) (As := [xI v1, xI ((4 : Int32) + ((3 : Int32) * v3))]) (en := (fun v => some (xI v))) (rest := []) K (fun a hF => ct_X8_ofCoin hF) rfl (by decide) q1610 q1612 qs56 q1613 q105 hy_X8_ofCoin (Nat.le_of_ble_eq_true rfl) (Nat.le_of_ble_eq_true rfl) (Nat.le_of_ble_eq_true rfl) dX8_shows_19 rfl (fun x2 => ?_)
      refine x_iload_n (pc' := 23) K 2 dX8_shows_22 rfl rfl ?_
      refine x_icmp_ne (tgt := 28) (pc' := 26) K dX8_shows_23 rfl (by decide) ?_ ?_
      · refine x_iinc (pc' := 31) (y := 1) (lv' := [(3, xI (v3 + 1)), (0, xR v0), (1, xI v1), (2, xI v2)]) K 3 dX8_shows_28 rfl rfl (by decide) (by decide) rfl ?_
        refine x_goto (tgt := 2) K dX8_shows_31 (by decide) ?_
        refine x_sub (lv' := [(0, xR v0), (1, xI v1), (2, xI v2), (3, xI (v3 + 1))]) [1, 2, 3, 0] rfl ?_
        exact x_jump (fun hz => hj1 (v0, v1, v2, (v3 + 1)) hz)
      · refine x_iconst (pc' := 27) (v := 1) K dX8_shows_26 rfl rfl ?_
        refine x_g (fun z => Sum.inr (Sum.inr z)) (x_C (C8 := (fun z => XEnd below s D h0 (fun v => .inl (some (xI v))) Q (z, h0))) (fun z hz => hd1 z hz) ?_)
        exact x_ro (C9 := XEnd below s D h0 (fun v => .inl (some (xI v))) Q) (x_zret K (Or.inr rfl) rfl hr dX8_shows_27)
  have hA34_0 : XF p l e R s m args below meth c D 4 h0 Q 34 [] [] h0 (fM_shows_a34 h0) (fun z => XEnd below s D h0 (fun v => .inl (some (xI v))) Q (z, h0)) := by
    unfold fM_shows_a34
    refine x_iconst (pc' := 35) (v := 0) K dX8_shows_34 rfl rfl ?_
    exact x_ro (C9 := XEnd below s D h0 (fun v => .inl (some (xI v))) Q) (x_zret K (Or.inl rfl) rfl hr dX8_shows_35)
  refine (?_ : XF p l e R s m args below meth c D 4 h0 Q 0 [(0, xR v0), (1, xI v1), (2, xI v2)] [] h0 (fM_shows v0 v1 v2 h0) (fun z => XEnd below s D h0 (fun v => .inl (some (xI v))) Q (z, h0))) a hF hQ.symm
  unfold fM_shows
  refine x_iconst (pc' := 1) (v := 0) K dX8_shows_0 rfl rfl ?_
  refine x_istore_n (pc' := 2) (lv' := [(3, xI (0 : Int32)), (0, xR v0), (1, xI v1), (2, xI v2)]) K dX8_shows_1 rfl (by decide) rfl ?_
  refine x_sub (lv' := [(0, xR v0), (1, xI v1), (2, xI v2), (3, xI (0 : Int32))]) [1, 2, 3, 0] rfl ?_
  exact x_loop (pl := (fun s9 : (Nat × Int32 × Int32 × Int32) => [(0, xR s9.1), (1, xI s9.2.1), (2, xI s9.2.2.1), (3, xI s9.2.2.2)])) (ph := (fun s9 : (Nat × Int32 × Int32 × Int32) => h0)) (Sum.elim (fun r9 : Unit => XG p l e R s m args below meth c D 4 h0 Q 34 [] [] h0) (fun z => XEnd below s D h0 (fun v => .inl (some (xI v))) Q (z, h0))) (fun s9 => hL2 _ (fun _ hz => hz) (fun _ hz => hz) (fun _ hz => hz) s9.1 s9.2.1 s9.2.2.1 s9.2.2.2) (x_ex2 (fun r9 x hx hc => hA34_0  x hx hc)) (v0, v1, v2, (0 : Int32))
/-! FaceCoinsModel.holds(II)Z -/
noncomputable def fM_holds_b259 (rc : ((Nat → Int32 → Int32 → AH → Option Int32))) (v0 : Nat) (v3 : Int32) (v5 : Int32) (t0 : Nat) (t1 : Int32) (t2 : Int32) (h0 : AH) : Option Int32 :=
  (xck h0 t0 14 (fM_ofCoin t0 t1 t2 h0)).bind fun x18 =>
  (xgr h0 v0 [14] 14).bind fun x19 =>
  (xai h0 x19 100 (v3 + (3 : Int32))).bind fun x20 =>
  if x20 = (60 : Int32) then (
    if v5 ≤ x18 then (
      some ((0 : Int32)))
    else (
      some ((1 : Int32))))
  else (
    (xgr h0 v0 [14] 14).bind fun x21 =>
    (xai h0 x21 100 (v3 + (3 : Int32))).bind fun x22 =>
    if x22 = (61 : Int32) then (
      if x18 = v5 then (
        some ((1 : Int32)))
      else (
        some ((0 : Int32))))
    else (
      if x18 ≤ v5 then (
        some ((0 : Int32)))
      else (
        some ((1 : Int32)))))
noncomputable def fM_holds_R (rc : ((Nat → Int32 → Int32 → AH → Option Int32))) (v0 : Nat) (v1 : Int32) (v2 : Int32) (h0 : AH) : Option Int32 :=
  (xgr h0 v0 [14] 14).bind fun x1 =>
  (xai h0 x1 100 (((7900 : Int32) + ((4 : Int32) * v1)) + (1 : Int32))).bind fun x2 =>
  (xgr h0 v0 [14] 14).bind fun x3 =>
  (xai h0 x3 100 (((7900 : Int32) + ((4 : Int32) * v1)) + (2 : Int32))).bind fun x4 =>
  (xgr h0 v0 [14] 14).bind fun x5 =>
  (xai h0 x5 100 ((7900 : Int32) + ((4 : Int32) * v1))).bind fun x6 =>
  if x6 = 1 then (
    (xck h0 v0 14 (rc v0 x2 v2 h0)).bind fun x7 =>
    if x7 = 0 then (
      some ((1 : Int32)))
    else (
      some ((0 : Int32))))
  else (
  if x6 = 2 then (
    (xck h0 v0 14 (rc v0 x2 v2 h0)).bind fun x8 =>
    if x8 = 0 then (
      some ((0 : Int32)))
    else (
      (xck h0 v0 14 (rc v0 x4 v2 h0)).bind fun x9 =>
      if x9 = 0 then (
        some ((0 : Int32)))
      else (
        some ((1 : Int32)))))
  else (
  if x6 = 3 then (
    (xck h0 v0 14 (rc v0 x2 v2 h0)).bind fun x10 =>
    if x10 = 0 then (
      (xck h0 v0 14 (rc v0 x4 v2 h0)).bind fun x11 =>
      if x11 = 0 then (
        some ((0 : Int32)))
      else (
        some ((1 : Int32))))
    else (
      some ((1 : Int32))))
  else (
  if x6 = 4 then (
    (xck h0 v0 14 (fM_showsFalse v0 v2 h0)).bind fun x12 =>
    if x12 ≤ 0 then (
      some ((0 : Int32)))
    else (
      some ((1 : Int32))))
  else (
  if x6 = 62 then (
    (xck h0 v0 14 (fM_topOf v0 v2 h0)).bind fun x13 =>
    if x13 = x2 then (
      some ((1 : Int32)))
    else (
      some ((0 : Int32))))
  else (
  if x6 = 63 then (
    (xck h0 v0 14 (fM_shows v0 v2 x2 h0)).bind fun x14 =>
    if x14 = 0 ∨ x14 = 1 then (
      some (x14))
    else none)
  else (
  if x6 = 64 then (
    (xck h0 v0 14 (fM_ofCoin v0 v2 (1 : Int32) h0)).bind fun x15 =>
    if x15 = x2 then (
      some ((1 : Int32)))
    else (
      some ((0 : Int32))))
  else (
    (xgr h0 v0 [14] 14).bind fun x16 =>
    (xai h0 x16 100 ((7900 : Int32) + ((4 : Int32) * v1))).bind fun x17 =>
    if (x17 - (50 : Int32)) = (16 : Int32) then (
      fM_holds_b259 rc v0 ((7900 : Int32) + ((4 : Int32) * v1)) x4 v0 v2 (0 : Int32) h0)
    else (
      if (x17 - (50 : Int32)) = (17 : Int32) then (
        fM_holds_b259 rc v0 ((7900 : Int32) + ((4 : Int32) * v1)) x4 v0 v2 (3 : Int32) h0)
      else (
        fM_holds_b259 rc v0 ((7900 : Int32) + ((4 : Int32) * v1)) x4 v0 v2 (2 : Int32) h0)))))))))
noncomputable def fM_gHolds : Nat → ((Nat → Int32 → Int32 → AH → Option Int32))
  | 0 => fun _ _ _ _ => none
  | d + 1 => fM_holds_R (fM_gHolds d)
noncomputable def fM_holds : Nat → Int32 → Int32 → AH → Option Int32 := (fM_gHolds 45)
set_option maxHeartbeats 4000000 in
theorem cs_X8_holds {l : Launch} {D : XD} {rc : ((Nat → Int32 → Int32 → AH → Option Int32))} {d : Nat} (ih0 : ∀ {v0 : Nat} {v1 : Int32} {v2 : Int32} {h0 : AH} {a : Int32}, rc v0 v1 v2 h0 = some a → XCt l D yX8_holds (ws_ yX8_holds cX8_holds 8 (some .boolean)) (3 + d) (67 + d * 27) [xR v0, xI v1, xI v2] h0 (.inl (some (xI a))) h0) : ∀ {v0 : Nat} {v1 : Int32} {v2 : Int32} {h0 : AH} {a : Int32}, fM_holds_R rc v0 v1 v2 h0 = some a → XCt l D yX8_holds (ws_ yX8_holds cX8_holds 8 (some .boolean)) (3 + (d + 1)) (67 + (d + 1) * 27) [xR v0, xI v1, xI v2] h0 (.inl (some (xI a))) h0 := by
  intro v0 v1 v2 h0 a hF
  refine x_method (by decide) (Nat.le_of_ble_eq_true rfl) fun p e R s m args below meth c K hr hnm hex => ?_
  have K : XO p R s m args meth c D 8 h0 cX8_holds "FaceCoinsModel" (3 + (d + 1)) (67 + (d + 1) * 27) := K
  generalize hQ : XMQ below _ _ _ _ _ _ = Q
  have hB259 : ∀ (v0 : Nat) (v3 : Int32) (v5 : Int32) (t0 : Nat) (t1 : Int32) (t2 : Int32), XF p l e R s m args below meth c D 8 h0 Q 259 [(0, xR v0), (3, xI v3), (5, xI v5)] [xI t2, xI t1, xR t0] h0 (fM_holds_b259 rc v0 v3 v5 t0 t1 t2 h0) (fun z => XEnd below s D h0 (fun v => .inl (some (xI v))) Q (z, h0)) := by
    intro v0 v3 v5 t0 t1 t2
    unfold fM_holds_b259
    refine x_cVO (pc' := 262) (As := [xI t1, xI t2]) (en := (fun v => some (xI v))) (rest := []) K (fun a hF => ct_X8_ofCoin hF) rfl (by decide) q1610 q1612 qs56 q1613 q105 hy_X8_ofCoin (by omega) (by omega) (Nat.le_of_ble_eq_true rfl) dX8_holds_259 rfl (fun x18 => ?_)
    refine x_istore (pc' := 264) (lv' := [(7, xI x18), (0, xR v0), (3, xI v3), (5, xI v5)]) K dX8_holds_262 rfl (by decide) rfl ?_
    refine x_aload_n (pc' := 265) K 1 dX8_holds_264 rfl rfl ?_
    refine x_getr (pc' := 268) K fg_14_14 (Or.inl (K.2.2.2.2.1 _ q1326)) (fun _ h9 => h9) dX8_holds_265 rfl (fun x19 => ?_)
    refine x_iload_n (pc' := 269) K 2 dX8_holds_268 rfl rfl ?_
    refine x_iconst (pc' := 270) (v := 3) K dX8_holds_269 rfl rfl ?_
    refine x_iadd (pc' := 271) K dX8_holds_270 rfl ?_
    refine x_iald (pc' := 272) K dX8_holds_271 rfl (fun x20 => ?_)
    refine x_bipush (pc' := 274) (v := 60) K dX8_holds_272 rfl (by decide) ?_
    refine x_icmp_ne (tgt := 292) (pc' := 277) K dX8_holds_274 rfl (by decide) ?_ ?_
    · refine x_aload_n (pc' := 293) K 1 dX8_holds_292 rfl rfl ?_
      refine x_getr (pc' := 296) K fg_14_14 (Or.inl (K.2.2.2.2.1 _ q1326)) (fun _ h9 => h9) dX8_holds_293 rfl (fun x21 => ?_)
      refine x_iload_n (pc' := 297) K 2 dX8_holds_296 rfl rfl ?_
      refine x_iconst (pc' := 298) (v := 3) K dX8_holds_297 rfl rfl ?_
      refine x_iadd (pc' := 299) K dX8_holds_298 rfl ?_
      refine x_iald (pc' := 300) K dX8_holds_299 rfl (fun x22 => ?_)
      refine x_bipush (pc' := 302) (v := 61) K dX8_holds_300 rfl (by decide) ?_
      refine x_icmp_ne (tgt := 320) (pc' := 305) K dX8_holds_302 rfl (by decide) ?_ ?_
      · refine x_iload (pc' := 322) K 0 dX8_holds_320 rfl rfl ?_
        refine x_iload (pc' := 324) K 3 dX8_holds_322 rfl rfl ?_
        refine x_icmp_le (tgt := 331) (pc' := 327) K dX8_holds_324 rfl (by decide) ?_ ?_
        · refine x_iconst (pc' := 332) (v := 0) K dX8_holds_331 rfl rfl ?_
          exact x_ro (C9 := XEnd below s D h0 (fun v => .inl (some (xI v))) Q) (x_zret K (Or.inl rfl) rfl hr dX8_holds_332)
        · refine x_iconst (pc' := 328) (v := 1) K dX8_holds_327 rfl rfl ?_
          refine x_goto (tgt := 332) K dX8_holds_328 (by decide) ?_
          exact x_ro (C9 := XEnd below s D h0 (fun v => .inl (some (xI v))) Q) (x_zret K (Or.inr rfl) rfl hr dX8_holds_332)
      · refine x_iload (pc' := 307) K 0 dX8_holds_305 rfl rfl ?_
        refine x_iload (pc' := 309) K 3 dX8_holds_307 rfl rfl ?_
        refine x_icmp_ne (tgt := 316) (pc' := 312) K dX8_holds_309 rfl (by decide) ?_ ?_
        · refine x_iconst (pc' := 317) (v := 0) K dX8_holds_316 rfl rfl ?_
          refine x_goto (tgt := 332) K dX8_holds_317 (by decide) ?_
          exact x_ro (C9 := XEnd below s D h0 (fun v => .inl (some (xI v))) Q) (x_zret K (Or.inl rfl) rfl hr dX8_holds_332)
        · refine x_iconst (pc' := 313) (v := 1) K dX8_holds_312 rfl rfl ?_
          refine x_goto (tgt := 332) K dX8_holds_313 (by decide) ?_
          exact x_ro (C9 := XEnd below s D h0 (fun v => .inl (some (xI v))) Q) (x_zret K (Or.inr rfl) rfl hr dX8_holds_332)
    · refine x_iload (pc' := 279) K 0 dX8_holds_277 rfl rfl ?_
      refine x_iload (pc' := 281) K 3 dX8_holds_279 rfl rfl ?_
      refine x_icmp_ge (tgt := 288) (pc' := 284) K dX8_holds_281 rfl (by decide) ?_ ?_
      · refine x_iconst (pc' := 289) (v := 0) K dX8_holds_288 rfl rfl ?_
        refine x_goto (tgt := 332) K dX8_holds_289 (by decide) ?_
        exact x_ro (C9 := XEnd below s D h0 (fun v => .inl (some (xI v))) Q) (x_zret K (Or.inl rfl) rfl hr dX8_holds_332)
      · refine x_iconst (pc' := 285) (v := 1) K dX8_holds_284 rfl rfl ?_
        refine x_goto (tgt := 332) K dX8_holds_285 (by decide) ?_
        exact x_ro (C9 := XEnd below s D h0 (fun v => .inl (some (xI v))) Q) (x_zret K (Or.inr rfl) rfl hr dX8_holds_332)
  refine (?_ : XF p l e R s m args below meth c D 8 h0 Q 0 [(0, xR v0), (1, xI v1), (2, xI v2)] [] h0 (fM_holds_R rc v0 v1 v2 h0) (fun z => XEnd below s D h0 (fun v => .inl (some (xI v))) Q (z, h0))) a hF hQ.symm
  unfold fM_holds_R
  refine x_sipush (pc' := 3) (v := 7900) K dX8_holds_0 rfl (by decide) ?_
  refine x_iconst (pc' := 4) (v := 4) K dX8_holds_3 rfl rfl ?_
  refine x_iload_n (pc' := 5) K 1 dX8_holds_4 rfl rfl ?_
  refine x_imul (pc' := 6) K dX8_holds_5 rfl ?_
  refine x_iadd (pc' := 7) K dX8_holds_6 rfl ?_
  refine x_istore_n (pc' := 8) (lv' := [(3, xI ((7900 : Int32) + ((4 : Int32) * v1))), (0, xR v0), (1, xI v1), (2, xI v2)]) K dX8_holds_7 rfl (by decide) rfl ?_
  refine x_aload_n (pc' := 9) K 1 dX8_holds_8 rfl rfl ?_
  refine x_getr (pc' := 12) K fg_14_14 (Or.inl (K.2.2.2.2.1 _ q1326)) (fun _ h9 => h9) dX8_holds_9 rfl (fun x1 => ?_)
  refine x_iload_n (pc' := 13) K 0 dX8_holds_12 rfl rfl ?_
  refine x_iconst (pc' := 14) (v := 1) K dX8_holds_13 rfl rfl ?_
  refine x_iadd (pc' := 15) K dX8_holds_14 rfl ?_
  refine x_iald (pc' := 16) K dX8_holds_15 rfl (fun x2 => ?_)
  refine x_istore (pc' := 18) (lv' := [(4, xI x2), (3, xI ((7900 : Int32) + ((4 : Int32) * v1))), (0, xR v0), (1, xI v1), (2, xI v2)]) K dX8_holds_16 rfl (by decide) rfl ?_
  refine x_aload_n (pc' := 19) K 2 dX8_holds_18 rfl rfl ?_
  refine x_getr (pc' := 22) K fg_14_14 (Or.inl (K.2.2.2.2.1 _ q1326)) (fun _ h9 => h9) dX8_holds_19 rfl (fun x3 => ?_)
  refine x_iload_n (pc' := 23) K 1 dX8_holds_22 rfl rfl ?_
  refine x_iconst (pc' := 24) (v := 2) K dX8_holds_23 rfl rfl ?_
  refine x_iadd (pc' := 25) K dX8_holds_24 rfl ?_
  refine x_iald (pc' := 26) K dX8_holds_25 rfl (fun x4 => ?_)
  refine x_istore (pc' := 28) (lv' := [(5, xI x4), (4, xI x2), (3, xI ((7900 : Int32) + ((4 : Int32) * v1))), (0, xR v0), (1, xI v1), (2, xI v2)]) K dX8_holds_26 rfl (by decide) rfl ?_
  refine x_aload_n (pc' := 29) K 3 dX8_holds_28 rfl rfl ?_
  refine x_getr (pc' := 32) K fg_14_14 (Or.inl (K.2.2.2.2.1 _ q1326)) (fun _ h9 => h9) dX8_holds_29 rfl (fun x5 => ?_)
  refine x_iload_n (pc' := 33) K 2 dX8_holds_32 rfl rfl ?_
  refine x_iald (pc' := 34) K dX8_holds_33 rfl (fun x6 => ?_)
  refine x_lsw (tgt := 100) (off := 66) K 1 dX8_holds_34 (by decide) (by decide) (by decide) ?_ (fun q0 => ?_)
  · refine x_aload_n (pc' := 101) K 3 dX8_holds_100 rfl rfl ?_
    refine x_iload (pc' := 103) K 1 dX8_holds_101 rfl rfl ?_
    refine x_iload_n (pc' := 104) K 5 dX8_holds_103 rfl rfl ?_
    refine x_cVO (pc' := 107) (As := [xI x2, xI v2]) (en := (fun v => some (xI v))) (rest := []) K (fun a hF => ih0 hF) rfl (by decide) q1877 q1879 qs93 q1880 q105 hy_X8_holds (by omega) (by omega) (Nat.le_of_ble_eq_true rfl) dX8_holds_104 rfl (fun x7 => ?_)
    refine x_if_ne (tgt := 114) (pc' := 110) K dX8_holds_107 rfl (by decide) ?_ ?_
    · refine x_iconst (pc' := 115) (v := 0) K dX8_holds_114 rfl rfl ?_
      exact x_ro (C9 := XEnd below s D h0 (fun v => .inl (some (xI v))) Q) (x_zret K (Or.inl rfl) rfl hr dX8_holds_115)
    · refine x_iconst (pc' := 111) (v := 1) K dX8_holds_110 rfl rfl ?_
      refine x_goto (tgt := 115) K dX8_holds_111 (by decide) ?_
      exact x_ro (C9 := XEnd below s D h0 (fun v => .inl (some (xI v))) Q) (x_zret K (Or.inr rfl) rfl hr dX8_holds_115)
  refine x_lsw (tgt := 116) (off := 82) K 2 dX8_holds_34 (by decide) (by decide) (by decide) ?_ (fun q1 => ?_)
  · refine x_aload_n (pc' := 117) K 3 dX8_holds_116 rfl rfl ?_
    refine x_iload (pc' := 119) K 1 dX8_holds_117 rfl rfl ?_
    refine x_iload_n (pc' := 120) K 5 dX8_holds_119 rfl rfl ?_
    refine x_cVO (pc' := 123) (As := [xI x2, xI v2]) (en := (fun v => some (xI v))) (rest := []) K (fun a hF => ih0 hF) rfl (by decide) q1877 q1879 qs93 q1880 q105 hy_X8_holds (by omega) (by omega) (Nat.le_of_ble_eq_true rfl) dX8_holds_120 rfl (fun x8 => ?_)
    refine x_if_eq (tgt := 140) (pc' := 126) K dX8_holds_123 rfl (by decide) ?_ ?_
    · refine x_iconst (pc' := 141) (v := 0) K dX8_holds_140 rfl rfl ?_
      exact x_ro (C9 := XEnd below s D h0 (fun v => .inl (some (xI v))) Q) (x_zret K (Or.inl rfl) rfl hr dX8_holds_141)
    · refine x_aload_n (pc' := 127) K 3 dX8_holds_126 rfl rfl ?_
      refine x_iload (pc' := 129) K 0 dX8_holds_127 rfl rfl ?_
      refine x_iload_n (pc' := 130) K 5 dX8_holds_129 rfl rfl ?_
      refine x_cVO (pc' := 133) (As := [xI x4, xI v2]) (en := (fun v => some (xI v))) (rest := []) K (fun a hF => ih0 hF) rfl (by decide) q1877 q1879 qs93 q1880 q105 hy_X8_holds (by omega) (by omega) (Nat.le_of_ble_eq_true rfl) dX8_holds_130 rfl (fun x9 => ?_)
      refine x_if_eq (tgt := 140) (pc' := 136) K dX8_holds_133 rfl (by decide) ?_ ?_
      · refine x_iconst (pc' := 141) (v := 0) K dX8_holds_140 rfl rfl ?_
        exact x_ro (C9 := XEnd below s D h0 (fun v => .inl (some (xI v))) Q) (x_zret K (Or.inl rfl) rfl hr dX8_holds_141)
      · refine x_iconst (pc' := 137) (v := 1) K dX8_holds_136 rfl rfl ?_
        refine x_goto (tgt := 141) K dX8_holds_137 (by decide) ?_
        exact x_ro (C9 := XEnd below s D h0 (fun v => .inl (some (xI v))) Q) (x_zret K (Or.inr rfl) rfl hr dX8_holds_141)
  refine x_lsw (tgt := 142) (off := 108) K 3 dX8_holds_34 (by decide) (by decide) (by decide) ?_ (fun q2 => ?_)
  · refine x_aload_n (pc' := 143) K 3 dX8_holds_142 rfl rfl ?_
    refine x_iload (pc' := 145) K 1 dX8_holds_143 rfl rfl ?_
    refine x_iload_n (pc' := 146) K 5 dX8_holds_145 rfl rfl ?_
    refine x_cVO (pc' := 149) (As := [xI x2, xI v2]) (en := (fun v => some (xI v))) (rest := []) K (fun a hF => ih0 hF) rfl (by decide) q1877 q1879 qs93 q1880 q105 hy_X8_holds (by omega) (by omega) (Nat.le_of_ble_eq_true rfl) dX8_holds_146 rfl (fun x10 => ?_)
    refine x_if_ne (tgt := 162) (pc' := 152) K dX8_holds_149 rfl (by decide) ?_ ?_
    · refine x_iconst (pc' := 163) (v := 1) K dX8_holds_162 rfl rfl ?_
      refine x_goto (tgt := 167) K dX8_holds_163 (by decide) ?_
      exact x_ro (C9 := XEnd below s D h0 (fun v => .inl (some (xI v))) Q) (x_zret K (Or.inr rfl) rfl hr dX8_holds_167)
    · refine x_aload_n (pc' := 153) K 3 dX8_holds_152 rfl rfl ?_
      refine x_iload (pc' := 155) K 0 dX8_holds_153 rfl rfl ?_
      refine x_iload_n (pc' := 156) K 5 dX8_holds_155 rfl rfl ?_
      refine x_cVO (pc' := 159) (As := [xI x4, xI v2]) (en := (fun v => some (xI v))) (rest := []) K (fun a hF => ih0 hF) rfl (by decide) q1877 q1879 qs93 q1880 q105 hy_X8_holds (by omega) (by omega) (Nat.le_of_ble_eq_true rfl) dX8_holds_156 rfl (fun x11 => ?_)
      refine x_if_eq (tgt := 166) (pc' := 162) K dX8_holds_159 rfl (by decide) ?_ ?_
      · refine x_iconst (pc' := 167) (v := 0) K dX8_holds_166 rfl rfl ?_
        exact x_ro (C9 := XEnd below s D h0 (fun v => .inl (some (xI v))) Q) (x_zret K (Or.inl rfl) rfl hr dX8_holds_167)
      · refine x_iconst (pc' := 163) (v := 1) K dX8_holds_162 rfl rfl ?_
        refine x_goto (tgt := 167) K dX8_holds_163 (by decide) ?_
        exact x_ro (C9 := XEnd below s D h0 (fun v => .inl (some (xI v))) Q) (x_zret K (Or.inr rfl) rfl hr dX8_holds_167)
  refine x_lsw (tgt := 168) (off := 134) K 4 dX8_holds_34 (by decide) (by decide) (by decide) ?_ (fun q3 => ?_)
  · refine x_aload_n (pc' := 169) K 3 dX8_holds_168 rfl rfl ?_
    refine x_iload_n (pc' := 170) K 5 dX8_holds_169 rfl rfl ?_
    refine x_cVO (pc' := 173) (As := [xI v2]) (en := (fun v => some (xI v))) (rest := []) K (fun a hF => ct_X8_showsFalse hF) rfl (by decide) q1658 q1660 qs65 q1661 q105 hy_X8_showsFalse (by omega) (by omega) (Nat.le_of_ble_eq_true rfl) dX8_holds_170 rfl (fun x12 => ?_)
    refine x_if_le (tgt := 180) (pc' := 176) K dX8_holds_173 rfl (by decide) ?_ ?_
    · refine x_iconst (pc' := 181) (v := 0) K dX8_holds_180 rfl rfl ?_
      exact x_ro (C9 := XEnd below s D h0 (fun v => .inl (some (xI v))) Q) (x_zret K (Or.inl rfl) rfl hr dX8_holds_181)
    · refine x_iconst (pc' := 177) (v := 1) K dX8_holds_176 rfl rfl ?_
      refine x_goto (tgt := 181) K dX8_holds_177 (by decide) ?_
      exact x_ro (C9 := XEnd below s D h0 (fun v => .inl (some (xI v))) Q) (x_zret K (Or.inr rfl) rfl hr dX8_holds_181)
  refine x_lsw (tgt := 182) (off := 148) K 62 dX8_holds_34 (by decide) (by decide) (by decide) ?_ (fun q4 => ?_)
  · refine x_aload_n (pc' := 183) K 3 dX8_holds_182 rfl rfl ?_
    refine x_iload_n (pc' := 184) K 5 dX8_holds_183 rfl rfl ?_
    refine x_cVO (pc' := 187) (As := [xI v2]) (en := (fun v => some (xI v))) (rest := []) K (fun a hF => ct_X8_topOf hF) rfl (by decide) q1606 q1608 qs55 q1609 q105 hy_X8_topOf (by omega) (by omega) (Nat.le_of_ble_eq_true rfl) dX8_holds_184 rfl (fun x13 => ?_)
    refine x_iload (pc' := 189) K 1 dX8_holds_187 rfl rfl ?_
    refine x_icmp_ne (tgt := 196) (pc' := 192) K dX8_holds_189 rfl (by decide) ?_ ?_
    · refine x_iconst (pc' := 197) (v := 0) K dX8_holds_196 rfl rfl ?_
      exact x_ro (C9 := XEnd below s D h0 (fun v => .inl (some (xI v))) Q) (x_zret K (Or.inl rfl) rfl hr dX8_holds_197)
    · refine x_iconst (pc' := 193) (v := 1) K dX8_holds_192 rfl rfl ?_
      refine x_goto (tgt := 197) K dX8_holds_193 (by decide) ?_
      exact x_ro (C9 := XEnd below s D h0 (fun v => .inl (some (xI v))) Q) (x_zret K (Or.inr rfl) rfl hr dX8_holds_197)
  refine x_lsw (tgt := 198) (off := 164) K 63 dX8_holds_34 (by decide) (by decide) (by decide) ?_ (fun q5 => ?_)
  · refine x_aload_n (pc' := 199) K 3 dX8_holds_198 rfl rfl ?_
    refine x_iload_n (pc' := 200) K 5 dX8_holds_199 rfl rfl ?_
    refine x_iload (pc' := 202) K 1 dX8_holds_200 rfl rfl ?_
    refine x_cVO (pc' := 205) (As := [xI v2, xI x2]) (en := (fun v => some (xI v))) (rest := []) K (fun a hF => ct_X8_shows hF) rfl (by decide) q1881 q1883 qs94 q1884 q105 hy_X8_shows (by omega) (by omega) (Nat.le_of_ble_eq_true rfl) dX8_holds_202 rfl (fun x14 => ?_)
    refine x_check (fun qz => ?_)
    exact x_ro (C9 := XEnd below s D h0 (fun v => .inl (some (xI v))) Q) (x_zret K qz rfl hr dX8_holds_205)
  refine x_lsw (tgt := 206) (off := 172) K 64 dX8_holds_34 (by decide) (by decide) (by decide) ?_ (fun q6 => ?_)
  · refine x_aload_n (pc' := 207) K 3 dX8_holds_206 rfl rfl ?_
    refine x_iload_n (pc' := 208) K 5 dX8_holds_207 rfl rfl ?_
    refine x_iconst (pc' := 209) (v := 1) K dX8_holds_208 rfl rfl ?_
    refine x_cVO (pc' := 212) (As := [xI v2, xI (1 : Int32)]) (en := (fun v => some (xI v))) (rest := []) K (fun a hF => ct_X8_ofCoin hF) rfl (by decide) q1610 q1612 qs56 q1613 q105 hy_X8_ofCoin (by omega) (by omega) (Nat.le_of_ble_eq_true rfl) dX8_holds_209 rfl (fun x15 => ?_)
    refine x_iload (pc' := 214) K 1 dX8_holds_212 rfl rfl ?_
    refine x_icmp_ne (tgt := 221) (pc' := 217) K dX8_holds_214 rfl (by decide) ?_ ?_
    · refine x_iconst (pc' := 222) (v := 0) K dX8_holds_221 rfl rfl ?_
      exact x_ro (C9 := XEnd below s D h0 (fun v => .inl (some (xI v))) Q) (x_zret K (Or.inl rfl) rfl hr dX8_holds_222)
    · refine x_iconst (pc' := 218) (v := 1) K dX8_holds_217 rfl rfl ?_
      refine x_goto (tgt := 222) K dX8_holds_218 (by decide) ?_
      exact x_ro (C9 := XEnd below s D h0 (fun v => .inl (some (xI v))) Q) (x_zret K (Or.inr rfl) rfl hr dX8_holds_222)
  refine x_lsw0 (tgt := 223) K dX8_holds_34 (by decide) ((lsw_c (lsw_c (lsw_c (lsw_c (lsw_c (lsw_c (lsw_c lsw_n q6 rfl) q5 rfl) q4 rfl) q3 rfl) q2 rfl) q1 rfl) q0 rfl)) (by decide) ?_
  refine x_aload_n (pc' := 224) K 3 dX8_holds_223 rfl rfl ?_
  refine x_getr (pc' := 227) K fg_14_14 (Or.inl (K.2.2.2.2.1 _ q1326)) (fun _ h9 => h9) dX8_holds_224 rfl (fun x16 => ?_)
  refine x_iload_n (pc' := 228) K 2 dX8_holds_227 rfl rfl ?_
  refine x_iald (pc' := 229) K dX8_holds_228 rfl (fun x17 => ?_)
  refine x_bipush (pc' := 231) (v := 50) K dX8_holds_229 rfl (by decide) ?_
  refine x_isub (pc' := 232) K dX8_holds_231 rfl ?_
  refine x_istore (pc' := 234) (lv' := [(6, xI (x17 - (50 : Int32))), (5, xI x4), (4, xI x2), (3, xI ((7900 : Int32) + ((4 : Int32) * v1))), (0, xR v0), (1, xI v1), (2, xI v2)]) K dX8_holds_232 rfl (by decide) rfl ?_
  refine x_aload_n (pc' := 235) K 4 dX8_holds_234 rfl rfl ?_
  refine x_iload_n (pc' := 236) K 6 dX8_holds_235 rfl rfl ?_
  refine x_iload (pc' := 238) K 0 dX8_holds_236 rfl rfl ?_
  refine x_bipush (pc' := 240) (v := 16) K dX8_holds_238 rfl (by decide) ?_
  refine x_icmp_ne (tgt := 247) (pc' := 243) K dX8_holds_240 rfl (by decide) ?_ ?_
  · refine x_iload (pc' := 249) K 0 dX8_holds_247 rfl rfl ?_
    refine x_bipush (pc' := 251) (v := 17) K dX8_holds_249 rfl (by decide) ?_
    refine x_icmp_ne (tgt := 258) (pc' := 254) K dX8_holds_251 rfl (by decide) ?_ ?_
    · refine x_iconst (pc' := 259) (v := 2) K dX8_holds_258 rfl rfl ?_
      refine x_sub (lv' := [(0, xR v0), (3, xI ((7900 : Int32) + ((4 : Int32) * v1))), (5, xI x4)]) [4, 3, 1] rfl ?_
      exact hB259 _ _ _ _ _ _
    · refine x_iconst (pc' := 255) (v := 3) K dX8_holds_254 rfl rfl ?_
      refine x_goto (tgt := 259) K dX8_holds_255 (by decide) ?_
      refine x_sub (lv' := [(0, xR v0), (3, xI ((7900 : Int32) + ((4 : Int32) * v1))), (5, xI x4)]) [4, 3, 1] rfl ?_
      exact hB259 _ _ _ _ _ _
  · refine x_iconst (pc' := 244) (v := 0) K dX8_holds_243 rfl rfl ?_
    refine x_goto (tgt := 259) K dX8_holds_244 (by decide) ?_
    refine x_sub (lv' := [(0, xR v0), (3, xI ((7900 : Int32) + ((4 : Int32) * v1))), (5, xI x4)]) [4, 3, 1] rfl ?_
    exact hB259 _ _ _ _ _ _
set_option maxHeartbeats 4000000 in
theorem cg_fM_gHolds {l : Launch} {D : XD} : ∀ d : Nat, (∀ {v0 : Nat} {v1 : Int32} {v2 : Int32} {h0 : AH} {a : Int32}, (fM_gHolds d) v0 v1 v2 h0 = some a → XCt l D yX8_holds (ws_ yX8_holds cX8_holds 8 (some .boolean)) (3 + d) (67 + d * 27) [xR v0, xI v1, xI v2] h0 (.inl (some (xI a))) h0) := by
  intro d
  induction d with
  | zero =>
    intro v0 v1 v2 h0 a hF; exact absurd hF (by simp [fM_gHolds])
  | succ d ih =>
    exact cs_X8_holds ih
set_option maxHeartbeats 4000000 in
theorem ct_X8_holds {l : Launch} {D : XD} : ∀ {v0 : Nat} {v1 : Int32} {v2 : Int32} {h0 : AH} {a : Int32}, fM_holds v0 v1 v2 h0 = some a → XCt l D yX8_holds (ws_ yX8_holds cX8_holds 8 (some .boolean)) 48 1282 [xR v0, xI v1, xI v2] h0 (.inl (some (xI a))) h0 := (cg_fM_gHolds 45)
/-! FaceCoinsModel.said(I)I -/
noncomputable def fM_said_l25 (v0 : Nat) (v1 : Int32) (v2 : Int32) (v3 : Int32) (g : AH) : Option ((Nat × Int32 × Int32 × Int32) ⊕ ((Int32 × Int32) ⊕ (Int32 × AH))) :=
  (xck g v0 14 (fM_coins v0 g)).bind fun x5 =>
  if x5 ≤ v3 then (
    some (Sum.inr (Sum.inl (v1, v2))))
  else (
    (xgr g v0 [14] 14).bind fun x6 =>
    (xai g x6 100 (117 : Int32)).bind fun x7 =>
    (xck g v0 14 (fM_holds v0 x7 v3 g)).bind fun x8 =>
    if x8 = 0 then (
      some (Sum.inl (v0, v1, v2, (v3 + 1))))
    else (
      if v2 = v1 then (
        some (Sum.inr (Sum.inr ((v3, g)))))
      else (
        some (Sum.inl (v0, v1, (v2 + 1), (v3 + 1))))))
noncomputable def fM_said_a67 (v1 : Int32) (v2 : Int32) (g : AH) : Option (Int32 × AH) :=
  if v1 = ((-1) : Int32) then (
    some ((v2, g)))
  else (
    some ((((-1) : Int32), g)))
noncomputable def fM_said (v0 : Nat) (v1 : Int32) (h0 : AH) : Option (Int32 × AH) :=
  (xpi h0 v0 [14] 0 (0 : Int32)).bind fun g1 =>
  xb2 (xck g1 v0 14 (fM_lay v0 g1)) fun x_ g2 =>
  (xgr g2 v0 [14] 14).bind fun x3 =>
  (xai g2 x3 100 (116 : Int32)).bind fun x4 =>
  if x4 = 0 then (
    some ((((-1) : Int32), g2)))
  else (
    (xloop (fun s9 : (Nat × Int32 × Int32 × Int32) => fM_said_l25 s9.1 s9.2.1 s9.2.2.1 s9.2.2.2 g2) (v0, v1, (0 : Int32), (0 : Int32))).bind (Sum.elim (fun r9 : (Int32 × Int32) => fM_said_a67 r9.1 r9.2 g2) some))
set_option maxHeartbeats 4000000 in
theorem ct_X8_said {l : Launch} {D : XD} {v0 : Nat} {v1 : Int32} {h0 : AH} {a : Int32} {h1 : AH} (hF : fM_said v0 v1 h0 = some (a, h1)) : XCt l D yX8_said (ws_ yX8_said cX8_said 4 (some .int)) 49 1309 [xR v0, xI v1] h0 (.inl (some (xI a))) h1 := by
  refine x_method (by decide) (Nat.le_of_ble_eq_true rfl) fun p e R s m args below meth c K hr hnm hex => ?_
  have K : XO p R s m args meth c D 4 h0 cX8_said "FaceCoinsModel" 49 1309 := K
  generalize hQ : XMQ below _ _ _ _ _ _ = Q
  have hL25 : ∀ (g : AH) (C1 : ((Nat × Int32 × Int32 × Int32) ⊕ ((Int32 × Int32) ⊕ (Int32 × AH))) → Prop) (hj1 : ∀ s9 : (Nat × Int32 × Int32 × Int32), C1 (Sum.inl s9) → XG p l e R s m args below meth c D 4 h0 Q 25 [(0, xR s9.1), (1, xI s9.2.1), (2, xI s9.2.2.1), (3, xI s9.2.2.2)] [] g) (he1 : ∀ r9 : (Int32 × Int32), C1 (Sum.inr (Sum.inl r9)) → XG p l e R s m args below meth c D 4 h0 Q 67 [(1, xI r9.1), (2, xI r9.2)] [] g) (hd1 : ∀ y9 : (Int32 × AH), C1 (Sum.inr (Sum.inr y9)) → (XEnd below s D h0 (fun v => .inl (some (xI v))) Q) y9) (v0 : Nat) (v1 : Int32) (v2 : Int32) (v3 : Int32), XF p l e R s m args below meth c D 4 h0 Q 25 [(0, xR v0), (1, xI v1), (2, xI v2), (3, xI v3)] [] g (fM_said_l25 v0 v1 v2 v3 g) C1 := by
    intro g C1 hj1 he1 hd1
    intro v0 v1 v2 v3
    unfold fM_said_l25
    refine x_iload_n (pc' := 26) K 3 dX8_said_25 rfl rfl ?_
    refine x_aload_n (pc' := 27) K 0 dX8_said_26 rfl rfl ?_
    refine x_cVO (pc' := 30) (As := []) (en := (fun v => some (xI v))) (rest := [xI v3]) K (fun a hF => ct_X8_coins hF) rfl (by decide) q1602 q1604 qs54 q1605 q105 hy_X8_coins (Nat.le_of_ble_eq_true rfl) (Nat.le_of_ble_eq_true rfl) (Nat.le_of_ble_eq_true rfl) dX8_said_27 rfl (fun x5 => ?_)
    refine x_icmp_ge (tgt := 67) (pc' := 33) K dX8_said_30 rfl (by decide) ?_ ?_
    · refine x_sub (lv' := [(1, xI v1), (2, xI v2)]) [1, 2] rfl ?_
      exact x_jump (fun hz => he1 (v1, v2) hz)
    · refine x_aload_n (pc' := 34) K 0 dX8_said_33 rfl rfl ?_
      refine x_aload_n (pc' := 35) K 0 dX8_said_34 rfl rfl ?_
      refine x_getr (pc' := 38) K fg_14_14 (Or.inl (K.2.2.2.2.1 _ q1326)) (fun _ h9 => h9) dX8_said_35 rfl (fun x6 => ?_)
      refine x_bipush (pc' := 40) (v := 117) K dX8_said_38 rfl (by decide) ?_
      refine x_iald (pc' := 41) K dX8_said_40 rfl (fun x7 => ?_)
      refine x_iload_n (pc' := 42) K 3 dX8_said_41 rfl rfl ?_
      refine x_cVO (pc' := 45) (As := [xI x7, xI v3]) (en := (fun v => some (xI v))) (rest := []) K (fun a hF => ct_X8_holds hF) rfl (by decide) q1877 q1879 qs93 q1880 q105 hy_X8_holds (Nat.le_of_ble_eq_true rfl) (Nat.le_of_ble_eq_true rfl) (Nat.le_of_ble_eq_true rfl) dX8_said_42 rfl (fun x8 => ?_)
      refine x_if_ne (tgt := 51) (pc' := 48) K dX8_said_45 rfl (by decide) ?_ ?_
      · refine x_iload_n (pc' := 52) K 2 dX8_said_51 rfl rfl ?_
        refine x_iload_n (pc' := 53) K 1 dX8_said_52 rfl rfl ?_
        refine x_icmp_ne (tgt := 58) (pc' := 56) K dX8_said_53 rfl (by decide) ?_ ?_
        · refine x_iinc (pc' := 61) (y := 1) (lv' := [(2, xI (v2 + 1)), (0, xR v0), (1, xI v1), (3, xI v3)]) K 2 dX8_said_58 rfl rfl (by decide) (by decide) rfl ?_
          refine x_iinc (pc' := 64) (y := 1) (lv' := [(3, xI (v3 + 1)), (2, xI (v2 + 1)), (0, xR v0), (1, xI v1)]) K 3 dX8_said_61 rfl rfl (by decide) (by decide) rfl ?_
          refine x_goto (tgt := 25) K dX8_said_64 (by decide) ?_
          refine x_sub (lv' := [(0, xR v0), (1, xI v1), (2, xI (v2 + 1)), (3, xI (v3 + 1))]) [2, 3, 1, 0] rfl ?_
          exact x_jump (fun hz => hj1 (v0, v1, (v2 + 1), (v3 + 1)) hz)
        · refine x_iload_n (pc' := 57) K 3 dX8_said_56 rfl rfl ?_
          refine x_g (fun z => Sum.inr (Sum.inr z)) (x_C (C8 := (XEnd below s D h0 (fun v => .inl (some (xI v))) Q)) (fun z hz => hd1 z hz) ?_)
          exact x_iret K rfl hr dX8_said_57
      · refine x_goto (tgt := 61) K dX8_said_48 (by decide) ?_
        refine x_iinc (pc' := 64) (y := 1) (lv' := [(3, xI (v3 + 1)), (0, xR v0), (1, xI v1), (2, xI v2)]) K 3 dX8_said_61 rfl rfl (by decide) (by decide) rfl ?_
        refine x_goto (tgt := 25) K dX8_said_64 (by decide) ?_
        refine x_sub (lv' := [(0, xR v0), (1, xI v1), (2, xI v2), (3, xI (v3 + 1))]) [1, 2, 3, 0] rfl ?_
        exact x_jump (fun hz => hj1 (v0, v1, v2, (v3 + 1)) hz)
  have hA67_0 : ∀ (v1 : Int32) (v2 : Int32) (g : AH), XF p l e R s m args below meth c D 4 h0 Q 67 [(1, xI v1), (2, xI v2)] [] g (fM_said_a67 v1 v2 g) (XEnd below s D h0 (fun v => .inl (some (xI v))) Q) := by
    intro v1 v2 g
    unfold fM_said_a67
    refine x_iload_n (pc' := 68) K 0 dX8_said_67 rfl rfl ?_
    refine x_iconst (pc' := 69) (v := (-1)) K dX8_said_68 rfl rfl ?_
    refine x_icmp_ne (tgt := 76) (pc' := 72) K dX8_said_69 rfl (by decide) ?_ ?_
    · refine x_iconst (pc' := 77) (v := (-1)) K dX8_said_76 rfl rfl ?_
      exact x_iret K rfl hr dX8_said_77
    · refine x_iload_n (pc' := 73) K 1 dX8_said_72 rfl rfl ?_
      refine x_goto (tgt := 77) K dX8_said_73 (by decide) ?_
      exact x_iret K rfl hr dX8_said_77
  refine (?_ : XF p l e R s m args below meth c D 4 h0 Q 0 [(0, xR v0), (1, xI v1)] [] h0 (fM_said v0 v1 h0) (XEnd below s D h0 (fun v => .inl (some (xI v))) Q)) (a, h1) hF hQ.symm
  unfold fM_said
  refine x_aload_n (pc' := 1) K 0 dX8_said_0 rfl rfl ?_
  refine x_iconst (pc' := 2) (v := 0) K dX8_said_1 rfl rfl ?_
  refine x_puti (pc' := 5) K fp_14_0 (Or.inl (K.2.2.2.2.1 _ q1312)) (fun _ h9 => h9) (Or.inl rfl) dX8_said_2 rfl (fun g1 => ?_)
  refine x_aload_n (pc' := 6) K 0 dX8_said_5 rfl rfl ?_
  refine x_cV (pc' := 9) (As := []) (en := (fun _ => none)) (rest := []) K (fun a h1 hF => ct_X8_lay hF) rfl (by decide) q1479 q1481 qs31 q1482 q105 hy_X8_lay (Nat.le_of_ble_eq_true rfl) (Nat.le_of_ble_eq_true rfl) (Nat.le_of_ble_eq_true rfl) dX8_said_6 rfl (fun x_ g2 => ?_)
  refine x_aload_n (pc' := 10) K 0 dX8_said_9 rfl rfl ?_
  refine x_getr (pc' := 13) K fg_14_14 (Or.inl (K.2.2.2.2.1 _ q1326)) (fun _ h9 => h9) dX8_said_10 rfl (fun x3 => ?_)
  refine x_bipush (pc' := 15) (v := 116) K dX8_said_13 rfl (by decide) ?_
  refine x_iald (pc' := 16) K dX8_said_15 rfl (fun x4 => ?_)
  refine x_if_ne (tgt := 21) (pc' := 19) K dX8_said_16 rfl (by decide) ?_ ?_
  · refine x_iconst (pc' := 22) (v := 0) K dX8_said_21 rfl rfl ?_
    refine x_istore_n (pc' := 23) (lv' := [(2, xI (0 : Int32)), (0, xR v0), (1, xI v1)]) K dX8_said_22 rfl (by decide) rfl ?_
    refine x_iconst (pc' := 24) (v := 0) K dX8_said_23 rfl rfl ?_
    refine x_istore_n (pc' := 25) (lv' := [(3, xI (0 : Int32)), (2, xI (0 : Int32)), (0, xR v0), (1, xI v1)]) K dX8_said_24 rfl (by decide) rfl ?_
    refine x_sub (lv' := [(0, xR v0), (1, xI v1), (2, xI (0 : Int32)), (3, xI (0 : Int32))]) [2, 3, 1, 0] rfl ?_
    exact x_loop (pl := (fun s9 : (Nat × Int32 × Int32 × Int32) => [(0, xR s9.1), (1, xI s9.2.1), (2, xI s9.2.2.1), (3, xI s9.2.2.2)])) (ph := (fun s9 : (Nat × Int32 × Int32 × Int32) => g2)) (Sum.elim (fun r9 : (Int32 × Int32) => XG p l e R s m args below meth c D 4 h0 Q 67 [(1, xI r9.1), (2, xI r9.2)] [] g2) (XEnd below s D h0 (fun v => .inl (some (xI v))) Q)) (fun s9 => hL25 g2 _ (fun _ hz => hz) (fun _ hz => hz) (fun _ hz => hz) s9.1 s9.2.1 s9.2.2.1 s9.2.2.2) (x_ex2 (fun r9 x hx hc => hA67_0 r9.1 r9.2 g2 x hx hc)) (v0, v1, (0 : Int32), (0 : Int32))
  · refine x_iconst (pc' := 20) (v := (-1)) K dX8_said_19 rfl rfl ?_
    exact x_iret K rfl hr dX8_said_20
/-! FaceCoinsModel.image(I)Z -/
noncomputable def fM_image_l22 (v0 : Nat) (v1 : Int32) (v2 : Int32) (g : AH) : Option ((Nat × Int32 × Int32 × AH) ⊕ (Nat × Int32 × AH)) :=
  if (8140 : Int32) ≤ v2 then (
    some (Sum.inr (v0, v1, g)))
  else (
    (xgr g v0 [14] 16).bind fun x4 =>
    (xgr g v0 [14] 14).bind fun x5 =>
    (xai g x5 100 v2).bind fun x6 =>
    (xsi g x4 (((8140 : Int32) * v1) + v2) x6).bind fun g7 =>
    some (Sum.inl (v0, v1, (v2 + 1), g7)))
noncomputable def fM_image_l55 (v0 : Nat) (v1 : Int32) (v2 : Int32) (g : AH) : Option ((Nat × Int32 × Int32 × AH) ⊕ (Nat × Int32 × AH)) :=
  if (12 : Int32) ≤ v2 then (
    some (Sum.inr (v0, v1, g)))
  else (
    (xgr g v0 [14] 20).bind fun x8 =>
    (xgr g v0 [14] 18).bind fun x9 =>
    (xaj g x9 v2).bind fun x10 =>
    (xsj g x8 (((12 : Int32) * v1) + v2) x10).bind fun g11 =>
    some (Sum.inl (v0, v1, (v2 + 1), g11)))
noncomputable def fM_image_a84 (v0 : Nat) (v1 : Int32) (g : AH) : Option (Int32 × AH) :=
  (xgr g v0 [14] 21).bind fun x12 =>
  (xsz g x12 v1 (1 : Int32)).bind fun g13 =>
  some (((1 : Int32), g13))
noncomputable def fM_image_a53 (v0 : Nat) (v1 : Int32) (g : AH) : Option (Int32 × AH) :=
  (xloop (fun s9 : (Nat × Int32 × Int32 × AH) => fM_image_l55 s9.1 s9.2.1 s9.2.2.1 s9.2.2.2) (v0, v1, (0 : Int32), g)).bind (fun r9 : (Nat × Int32 × AH) => fM_image_a84 r9.1 r9.2.1 r9.2.2)
noncomputable def fM_image (v0 : Nat) (v1 : Int32) (h0 : AH) : Option (Int32 × AH) :=
  (xpi h0 v0 [14] 0 (0 : Int32)).bind fun g1 =>
  xb2 (xck g1 v0 14 (fM_lay v0 g1)) fun x_ g2 =>
  (fM_isIn v1 (0 : Int32) (1 : Int32) g2).bind fun x3 =>
  if x3 = 0 then (
    some (((0 : Int32), g2)))
  else (
    (xloop (fun s9 : (Nat × Int32 × Int32 × AH) => fM_image_l22 s9.1 s9.2.1 s9.2.2.1 s9.2.2.2) (v0, v1, (0 : Int32), g2)).bind (fun r9 : (Nat × Int32 × AH) => fM_image_a53 r9.1 r9.2.1 r9.2.2))
set_option maxHeartbeats 4000000 in
theorem ct_X8_image {l : Launch} {D : XD} {v0 : Nat} {v1 : Int32} {h0 : AH} {a : Int32} {h1 : AH} (hF : fM_image v0 v1 h0 = some (a, h1)) : XCt l D yX8_image (ws_ yX8_image cX8_image 3 (some .boolean)) 2 41 [xR v0, xI v1] h0 (.inl (some (xI a))) h1 := by
  refine x_method (by decide) (Nat.le_of_ble_eq_true rfl) fun p e R s m args below meth c K hr hnm hex => ?_
  have K : XO p R s m args meth c D 3 h0 cX8_image "FaceCoinsModel" 2 41 := K
  generalize hQ : XMQ below _ _ _ _ _ _ = Q
  have hL22 : ∀ (C1 : ((Nat × Int32 × Int32 × AH) ⊕ (Nat × Int32 × AH)) → Prop) (hj1 : ∀ s9 : (Nat × Int32 × Int32 × AH), C1 (Sum.inl s9) → XG p l e R s m args below meth c D 3 h0 Q 22 [(0, xR s9.1), (1, xI s9.2.1), (2, xI s9.2.2.1)] [] s9.2.2.2) (he1 : ∀ r9 : (Nat × Int32 × AH), C1 (Sum.inr r9) → XG p l e R s m args below meth c D 3 h0 Q 53 [(0, xR r9.1), (1, xI r9.2.1)] [] r9.2.2) (v0 : Nat) (v1 : Int32) (v2 : Int32) (g : AH), XF p l e R s m args below meth c D 3 h0 Q 22 [(0, xR v0), (1, xI v1), (2, xI v2)] [] g (fM_image_l22 v0 v1 v2 g) C1 := by
    intro C1 hj1 he1
    intro v0 v1 v2 g
    unfold fM_image_l22
    refine x_iload_n (pc' := 23) K 2 dX8_image_22 rfl rfl ?_
    refine x_sipush (pc' := 26) (v := 8140) K dX8_image_23 rfl (by decide) ?_
    refine x_icmp_ge (tgt := 53) (pc' := 29) K dX8_image_26 rfl (by decide) ?_ ?_
    · refine x_sub (lv' := [(0, xR v0), (1, xI v1)]) [0, 1] rfl ?_
      exact x_jump (fun hz => he1 (v0, v1, g) hz)
    · refine x_aload_n (pc' := 30) K 0 dX8_image_29 rfl rfl ?_
      refine x_getr (pc' := 33) K fg_14_16 (Or.inl (K.2.2.2.2.1 _ q1328)) (fun _ h9 => h9) dX8_image_30 rfl (fun x4 => ?_)
      refine x_sipush (pc' := 36) (v := 8140) K dX8_image_33 rfl (by decide) ?_
      refine x_iload_n (pc' := 37) K 1 dX8_image_36 rfl rfl ?_
      refine x_imul (pc' := 38) K dX8_image_37 rfl ?_
      refine x_iload_n (pc' := 39) K 2 dX8_image_38 rfl rfl ?_
      refine x_iadd (pc' := 40) K dX8_image_39 rfl ?_
      refine x_aload_n (pc' := 41) K 0 dX8_image_40 rfl rfl ?_
      refine x_getr (pc' := 44) K fg_14_14 (Or.inl (K.2.2.2.2.1 _ q1326)) (fun _ h9 => h9) dX8_image_41 rfl (fun x5 => ?_)
      refine x_iload_n (pc' := 45) K 2 dX8_image_44 rfl rfl ?_
      refine x_iald (pc' := 46) K dX8_image_45 rfl (fun x6 => ?_)
      refine x_iast (pc' := 47) K dX8_image_46 rfl (fun g7 => ?_)
      refine x_iinc (pc' := 50) (y := 1) (lv' := [(2, xI (v2 + 1)), (0, xR v0), (1, xI v1)]) K 2 dX8_image_47 rfl rfl (by decide) (by decide) rfl ?_
      refine x_goto (tgt := 22) K dX8_image_50 (by decide) ?_
      refine x_sub (lv' := [(0, xR v0), (1, xI v1), (2, xI (v2 + 1))]) [1, 2, 0] rfl ?_
      exact x_jump (fun hz => hj1 (v0, v1, (v2 + 1), g7) hz)
  have hL55 : ∀ (C1 : ((Nat × Int32 × Int32 × AH) ⊕ (Nat × Int32 × AH)) → Prop) (hj1 : ∀ s9 : (Nat × Int32 × Int32 × AH), C1 (Sum.inl s9) → XG p l e R s m args below meth c D 3 h0 Q 55 [(0, xR s9.1), (1, xI s9.2.1), (2, xI s9.2.2.1)] [] s9.2.2.2) (he1 : ∀ r9 : (Nat × Int32 × AH), C1 (Sum.inr r9) → XG p l e R s m args below meth c D 3 h0 Q 84 [(0, xR r9.1), (1, xI r9.2.1)] [] r9.2.2) (v0 : Nat) (v1 : Int32) (v2 : Int32) (g : AH), XF p l e R s m args below meth c D 3 h0 Q 55 [(0, xR v0), (1, xI v1), (2, xI v2)] [] g (fM_image_l55 v0 v1 v2 g) C1 := by
    intro C1 hj1 he1
    intro v0 v1 v2 g
    unfold fM_image_l55
    refine x_iload_n (pc' := 56) K 2 dX8_image_55 rfl rfl ?_
    refine x_bipush (pc' := 58) (v := 12) K dX8_image_56 rfl (by decide) ?_
    refine x_icmp_ge (tgt := 84) (pc' := 61) K dX8_image_58 rfl (by decide) ?_ ?_
    · refine x_sub (lv' := [(0, xR v0), (1, xI v1)]) [0, 1] rfl ?_
      exact x_jump (fun hz => he1 (v0, v1, g) hz)
    · refine x_aload_n (pc' := 62) K 0 dX8_image_61 rfl rfl ?_
      refine x_getr (pc' := 65) K fg_14_20 (Or.inl (K.2.2.2.2.1 _ q1332)) (fun _ h9 => h9) dX8_image_62 rfl (fun x8 => ?_)
      refine x_bipush (pc' := 67) (v := 12) K dX8_image_65 rfl (by decide) ?_
      refine x_iload_n (pc' := 68) K 1 dX8_image_67 rfl rfl ?_
      refine x_imul (pc' := 69) K dX8_image_68 rfl ?_
      refine x_iload_n (pc' := 70) K 2 dX8_image_69 rfl rfl ?_
      refine x_iadd (pc' := 71) K dX8_image_70 rfl ?_
      refine x_aload_n (pc' := 72) K 0 dX8_image_71 rfl rfl ?_
      refine x_getr (pc' := 75) K fg_14_18 (Or.inl (K.2.2.2.2.1 _ q1330)) (fun _ h9 => h9) dX8_image_72 rfl (fun x9 => ?_)
      refine x_iload_n (pc' := 76) K 2 dX8_image_75 rfl rfl ?_
      refine x_lald (pc' := 77) K dX8_image_76 rfl (fun x10 => ?_)
      refine x_last (pc' := 78) K dX8_image_77 rfl (fun g11 => ?_)
      refine x_iinc (pc' := 81) (y := 1) (lv' := [(2, xI (v2 + 1)), (0, xR v0), (1, xI v1)]) K 2 dX8_image_78 rfl rfl (by decide) (by decide) rfl ?_
      refine x_goto (tgt := 55) K dX8_image_81 (by decide) ?_
      refine x_sub (lv' := [(0, xR v0), (1, xI v1), (2, xI (v2 + 1))]) [1, 2, 0] rfl ?_
      exact x_jump (fun hz => hj1 (v0, v1, (v2 + 1), g11) hz)
  have hA84_0 : ∀ (v0 : Nat) (v1 : Int32) (g : AH), XF p l e R s m args below meth c D 3 h0 Q 84 [(0, xR v0), (1, xI v1)] [] g (fM_image_a84 v0 v1 g) (XEnd below s D h0 (fun v => .inl (some (xI v))) Q) := by
    intro v0 v1 g
    unfold fM_image_a84
    refine x_aload_n (pc' := 85) K 0 dX8_image_84 rfl rfl ?_
    refine x_getr (pc' := 88) K fg_14_21 (Or.inl (K.2.2.2.2.1 _ q1333)) (fun _ h9 => h9) dX8_image_85 rfl (fun x12 => ?_)
    refine x_iload_n (pc' := 89) K 1 dX8_image_88 rfl rfl ?_
    refine x_iconst (pc' := 90) (v := 1) K dX8_image_89 rfl rfl ?_
    refine x_zast (pc' := 91) K dX8_image_90 rfl (fun g13 => ?_)
    refine x_iconst (pc' := 92) (v := 1) K dX8_image_91 rfl rfl ?_
    exact x_zret K (Or.inr rfl) rfl hr dX8_image_92
  have hA53_0 : ∀ (v0 : Nat) (v1 : Int32) (g : AH), XF p l e R s m args below meth c D 3 h0 Q 53 [(0, xR v0), (1, xI v1)] [] g (fM_image_a53 v0 v1 g) (XEnd below s D h0 (fun v => .inl (some (xI v))) Q) := by
    intro v0 v1 g
    unfold fM_image_a53
    refine x_iconst (pc' := 54) (v := 0) K dX8_image_53 rfl rfl ?_
    refine x_istore_n (pc' := 55) (lv' := [(2, xI (0 : Int32)), (0, xR v0), (1, xI v1)]) K dX8_image_54 rfl (by decide) rfl ?_
    refine x_sub (lv' := [(0, xR v0), (1, xI v1), (2, xI (0 : Int32))]) [1, 2, 0] rfl ?_
    exact x_loop (pl := (fun s9 : (Nat × Int32 × Int32 × AH) => [(0, xR s9.1), (1, xI s9.2.1), (2, xI s9.2.2.1)])) (ph := (fun s9 : (Nat × Int32 × Int32 × AH) => s9.2.2.2)) (fun r9 : (Nat × Int32 × AH) => XG p l e R s m args below meth c D 3 h0 Q 84 [(0, xR r9.1), (1, xI r9.2.1)] [] r9.2.2) (fun s9 => hL55 _ (fun _ hz => hz) (fun _ hz => hz) s9.1 s9.2.1 s9.2.2.1 s9.2.2.2) (fun r9 x hx hc => hA84_0 r9.1 r9.2.1 r9.2.2 x hx hc) (v0, v1, (0 : Int32), g)
  refine (?_ : XF p l e R s m args below meth c D 3 h0 Q 0 [(0, xR v0), (1, xI v1)] [] h0 (fM_image v0 v1 h0) (XEnd below s D h0 (fun v => .inl (some (xI v))) Q)) (a, h1) hF hQ.symm
  unfold fM_image
  refine x_aload_n (pc' := 1) K 0 dX8_image_0 rfl rfl ?_
  refine x_iconst (pc' := 2) (v := 0) K dX8_image_1 rfl rfl ?_
  refine x_puti (pc' := 5) K fp_14_0 (Or.inl (K.2.2.2.2.1 _ q1312)) (fun _ h9 => h9) (Or.inl rfl) dX8_image_2 rfl (fun g1 => ?_)
  refine x_aload_n (pc' := 6) K 0 dX8_image_5 rfl rfl ?_
  refine x_cV (pc' := 9) (As := []) (en := (fun _ => none)) (rest := []) K (fun a h1 hF => ct_X8_lay hF) rfl (by decide) q1479 q1481 qs31 q1482 q105 hy_X8_lay (Nat.le_of_ble_eq_true rfl) (Nat.le_of_ble_eq_true rfl) (Nat.le_of_ble_eq_true rfl) dX8_image_6 rfl (fun x_ g2 => ?_)
  refine x_iload_n (pc' := 10) K 1 dX8_image_9 rfl rfl ?_
  refine x_iconst (pc' := 11) (v := 0) K dX8_image_10 rfl rfl ?_
  refine x_iconst (pc' := 12) (v := 1) K dX8_image_11 rfl rfl ?_
  refine x_cSO (pc' := 15) (As := [xI v1, xI (0 : Int32), xI (1 : Int32)]) (en := (fun v => some (xI v))) (rest := []) K (fun a hF => ct_X8_isIn hF) rfl q1552 q1553 q1554 q105 hy_X8_isIn (Nat.le_of_ble_eq_true rfl) (Nat.le_of_ble_eq_true rfl) (Nat.le_of_ble_eq_true rfl) dX8_image_12 rfl (fun x3 => ?_)
  refine x_if_ne (tgt := 20) (pc' := 18) K dX8_image_15 rfl (by decide) ?_ ?_
  · refine x_iconst (pc' := 21) (v := 0) K dX8_image_20 rfl rfl ?_
    refine x_istore_n (pc' := 22) (lv' := [(2, xI (0 : Int32)), (0, xR v0), (1, xI v1)]) K dX8_image_21 rfl (by decide) rfl ?_
    refine x_sub (lv' := [(0, xR v0), (1, xI v1), (2, xI (0 : Int32))]) [1, 2, 0] rfl ?_
    exact x_loop (pl := (fun s9 : (Nat × Int32 × Int32 × AH) => [(0, xR s9.1), (1, xI s9.2.1), (2, xI s9.2.2.1)])) (ph := (fun s9 : (Nat × Int32 × Int32 × AH) => s9.2.2.2)) (fun r9 : (Nat × Int32 × AH) => XG p l e R s m args below meth c D 3 h0 Q 53 [(0, xR r9.1), (1, xI r9.2.1)] [] r9.2.2) (fun s9 => hL22 _ (fun _ hz => hz) (fun _ hz => hz) s9.1 s9.2.1 s9.2.2.1 s9.2.2.2) (fun r9 x hx hc => hA53_0 r9.1 r9.2.1 r9.2.2 x hx hc) (v0, v1, (0 : Int32), g2)
  · refine x_iconst (pc' := 19) (v := 0) K dX8_image_18 rfl rfl ?_
    exact x_zret K (Or.inl rfl) rfl hr dX8_image_19
/-! FaceCoinsModel.restore(I)Z -/
noncomputable def fM_restore_l31 (v0 : Nat) (v1 : Int32) (v2 : Int32) (g : AH) : Option ((Nat × Int32 × Int32 × AH) ⊕ (Nat × Int32 × AH)) :=
  if (8140 : Int32) ≤ v2 then (
    some (Sum.inr (v0, v1, g)))
  else (
    (xgr g v0 [14] 14).bind fun x6 =>
    (xgr g v0 [14] 16).bind fun x7 =>
    (xai g x7 100 (((8140 : Int32) * v1) + v2)).bind fun x8 =>
    (xsi g x6 v2 x8).bind fun g9 =>
    some (Sum.inl (v0, v1, (v2 + 1), g9)))
noncomputable def fM_restore_l64 (v0 : Nat) (v1 : Int32) (v2 : Int32) (g : AH) : Option ((Nat × Int32 × Int32 × AH) ⊕ (Nat × AH)) :=
  if (12 : Int32) ≤ v2 then (
    some (Sum.inr (v0, g)))
  else (
    (xgr g v0 [14] 18).bind fun x10 =>
    (xgr g v0 [14] 20).bind fun x11 =>
    (xaj g x11 (((12 : Int32) * v1) + v2)).bind fun x12 =>
    (xsj g x10 v2 x12).bind fun g13 =>
    some (Sum.inl (v0, v1, (v2 + 1), g13)))
noncomputable def fM_restore_a93 (v0 : Nat) (g : AH) : Option (Int32 × AH) :=
  (xpi g v0 [14] 23 (0 : Int32)).bind fun g14 =>
  some (((1 : Int32), g14))
noncomputable def fM_restore_a62 (v0 : Nat) (v1 : Int32) (g : AH) : Option (Int32 × AH) :=
  (xloop (fun s9 : (Nat × Int32 × Int32 × AH) => fM_restore_l64 s9.1 s9.2.1 s9.2.2.1 s9.2.2.2) (v0, v1, (0 : Int32), g)).bind (fun r9 : (Nat × AH) => fM_restore_a93 r9.1 r9.2)
noncomputable def fM_restore (v0 : Nat) (v1 : Int32) (h0 : AH) : Option (Int32 × AH) :=
  (xpi h0 v0 [14] 0 (0 : Int32)).bind fun g1 =>
  xb2 (xck g1 v0 14 (fM_lay v0 g1)) fun x_ g2 =>
  (fM_isIn v1 (0 : Int32) (1 : Int32) g2).bind fun x3 =>
  if x3 = 0 then (
    some (((0 : Int32), g2)))
  else (
    (xgr g2 v0 [14] 21).bind fun x4 =>
    (xai g2 x4 101 v1).bind fun x5 =>
    if x5 = 0 then (
      some (((0 : Int32), g2)))
    else (
      (xloop (fun s9 : (Nat × Int32 × Int32 × AH) => fM_restore_l31 s9.1 s9.2.1 s9.2.2.1 s9.2.2.2) (v0, v1, (0 : Int32), g2)).bind (fun r9 : (Nat × Int32 × AH) => fM_restore_a62 r9.1 r9.2.1 r9.2.2)))
set_option maxHeartbeats 4000000 in
theorem ct_X8_restore {l : Launch} {D : XD} {v0 : Nat} {v1 : Int32} {h0 : AH} {a : Int32} {h1 : AH} (hF : fM_restore v0 v1 h0 = some (a, h1)) : XCt l D yX8_restore (ws_ yX8_restore cX8_restore 3 (some .boolean)) 2 41 [xR v0, xI v1] h0 (.inl (some (xI a))) h1 := by
  refine x_method (by decide) (Nat.le_of_ble_eq_true rfl) fun p e R s m args below meth c K hr hnm hex => ?_
  have K : XO p R s m args meth c D 3 h0 cX8_restore "FaceCoinsModel" 2 41 := K
  generalize hQ : XMQ below _ _ _ _ _ _ = Q
  have hL31 : ∀ (C1 : ((Nat × Int32 × Int32 × AH) ⊕ (Nat × Int32 × AH)) → Prop) (hj1 : ∀ s9 : (Nat × Int32 × Int32 × AH), C1 (Sum.inl s9) → XG p l e R s m args below meth c D 3 h0 Q 31 [(0, xR s9.1), (1, xI s9.2.1), (2, xI s9.2.2.1)] [] s9.2.2.2) (he1 : ∀ r9 : (Nat × Int32 × AH), C1 (Sum.inr r9) → XG p l e R s m args below meth c D 3 h0 Q 62 [(0, xR r9.1), (1, xI r9.2.1)] [] r9.2.2) (v0 : Nat) (v1 : Int32) (v2 : Int32) (g : AH), XF p l e R s m args below meth c D 3 h0 Q 31 [(0, xR v0), (1, xI v1), (2, xI v2)] [] g (fM_restore_l31 v0 v1 v2 g) C1 := by
    intro C1 hj1 he1
    intro v0 v1 v2 g
    unfold fM_restore_l31
    refine x_iload_n (pc' := 32) K 2 dX8_restore_31 rfl rfl ?_
    refine x_sipush (pc' := 35) (v := 8140) K dX8_restore_32 rfl (by decide) ?_
    refine x_icmp_ge (tgt := 62) (pc' := 38) K dX8_restore_35 rfl (by decide) ?_ ?_
    · refine x_sub (lv' := [(0, xR v0), (1, xI v1)]) [0, 1] rfl ?_
      exact x_jump (fun hz => he1 (v0, v1, g) hz)
    · refine x_aload_n (pc' := 39) K 0 dX8_restore_38 rfl rfl ?_
      refine x_getr (pc' := 42) K fg_14_14 (Or.inl (K.2.2.2.2.1 _ q1326)) (fun _ h9 => h9) dX8_restore_39 rfl (fun x6 => ?_)
      refine x_iload_n (pc' := 43) K 2 dX8_restore_42 rfl rfl ?_
      refine x_aload_n (pc' := 44) K 0 dX8_restore_43 rfl rfl ?_
      refine x_getr (pc' := 47) K fg_14_16 (Or.inl (K.2.2.2.2.1 _ q1328)) (fun _ h9 => h9) dX8_restore_44 rfl (fun x7 => ?_)
      refine x_sipush (pc' := 50) (v := 8140) K dX8_restore_47 rfl (by decide) ?_
      refine x_iload_n (pc' := 51) K 1 dX8_restore_50 rfl rfl ?_
      refine x_imul (pc' := 52) K dX8_restore_51 rfl ?_
      refine x_iload_n (pc' := 53) K 2 dX8_restore_52 rfl rfl ?_
      refine x_iadd (pc' := 54) K dX8_restore_53 rfl ?_
      refine x_iald (pc' := 55) K dX8_restore_54 rfl (fun x8 => ?_)
      refine x_iast (pc' := 56) K dX8_restore_55 rfl (fun g9 => ?_)
      refine x_iinc (pc' := 59) (y := 1) (lv' := [(2, xI (v2 + 1)), (0, xR v0), (1, xI v1)]) K 2 dX8_restore_56 rfl rfl (by decide) (by decide) rfl ?_
      refine x_goto (tgt := 31) K dX8_restore_59 (by decide) ?_
      refine x_sub (lv' := [(0, xR v0), (1, xI v1), (2, xI (v2 + 1))]) [1, 2, 0] rfl ?_
      exact x_jump (fun hz => hj1 (v0, v1, (v2 + 1), g9) hz)
  have hL64 : ∀ (C1 : ((Nat × Int32 × Int32 × AH) ⊕ (Nat × AH)) → Prop) (hj1 : ∀ s9 : (Nat × Int32 × Int32 × AH), C1 (Sum.inl s9) → XG p l e R s m args below meth c D 3 h0 Q 64 [(0, xR s9.1), (1, xI s9.2.1), (2, xI s9.2.2.1)] [] s9.2.2.2) (he1 : ∀ r9 : (Nat × AH), C1 (Sum.inr r9) → XG p l e R s m args below meth c D 3 h0 Q 93 [(0, xR r9.1)] [] r9.2) (v0 : Nat) (v1 : Int32) (v2 : Int32) (g : AH), XF p l e R s m args below meth c D 3 h0 Q 64 [(0, xR v0), (1, xI v1), (2, xI v2)] [] g (fM_restore_l64 v0 v1 v2 g) C1 := by
    intro C1 hj1 he1
    intro v0 v1 v2 g
    unfold fM_restore_l64
    refine x_iload_n (pc' := 65) K 2 dX8_restore_64 rfl rfl ?_
    refine x_bipush (pc' := 67) (v := 12) K dX8_restore_65 rfl (by decide) ?_
    refine x_icmp_ge (tgt := 93) (pc' := 70) K dX8_restore_67 rfl (by decide) ?_ ?_
    · refine x_sub (lv' := [(0, xR v0)]) [0] rfl ?_
      exact x_jump (fun hz => he1 (v0, g) hz)
    · refine x_aload_n (pc' := 71) K 0 dX8_restore_70 rfl rfl ?_
      refine x_getr (pc' := 74) K fg_14_18 (Or.inl (K.2.2.2.2.1 _ q1330)) (fun _ h9 => h9) dX8_restore_71 rfl (fun x10 => ?_)
      refine x_iload_n (pc' := 75) K 2 dX8_restore_74 rfl rfl ?_
      refine x_aload_n (pc' := 76) K 0 dX8_restore_75 rfl rfl ?_
      refine x_getr (pc' := 79) K fg_14_20 (Or.inl (K.2.2.2.2.1 _ q1332)) (fun _ h9 => h9) dX8_restore_76 rfl (fun x11 => ?_)
      refine x_bipush (pc' := 81) (v := 12) K dX8_restore_79 rfl (by decide) ?_
      refine x_iload_n (pc' := 82) K 1 dX8_restore_81 rfl rfl ?_
      refine x_imul (pc' := 83) K dX8_restore_82 rfl ?_
      refine x_iload_n (pc' := 84) K 2 dX8_restore_83 rfl rfl ?_
      refine x_iadd (pc' := 85) K dX8_restore_84 rfl ?_
      refine x_lald (pc' := 86) K dX8_restore_85 rfl (fun x12 => ?_)
      refine x_last (pc' := 87) K dX8_restore_86 rfl (fun g13 => ?_)
      refine x_iinc (pc' := 90) (y := 1) (lv' := [(2, xI (v2 + 1)), (0, xR v0), (1, xI v1)]) K 2 dX8_restore_87 rfl rfl (by decide) (by decide) rfl ?_
      refine x_goto (tgt := 64) K dX8_restore_90 (by decide) ?_
      refine x_sub (lv' := [(0, xR v0), (1, xI v1), (2, xI (v2 + 1))]) [1, 2, 0] rfl ?_
      exact x_jump (fun hz => hj1 (v0, v1, (v2 + 1), g13) hz)
  have hA93_0 : ∀ (v0 : Nat) (g : AH), XF p l e R s m args below meth c D 3 h0 Q 93 [(0, xR v0)] [] g (fM_restore_a93 v0 g) (XEnd below s D h0 (fun v => .inl (some (xI v))) Q) := by
    intro v0 g
    unfold fM_restore_a93
    refine x_aload_n (pc' := 94) K 0 dX8_restore_93 rfl rfl ?_
    refine x_iconst (pc' := 95) (v := 0) K dX8_restore_94 rfl rfl ?_
    refine x_puti (pc' := 98) K fp_14_23 (Or.inl (K.2.2.2.2.1 _ q1335)) (fun _ h9 => h9) (Or.inl rfl) dX8_restore_95 rfl (fun g14 => ?_)
    refine x_iconst (pc' := 99) (v := 1) K dX8_restore_98 rfl rfl ?_
    exact x_zret K (Or.inr rfl) rfl hr dX8_restore_99
  have hA62_0 : ∀ (v0 : Nat) (v1 : Int32) (g : AH), XF p l e R s m args below meth c D 3 h0 Q 62 [(0, xR v0), (1, xI v1)] [] g (fM_restore_a62 v0 v1 g) (XEnd below s D h0 (fun v => .inl (some (xI v))) Q) := by
    intro v0 v1 g
    unfold fM_restore_a62
    refine x_iconst (pc' := 63) (v := 0) K dX8_restore_62 rfl rfl ?_
    refine x_istore_n (pc' := 64) (lv' := [(2, xI (0 : Int32)), (0, xR v0), (1, xI v1)]) K dX8_restore_63 rfl (by decide) rfl ?_
    refine x_sub (lv' := [(0, xR v0), (1, xI v1), (2, xI (0 : Int32))]) [1, 2, 0] rfl ?_
    exact x_loop (pl := (fun s9 : (Nat × Int32 × Int32 × AH) => [(0, xR s9.1), (1, xI s9.2.1), (2, xI s9.2.2.1)])) (ph := (fun s9 : (Nat × Int32 × Int32 × AH) => s9.2.2.2)) (fun r9 : (Nat × AH) => XG p l e R s m args below meth c D 3 h0 Q 93 [(0, xR r9.1)] [] r9.2) (fun s9 => hL64 _ (fun _ hz => hz) (fun _ hz => hz) s9.1 s9.2.1 s9.2.2.1 s9.2.2.2) (fun r9 x hx hc => hA93_0 r9.1 r9.2 x hx hc) (v0, v1, (0 : Int32), g)
  refine (?_ : XF p l e R s m args below meth c D 3 h0 Q 0 [(0, xR v0), (1, xI v1)] [] h0 (fM_restore v0 v1 h0) (XEnd below s D h0 (fun v => .inl (some (xI v))) Q)) (a, h1) hF hQ.symm
  unfold fM_restore
  refine x_aload_n (pc' := 1) K 0 dX8_restore_0 rfl rfl ?_
  refine x_iconst (pc' := 2) (v := 0) K dX8_restore_1 rfl rfl ?_
  refine x_puti (pc' := 5) K fp_14_0 (Or.inl (K.2.2.2.2.1 _ q1312)) (fun _ h9 => h9) (Or.inl rfl) dX8_restore_2 rfl (fun g1 => ?_)
  refine x_aload_n (pc' := 6) K 0 dX8_restore_5 rfl rfl ?_
  refine x_cV (pc' := 9) (As := []) (en := (fun _ => none)) (rest := []) K (fun a h1 hF => ct_X8_lay hF) rfl (by decide) q1479 q1481 qs31 q1482 q105 hy_X8_lay (Nat.le_of_ble_eq_true rfl) (Nat.le_of_ble_eq_true rfl) (Nat.le_of_ble_eq_true rfl) dX8_restore_6 rfl (fun x_ g2 => ?_)
  refine x_iload_n (pc' := 10) K 1 dX8_restore_9 rfl rfl ?_
  refine x_iconst (pc' := 11) (v := 0) K dX8_restore_10 rfl rfl ?_
  refine x_iconst (pc' := 12) (v := 1) K dX8_restore_11 rfl rfl ?_
  refine x_cSO (pc' := 15) (As := [xI v1, xI (0 : Int32), xI (1 : Int32)]) (en := (fun v => some (xI v))) (rest := []) K (fun a hF => ct_X8_isIn hF) rfl q1552 q1553 q1554 q105 hy_X8_isIn (Nat.le_of_ble_eq_true rfl) (Nat.le_of_ble_eq_true rfl) (Nat.le_of_ble_eq_true rfl) dX8_restore_12 rfl (fun x3 => ?_)
  refine x_if_eq (tgt := 27) (pc' := 18) K dX8_restore_15 rfl (by decide) ?_ ?_
  · refine x_iconst (pc' := 28) (v := 0) K dX8_restore_27 rfl rfl ?_
    exact x_zret K (Or.inl rfl) rfl hr dX8_restore_28
  · refine x_aload_n (pc' := 19) K 0 dX8_restore_18 rfl rfl ?_
    refine x_getr (pc' := 22) K fg_14_21 (Or.inl (K.2.2.2.2.1 _ q1333)) (fun _ h9 => h9) dX8_restore_19 rfl (fun x4 => ?_)
    refine x_iload_n (pc' := 23) K 1 dX8_restore_22 rfl rfl ?_
    refine x_zald (pc' := 24) K dX8_restore_23 rfl (fun x5 => ?_)
    refine x_if_ne (tgt := 29) (pc' := 27) K dX8_restore_24 rfl (by decide) ?_ ?_
    · refine x_iconst (pc' := 30) (v := 0) K dX8_restore_29 rfl rfl ?_
      refine x_istore_n (pc' := 31) (lv' := [(2, xI (0 : Int32)), (0, xR v0), (1, xI v1)]) K dX8_restore_30 rfl (by decide) rfl ?_
      refine x_sub (lv' := [(0, xR v0), (1, xI v1), (2, xI (0 : Int32))]) [1, 2, 0] rfl ?_
      exact x_loop (pl := (fun s9 : (Nat × Int32 × Int32 × AH) => [(0, xR s9.1), (1, xI s9.2.1), (2, xI s9.2.2.1)])) (ph := (fun s9 : (Nat × Int32 × Int32 × AH) => s9.2.2.2)) (fun r9 : (Nat × Int32 × AH) => XG p l e R s m args below meth c D 3 h0 Q 62 [(0, xR r9.1), (1, xI r9.2.1)] [] r9.2.2) (fun s9 => hL31 _ (fun _ hz => hz) (fun _ hz => hz) s9.1 s9.2.1 s9.2.2.1 s9.2.2.2) (fun r9 x hx hc => hA62_0 r9.1 r9.2.1 r9.2.2 x hx hc) (v0, v1, (0 : Int32), g2)
    · refine x_iconst (pc' := 28) (v := 0) K dX8_restore_27 rfl rfl ?_
      exact x_zret K (Or.inl rfl) rfl hr dX8_restore_28
/-! FaceCoinsModel.count(I)I -/
noncomputable def fM_count (v0 : Nat) (v1 : Int32) (h0 : AH) : Option (Int32 × AH) :=
  (xpi h0 v0 [14] 0 (0 : Int32)).bind fun g1 =>
  xb2 (xck g1 v0 14 (fM_lay v0 g1)) fun x_ g2 =>
  if v1 = (11 : Int32) then (
    (xgi g2 v0 [14] 2).bind fun x13 =>
    some ((x13, g2)))
  else (
    (fM_isIn v1 (0 : Int32) (10 : Int32) g2).bind fun x3 =>
    if x3 = 0 then (
      some ((((-1) : Int32), g2)))
    else (
      if (7 : Int32) ≤ v1 then (
        if v1 = (7 : Int32) then (
          (xck g2 v0 14 (fM_coins v0 g2)).bind fun x10 =>
          some ((x10, g2)))
        else (
          if v1 = (8 : Int32) then (
            (xgr g2 v0 [14] 14).bind fun x8 =>
            (xai g2 x8 100 (109 : Int32)).bind fun x9 =>
            some ((x9, g2)))
          else (
            if v1 = (9 : Int32) then (
              (xgr g2 v0 [14] 14).bind fun x6 =>
              (xai g2 x6 100 (110 : Int32)).bind fun x7 =>
              some ((x7, g2)))
            else (
              (xgr g2 v0 [14] 14).bind fun x4 =>
              (xai g2 x4 100 (111 : Int32)).bind fun x5 =>
              some ((x5, g2))))))
      else (
        (xgr g2 v0 [14] 14).bind fun x11 =>
        (xai g2 x11 100 v1).bind fun x12 =>
        some ((x12, g2)))))
set_option maxHeartbeats 4000000 in
theorem ct_X8_count {l : Launch} {D : XD} {v0 : Nat} {v1 : Int32} {h0 : AH} {a : Int32} {h1 : AH} (hF : fM_count v0 v1 h0 = some (a, h1)) : XCt l D yX8_count (ws_ yX8_count cX8_count 2 (some .int)) 2 41 [xR v0, xI v1] h0 (.inl (some (xI a))) h1 := by
  refine x_method (by decide) (Nat.le_of_ble_eq_true rfl) fun p e R s m args below meth c K hr hnm hex => ?_
  have K : XO p R s m args meth c D 2 h0 cX8_count "FaceCoinsModel" 2 41 := K
  generalize hQ : XMQ below _ _ _ _ _ _ = Q
  refine (?_ : XF p l e R s m args below meth c D 2 h0 Q 0 [(0, xR v0), (1, xI v1)] [] h0 (fM_count v0 v1 h0) (XEnd below s D h0 (fun v => .inl (some (xI v))) Q)) (a, h1) hF hQ.symm
  unfold fM_count
  refine x_aload_n (pc' := 1) K 0 dX8_count_0 rfl rfl ?_
  refine x_iconst (pc' := 2) (v := 0) K dX8_count_1 rfl rfl ?_
  refine x_puti (pc' := 5) K fp_14_0 (Or.inl (K.2.2.2.2.1 _ q1312)) (fun _ h9 => h9) (Or.inl rfl) dX8_count_2 rfl (fun g1 => ?_)
  refine x_aload_n (pc' := 6) K 0 dX8_count_5 rfl rfl ?_
  refine x_cV (pc' := 9) (As := []) (en := (fun _ => none)) (rest := []) K (fun a h1 hF => ct_X8_lay hF) rfl (by decide) q1479 q1481 qs31 q1482 q105 hy_X8_lay (Nat.le_of_ble_eq_true rfl) (Nat.le_of_ble_eq_true rfl) (Nat.le_of_ble_eq_true rfl) dX8_count_6 rfl (fun x_ g2 => ?_)
  refine x_iload_n (pc' := 10) K 1 dX8_count_9 rfl rfl ?_
  refine x_bipush (pc' := 12) (v := 11) K dX8_count_10 rfl (by decide) ?_
  refine x_icmp_ne (tgt := 20) (pc' := 15) K dX8_count_12 rfl (by decide) ?_ ?_
  · refine x_iload_n (pc' := 21) K 1 dX8_count_20 rfl rfl ?_
    refine x_iconst (pc' := 22) (v := 0) K dX8_count_21 rfl rfl ?_
    refine x_bipush (pc' := 24) (v := 10) K dX8_count_22 rfl (by decide) ?_
    refine x_cSO (pc' := 27) (As := [xI v1, xI (0 : Int32), xI (10 : Int32)]) (en := (fun v => some (xI v))) (rest := []) K (fun a hF => ct_X8_isIn hF) rfl q1552 q1553 q1554 q105 hy_X8_isIn (Nat.le_of_ble_eq_true rfl) (Nat.le_of_ble_eq_true rfl) (Nat.le_of_ble_eq_true rfl) dX8_count_24 rfl (fun x3 => ?_)
    refine x_if_ne (tgt := 32) (pc' := 30) K dX8_count_27 rfl (by decide) ?_ ?_
    · refine x_iload_n (pc' := 33) K 1 dX8_count_32 rfl rfl ?_
      refine x_bipush (pc' := 35) (v := 7) K dX8_count_33 rfl (by decide) ?_
      refine x_icmp_ge (tgt := 47) (pc' := 38) K dX8_count_35 rfl (by decide) ?_ ?_
      · refine x_iload_n (pc' := 48) K 1 dX8_count_47 rfl rfl ?_
        refine x_bipush (pc' := 50) (v := 7) K dX8_count_48 rfl (by decide) ?_
        refine x_icmp_ne (tgt := 60) (pc' := 53) K dX8_count_50 rfl (by decide) ?_ ?_
        · refine x_iload_n (pc' := 61) K 1 dX8_count_60 rfl rfl ?_
          refine x_bipush (pc' := 63) (v := 8) K dX8_count_61 rfl (by decide) ?_
          refine x_icmp_ne (tgt := 76) (pc' := 66) K dX8_count_63 rfl (by decide) ?_ ?_
          · refine x_iload_n (pc' := 77) K 1 dX8_count_76 rfl rfl ?_
            refine x_bipush (pc' := 79) (v := 9) K dX8_count_77 rfl (by decide) ?_
            refine x_icmp_ne (tgt := 92) (pc' := 82) K dX8_count_79 rfl (by decide) ?_ ?_
            · refine x_aload_n (pc' := 93) K 0 dX8_count_92 rfl rfl ?_
              refine x_getr (pc' := 96) K fg_14_14 (Or.inl (K.2.2.2.2.1 _ q1326)) (fun _ h9 => h9) dX8_count_93 rfl (fun x4 => ?_)
              refine x_bipush (pc' := 98) (v := 111) K dX8_count_96 rfl (by decide) ?_
              refine x_iald (pc' := 99) K dX8_count_98 rfl (fun x5 => ?_)
              exact x_iret K rfl hr dX8_count_99
            · refine x_aload_n (pc' := 83) K 0 dX8_count_82 rfl rfl ?_
              refine x_getr (pc' := 86) K fg_14_14 (Or.inl (K.2.2.2.2.1 _ q1326)) (fun _ h9 => h9) dX8_count_83 rfl (fun x6 => ?_)
              refine x_bipush (pc' := 88) (v := 110) K dX8_count_86 rfl (by decide) ?_
              refine x_iald (pc' := 89) K dX8_count_88 rfl (fun x7 => ?_)
              refine x_goto (tgt := 99) K dX8_count_89 (by decide) ?_
              exact x_iret K rfl hr dX8_count_99
          · refine x_aload_n (pc' := 67) K 0 dX8_count_66 rfl rfl ?_
            refine x_getr (pc' := 70) K fg_14_14 (Or.inl (K.2.2.2.2.1 _ q1326)) (fun _ h9 => h9) dX8_count_67 rfl (fun x8 => ?_)
            refine x_bipush (pc' := 72) (v := 109) K dX8_count_70 rfl (by decide) ?_
            refine x_iald (pc' := 73) K dX8_count_72 rfl (fun x9 => ?_)
            refine x_goto (tgt := 99) K dX8_count_73 (by decide) ?_
            exact x_iret K rfl hr dX8_count_99
        · refine x_aload_n (pc' := 54) K 0 dX8_count_53 rfl rfl ?_
          refine x_cVO (pc' := 57) (As := []) (en := (fun v => some (xI v))) (rest := []) K (fun a hF => ct_X8_coins hF) rfl (by decide) q1602 q1604 qs54 q1605 q105 hy_X8_coins (Nat.le_of_ble_eq_true rfl) (Nat.le_of_ble_eq_true rfl) (Nat.le_of_ble_eq_true rfl) dX8_count_54 rfl (fun x10 => ?_)
          refine x_goto (tgt := 99) K dX8_count_57 (by decide) ?_
          exact x_iret K rfl hr dX8_count_99
      · refine x_aload_n (pc' := 39) K 0 dX8_count_38 rfl rfl ?_
        refine x_getr (pc' := 42) K fg_14_14 (Or.inl (K.2.2.2.2.1 _ q1326)) (fun _ h9 => h9) dX8_count_39 rfl (fun x11 => ?_)
        refine x_iload_n (pc' := 43) K 1 dX8_count_42 rfl rfl ?_
        refine x_iald (pc' := 44) K dX8_count_43 rfl (fun x12 => ?_)
        refine x_goto (tgt := 99) K dX8_count_44 (by decide) ?_
        exact x_iret K rfl hr dX8_count_99
    · refine x_iconst (pc' := 31) (v := (-1)) K dX8_count_30 rfl rfl ?_
      exact x_iret K rfl hr dX8_count_31
  · refine x_aload_n (pc' := 16) K 0 dX8_count_15 rfl rfl ?_
    refine x_geti (pc' := 19) K fg_14_2 (Or.inl (K.2.2.2.2.1 _ q1314)) (fun _ h9 => h9) dX8_count_16 rfl (fun x13 => ?_)
    exact x_iret K rfl hr dX8_count_19
