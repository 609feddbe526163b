/-! PL 16: what the reference reads off its row -/
set_option maxRecDepth 100000
set_option linter.unusedSimpArgs false
set_option linter.unusedVariables false
/-- the ranges of a row's numbers: p people, q mints, n coins (that at x may bear no face yet), t strokes, u sales -/
def RowX (row : Nat → Int32) (p q n t u x : Nat) : Prop := ((row 0 = I p ∧ p ≤ 8) ∧ (row 1 = I q ∧ q ≤ 4) ∧ (row 108 = I n ∧ n ≤ 40) ∧ (row 112 = I t ∧ t ≤ 500) ∧ (row 113 = I u ∧ u ≤ 500)) ∧
  ((0 ≤ row 3 ∧ row 3 ≤ 100) ∧ (0 ≤ row 4 ∧ row 4 ≤ 200) ∧ (1 ≤ row 5 ∧ row 5 ≤ 999) ∧ (∃ f, 1 ≤ f ∧ f ≤ 9 ∧ row 6 = I f) ∧ (0 ≤ row 109 ∧ row 109 ≤ 9999)) ∧
  (∀ w, w < p → (row (8 + 3 * w) = 0 ∨ row (8 + 3 * w) = 1) ∧ (row (8 + 3 * w + 1) = 0 ∨ row (8 + 3 * w + 1) = 1) ∧ (row (8 + 3 * w + 2) = 0 ∨ row (8 + 3 * w + 2) = 1)) ∧
  (∀ w, w < p → ∀ b, b < 8 → 0 ≤ row (44 + 8 * w + b) ∧ row (44 + 8 * w + b) ≤ 201) ∧
  (∀ m, m < q → (∃ l, 1 ≤ l ∧ l ≤ 50 ∧ row (32 + 3 * m) = I l) ∧ (∃ l, 1 ≤ l ∧ l ≤ 9 ∧ row (32 + 3 * m + 1) = I l) ∧ (row (32 + 3 * m + 2) = 0 ∨ row (32 + 3 * m + 2) = 1)) ∧
  (∀ c, c < n → (∃ a, 1 ≤ a ∧ a ≤ 9999 ∧ row (120 + 32 * c) = I a) ∧ (∃ w, w < p ∧ row (120 + 32 * c + 1) = I w) ∧ (∃ s y, y ≤ s ∧ s ≤ 9 ∧ (y = 0 → c = x) ∧ row (120 + 32 * c + 2) = I s ∧ row (120 + 32 * c + 3) = I y ∧
    ∀ i, i < y → (∃ w, w < p ∧ row (120 + 32 * c + (4 + 3 * i)) = I w) ∧ (∃ d, 1 ≤ d ∧ d ≤ 9 ∧ row (120 + 32 * c + (4 + 3 * i + 1)) = I d) ∧ ∃ k, k < t ∧ row (120 + 32 * c + (4 + 3 * i + 2)) = I k)) ∧
  (∀ k, k < t → (∃ c, c < n ∧ row (1400 + 6 * k) = I c) ∧ (∃ w, w < p ∧ row (1400 + 6 * k + 1) = I w) ∧ (∃ m, m < q ∧ row (1400 + 6 * k + 2) = I m) ∧ (row (1400 + 6 * k + 5) = 0 ∨ row (1400 + 6 * k + 5) = 1)) ∧
  ((row 110 = -1 ∨ ∃ w, w < p ∧ row 110 = I w) ∧ (row 111 = -1 ∨ ∃ w, w < p ∧ row 111 = I w))
section
variable {row : Nat → Int32} {p q n t u x : Nat}
theorem RowX.e0 (O : RowX row p q n t u x) : row 0 = I p := O.1.1.1
theorem RowX.p8 (O : RowX row p q n t u x) : p ≤ 8 := O.1.1.2
theorem RowX.e1 (O : RowX row p q n t u x) : row 1 = I q := O.1.2.1.1
theorem RowX.q4 (O : RowX row p q n t u x) : q ≤ 4 := O.1.2.1.2
theorem RowX.e108 (O : RowX row p q n t u x) : row 108 = I n := O.1.2.2.1.1
theorem RowX.n40 (O : RowX row p q n t u x) : n ≤ 40 := O.1.2.2.1.2
theorem RowX.e112 (O : RowX row p q n t u x) : row 112 = I t := O.1.2.2.2.1.1
theorem RowX.t500 (O : RowX row p q n t u x) : t ≤ 500 := O.1.2.2.2.1.2
theorem RowX.e113 (O : RowX row p q n t u x) : row 113 = I u := O.1.2.2.2.2.1
theorem RowX.u500 (O : RowX row p q n t u x) : u ≤ 500 := O.1.2.2.2.2.2
theorem RowX.top (O : RowX row p q n t u x) {c : Nat} (hc : c < n) (hx : c ≠ x) : ∃ w, w < p ∧ row (120 + 32 * c + 4) = I w := by
  obtain ⟨s, y, h1, h2, h3, h4, h5, h6⟩ := (O.2.2.2.2.2.1 c hc).2.2
  exact (h6 0 (Nat.pos_of_ne_zero fun h => hx (h3 h))).1
end
/-- the number in a place of the row, as an index -/
def ix (v : Int32) : Nat := v.toNatClampNeg
theorem ix_I {n : Nat} (h : n < 2 ^ 31) : ix (I n) = n := I_nat h
/-- why so many grains with so many strokes can't be struck at a mint -/
def wrS (row : Nat → Int32) (gr st : Int32) (q : Nat) : Int32 := if row (32 + 3 * q + 2) ≤ 0 then (if row 5 ≤ gr - row (32 + 3 * q) then (if st < row 6 then 0 else 6) else 5) else 4
def topw (row : Nat → Int32) (c : Nat) : Nat := ix (row (120 + 32 * c + 4))
def lkN (row : Nat → Int32) : Nat → Int32
  | 0 => row 3
  | c + 1 => if row (8 + 3 * topw row c) ≤ 0 then lkN row c else lkN row c + -1
def luckS (row : Nat → Int32) (n : Nat) : Int32 := if lkN row n ≤ 0 then 0 else lkN row n
def hunB (row : Nat → Int32) (w top : Nat) : Int32 := if row (8 + 3 * top + 2) ≤ 0 then (if row (44 + 8 * w + top) = 0 then 100 else row (44 + 8 * w + top) - 1) else row 4
def hunS (row : Nat → Int32) (w top : Nat) (luck : Int32) : Int32 := if top = w then 100 else if row (8 + 3 * top + 1) ≤ 0 then (if row (8 + 3 * top) ≤ 0 then hunB row w top else hunB row w top + luck) else 0
def valS (row : Nat → Int32) (w c n : Nat) : Int32 := row (120 + 32 * c) * hunS row w (topw row c) (luckS row n) / 100
def sfN (row : Nat → Int32) (c : Nat) : Nat → Int32
  | 0 => 0
  | i + 1 => sfN row c i ||| row (1400 + 6 * ix (row (120 + 32 * c + (4 + 3 * i + 2))) + 5)
theorem loop_b {σ ρ α : Type} {f : σ → Option (σ ⊕ ρ)} {s : σ} {r : ρ} {K : ρ → Option α} {z : Option α} (h : xloop f s = some r) (h2 : K r = z) : (xloop f s).bind K = z := by
  rw [h]
  exact h2
section
variable {m : Nat} {g : AH} {F : Nat → Int32} {A : Nat → Nat → Int32} {row : Nat → Int32} {Y : Nat → Nat → Int64} {p q n t u x : Nat}
theorem mk_people (L : LM m g) : fM_people m (MH g m F A row Y) = some (row 0) := by
  unfold fM_people
  simp (disch := omega) only [Option.bind_some, L.ck, L.gi, L.gj, L.pi, L.pz1, L.pj, L.r1, L.g1, L.s1, L.gl1, L.sl1, L.r14, L.g14, L.s14, L.gl14, L.sl14, L.r15, L.g15, L.s15, L.gl15, L.sl15, L.r16, L.g16, L.s16, L.gl16, L.sl16, L.r17, L.g17, L.s17, L.gl17, L.sl17, L.r18, L.g18, L.s18, L.r19, L.g19, L.s19, L.r20, L.g20, L.s20, L.r21, L.g21, L.s21, L.gl21, L.r25, L.g25, L.s25, L.gl25, L.sl25, L.r26, L.g26, L.s26, L.gl26, L.sl26, L.r27, L.g27, L.s27, L.gl27, L.sl27, L.r28, L.g28, L.s28, L.gl28, L.sl28, L.r29, L.g29, L.s29, L.gl29, L.sl29, L.r30, L.g30, L.s30, L.gl30, L.sl30, L.r33, L.g33, L.s33, L.gl33, L.sl33, L.r34, L.g34, L.s34, L.gl34, L.sl34, L.r35, L.g35, L.s35, L.gl35, L.sl35, L.r36, L.g36, L.s36, L.gl36, L.sl36, L.r37, L.g37, L.s37, L.gl37, L.sl37, L.r38, L.g38, L.s38, L.gl38, L.sl38, L.r42, L.g42, L.s42, L.gl42, L.sl42, I_add, I_mul, I_addl, I_ladd, I_lmul, I_mull, I_add0, up_s, up_n]
theorem mk_mints (L : LM m g) : fM_mints m (MH g m F A row Y) = some (row 1) := by
  unfold fM_mints
  simp (disch := omega) only [Option.bind_some, L.ck, L.gi, L.gj, L.pi, L.pz1, L.pj, L.r1, L.g1, L.s1, L.gl1, L.sl1, L.r14, L.g14, L.s14, L.gl14, L.sl14, L.r15, L.g15, L.s15, L.gl15, L.sl15, L.r16, L.g16, L.s16, L.gl16, L.sl16, L.r17, L.g17, L.s17, L.gl17, L.sl17, L.r18, L.g18, L.s18, L.r19, L.g19, L.s19, L.r20, L.g20, L.s20, L.r21, L.g21, L.s21, L.gl21, L.r25, L.g25, L.s25, L.gl25, L.sl25, L.r26, L.g26, L.s26, L.gl26, L.sl26, L.r27, L.g27, L.s27, L.gl27, L.sl27, L.r28, L.g28, L.s28, L.gl28, L.sl28, L.r29, L.g29, L.s29, L.gl29, L.sl29, L.r30, L.g30, L.s30, L.gl30, L.sl30, L.r33, L.g33, L.s33, L.gl33, L.sl33, L.r34, L.g34, L.s34, L.gl34, L.sl34, L.r35, L.g35, L.s35, L.gl35, L.sl35, L.r36, L.g36, L.s36, L.gl36, L.sl36, L.r37, L.g37, L.s37, L.gl37, L.sl37, L.r38, L.g38, L.s38, L.gl38, L.sl38, L.r42, L.g42, L.s42, L.gl42, L.sl42, I_add, I_mul, I_addl, I_ladd, I_lmul, I_mull, I_add0, up_s, up_n]
theorem mk_coins (L : LM m g) : fM_coins m (MH g m F A row Y) = some (row 108) := by
  unfold fM_coins
  simp (disch := omega) only [Option.bind_some, L.ck, L.gi, L.gj, L.pi, L.pz1, L.pj, L.r1, L.g1, L.s1, L.gl1, L.sl1, L.r14, L.g14, L.s14, L.gl14, L.sl14, L.r15, L.g15, L.s15, L.gl15, L.sl15, L.r16, L.g16, L.s16, L.gl16, L.sl16, L.r17, L.g17, L.s17, L.gl17, L.sl17, L.r18, L.g18, L.s18, L.r19, L.g19, L.s19, L.r20, L.g20, L.s20, L.r21, L.g21, L.s21, L.gl21, L.r25, L.g25, L.s25, L.gl25, L.sl25, L.r26, L.g26, L.s26, L.gl26, L.sl26, L.r27, L.g27, L.s27, L.gl27, L.sl27, L.r28, L.g28, L.s28, L.gl28, L.sl28, L.r29, L.g29, L.s29, L.gl29, L.sl29, L.r30, L.g30, L.s30, L.gl30, L.sl30, L.r33, L.g33, L.s33, L.gl33, L.sl33, L.r34, L.g34, L.s34, L.gl34, L.sl34, L.r35, L.g35, L.s35, L.gl35, L.sl35, L.r36, L.g36, L.s36, L.gl36, L.sl36, L.r37, L.g37, L.s37, L.gl37, L.sl37, L.r38, L.g38, L.s38, L.gl38, L.sl38, L.r42, L.g42, L.s42, L.gl42, L.sl42, I_add, I_mul, I_addl, I_ladd, I_lmul, I_mull, I_add0, up_s, up_n]
theorem mk_ofWho (L : LM m g) {w k : Nat} (h : 8 + 3 * w + k < 8140) : fM_ofWho m (I w) (I k) (MH g m F A row Y) = some (row (8 + 3 * w + k)) := by
  unfold fM_ofWho
  simp (disch := omega) only [Option.bind_some, L.ck, L.gi, L.gj, L.pi, L.pz1, L.pj, L.r1, L.g1, L.s1, L.gl1, L.sl1, L.r14, L.g14, L.s14, L.gl14, L.sl14, L.r15, L.g15, L.s15, L.gl15, L.sl15, L.r16, L.g16, L.s16, L.gl16, L.sl16, L.r17, L.g17, L.s17, L.gl17, L.sl17, L.r18, L.g18, L.s18, L.r19, L.g19, L.s19, L.r20, L.g20, L.s20, L.r21, L.g21, L.s21, L.gl21, L.r25, L.g25, L.s25, L.gl25, L.sl25, L.r26, L.g26, L.s26, L.gl26, L.sl26, L.r27, L.g27, L.s27, L.gl27, L.sl27, L.r28, L.g28, L.s28, L.gl28, L.sl28, L.r29, L.g29, L.s29, L.gl29, L.sl29, L.r30, L.g30, L.s30, L.gl30, L.sl30, L.r33, L.g33, L.s33, L.gl33, L.sl33, L.r34, L.g34, L.s34, L.gl34, L.sl34, L.r35, L.g35, L.s35, L.gl35, L.sl35, L.r36, L.g36, L.s36, L.gl36, L.sl36, L.r37, L.g37, L.s37, L.gl37, L.sl37, L.r38, L.g38, L.s38, L.gl38, L.sl38, L.r42, L.g42, L.s42, L.gl42, L.sl42, I_add, I_mul, I_addl, I_ladd, I_lmul, I_mull, I_add0, up_s, up_n]
theorem mk_ofWhol (L : LM m g) {w k : Nat} (h : 8 + 3 * w + OfNat.ofNat k < 8140) : fM_ofWho m (I w) (no_index (OfNat.ofNat k)) (MH g m F A row Y) = some (row (8 + 3 * w + OfNat.ofNat k)) := mk_ofWho L h
theorem mk_ofMint (L : LM m g) {w k : Nat} (h : 32 + 3 * w + k < 8140) : fM_ofMint m (I w) (I k) (MH g m F A row Y) = some (row (32 + 3 * w + k)) := by
  unfold fM_ofMint
  simp (disch := omega) only [Option.bind_some, L.ck, L.gi, L.gj, L.pi, L.pz1, L.pj, L.r1, L.g1, L.s1, L.gl1, L.sl1, L.r14, L.g14, L.s14, L.gl14, L.sl14, L.r15, L.g15, L.s15, L.gl15, L.sl15, L.r16, L.g16, L.s16, L.gl16, L.sl16, L.r17, L.g17, L.s17, L.gl17, L.sl17, L.r18, L.g18, L.s18, L.r19, L.g19, L.s19, L.r20, L.g20, L.s20, L.r21, L.g21, L.s21, L.gl21, L.r25, L.g25, L.s25, L.gl25, L.sl25, L.r26, L.g26, L.s26, L.gl26, L.sl26, L.r27, L.g27, L.s27, L.gl27, L.sl27, L.r28, L.g28, L.s28, L.gl28, L.sl28, L.r29, L.g29, L.s29, L.gl29, L.sl29, L.r30, L.g30, L.s30, L.gl30, L.sl30, L.r33, L.g33, L.s33, L.gl33, L.sl33, L.r34, L.g34, L.s34, L.gl34, L.sl34, L.r35, L.g35, L.s35, L.gl35, L.sl35, L.r36, L.g36, L.s36, L.gl36, L.sl36, L.r37, L.g37, L.s37, L.gl37, L.sl37, L.r38, L.g38, L.s38, L.gl38, L.sl38, L.r42, L.g42, L.s42, L.gl42, L.sl42, I_add, I_mul, I_addl, I_ladd, I_lmul, I_mull, I_add0, up_s, up_n]
theorem mk_ofMintl (L : LM m g) {w k : Nat} (h : 32 + 3 * w + OfNat.ofNat k < 8140) : fM_ofMint m (I w) (no_index (OfNat.ofNat k)) (MH g m F A row Y) = some (row (32 + 3 * w + OfNat.ofNat k)) := mk_ofMint L h
theorem mk_ofCoin (L : LM m g) {w k : Nat} (h : 120 + 32 * w + k < 8140) : fM_ofCoin m (I w) (I k) (MH g m F A row Y) = some (row (120 + 32 * w + k)) := by
  unfold fM_ofCoin
  simp (disch := omega) only [Option.bind_some, L.ck, L.gi, L.gj, L.pi, L.pz1, L.pj, L.r1, L.g1, L.s1, L.gl1, L.sl1, L.r14, L.g14, L.s14, L.gl14, L.sl14, L.r15, L.g15, L.s15, L.gl15, L.sl15, L.r16, L.g16, L.s16, L.gl16, L.sl16, L.r17, L.g17, L.s17, L.gl17, L.sl17, L.r18, L.g18, L.s18, L.r19, L.g19, L.s19, L.r20, L.g20, L.s20, L.r21, L.g21, L.s21, L.gl21, L.r25, L.g25, L.s25, L.gl25, L.sl25, L.r26, L.g26, L.s26, L.gl26, L.sl26, L.r27, L.g27, L.s27, L.gl27, L.sl27, L.r28, L.g28, L.s28, L.gl28, L.sl28, L.r29, L.g29, L.s29, L.gl29, L.sl29, L.r30, L.g30, L.s30, L.gl30, L.sl30, L.r33, L.g33, L.s33, L.gl33, L.sl33, L.r34, L.g34, L.s34, L.gl34, L.sl34, L.r35, L.g35, L.s35, L.gl35, L.sl35, L.r36, L.g36, L.s36, L.gl36, L.sl36, L.r37, L.g37, L.s37, L.gl37, L.sl37, L.r38, L.g38, L.s38, L.gl38, L.sl38, L.r42, L.g42, L.s42, L.gl42, L.sl42, I_add, I_mul, I_addl, I_ladd, I_lmul, I_mull, I_add0, up_s, up_n]
theorem mk_ofCoinl (L : LM m g) {w k : Nat} (h : 120 + 32 * w + OfNat.ofNat k < 8140) : fM_ofCoin m (I w) (no_index (OfNat.ofNat k)) (MH g m F A row Y) = some (row (120 + 32 * w + OfNat.ofNat k)) := mk_ofCoin L h
theorem mk_topOf (L : LM m g) {c : Nat} (h : c < 40) : fM_topOf m (I c) (MH g m F A row Y) = some (row (120 + 32 * c + 4)) := by
  unfold fM_topOf
  simp (disch := omega) only [Option.bind_some, L.ck, L.gi, L.gj, L.pi, L.pz1, L.pj, L.r1, L.g1, L.s1, L.gl1, L.sl1, L.r14, L.g14, L.s14, L.gl14, L.sl14, L.r15, L.g15, L.s15, L.gl15, L.sl15, L.r16, L.g16, L.s16, L.gl16, L.sl16, L.r17, L.g17, L.s17, L.gl17, L.sl17, L.r18, L.g18, L.s18, L.r19, L.g19, L.s19, L.r20, L.g20, L.s20, L.r21, L.g21, L.s21, L.gl21, L.r25, L.g25, L.s25, L.gl25, L.sl25, L.r26, L.g26, L.s26, L.gl26, L.sl26, L.r27, L.g27, L.s27, L.gl27, L.sl27, L.r28, L.g28, L.s28, L.gl28, L.sl28, L.r29, L.g29, L.s29, L.gl29, L.sl29, L.r30, L.g30, L.s30, L.gl30, L.sl30, L.r33, L.g33, L.s33, L.gl33, L.sl33, L.r34, L.g34, L.s34, L.gl34, L.sl34, L.r35, L.g35, L.s35, L.gl35, L.sl35, L.r36, L.g36, L.s36, L.gl36, L.sl36, L.r37, L.g37, L.s37, L.gl37, L.sl37, L.r38, L.g38, L.s38, L.gl38, L.sl38, L.r42, L.g42, L.s42, L.gl42, L.sl42, I_add, I_mul, I_addl, I_ladd, I_lmul, I_mull, I_add0, up_s, up_n, mk_ofCoinl L]
theorem mk_isN {n v : Int32} : (if v < 0 then some (0 : Int32) else if n ≤ v then some 0 else some 1) = some (if 0 ≤ v ∧ v < n then 1 else 0) := RW.isN
theorem mk_isWho (L : LM m g) (v : Int32) : fM_isWho m v (MH g m F A row Y) = some (if 0 ≤ v ∧ v < row 0 then 1 else 0) := by
  unfold fM_isWho
  rw [L.ck, mk_people L]
  exact mk_isN
theorem mk_isMint (L : LM m g) (v : Int32) : fM_isMint m v (MH g m F A row Y) = some (if 0 ≤ v ∧ v < row 1 then 1 else 0) := by
  unfold fM_isMint
  rw [L.ck, mk_mints L]
  exact mk_isN
theorem mk_isCoin (L : LM m g) (v : Int32) : fM_isCoin m v (MH g m F A row Y) = some (if 0 ≤ v ∧ v < row 108 then 1 else 0) := by
  unfold fM_isCoin
  rw [L.ck, mk_coins L]
  exact mk_isN
theorem mk_wrongStroke (L : LM m g) {a b : Int32} {w : Nat} (hw : w < 4) : fM_wrongStroke m a b (I w) (MH g m F A row Y) = some (wrS row a b w) := by
  unfold fM_wrongStroke wrS
  simp (disch := omega) only [Option.bind_some, L.ck, L.gi, L.gj, L.pi, L.pz1, L.pj, L.r1, L.g1, L.s1, L.gl1, L.sl1, L.r14, L.g14, L.s14, L.gl14, L.sl14, L.r15, L.g15, L.s15, L.gl15, L.sl15, L.r16, L.g16, L.s16, L.gl16, L.sl16, L.r17, L.g17, L.s17, L.gl17, L.sl17, L.r18, L.g18, L.s18, L.r19, L.g19, L.s19, L.r20, L.g20, L.s20, L.r21, L.g21, L.s21, L.gl21, L.r25, L.g25, L.s25, L.gl25, L.sl25, L.r26, L.g26, L.s26, L.gl26, L.sl26, L.r27, L.g27, L.s27, L.gl27, L.sl27, L.r28, L.g28, L.s28, L.gl28, L.sl28, L.r29, L.g29, L.s29, L.gl29, L.sl29, L.r30, L.g30, L.s30, L.gl30, L.sl30, L.r33, L.g33, L.s33, L.gl33, L.sl33, L.r34, L.g34, L.s34, L.gl34, L.sl34, L.r35, L.g35, L.s35, L.gl35, L.sl35, L.r36, L.g36, L.s36, L.gl36, L.sl36, L.r37, L.g37, L.s37, L.gl37, L.sl37, L.r38, L.g38, L.s38, L.gl38, L.sl38, L.r42, L.g42, L.s42, L.gl42, L.sl42, I_add, I_mul, I_addl, I_ladd, I_lmul, I_mull, I_add0, up_s, up_n, mk_ofMintl L, Nat.add_zero]
  repeat' split
  all_goals rfl
theorem mk_wrongAt (L : LM m g) {c w : Nat} (hc : c < 40) (hw : w < 4) : fM_wrongAt m (I c) (I w) (MH g m F A row Y) = some (wrS row (row (120 + 32 * c)) (row (120 + 32 * c + 2)) w) := by
  unfold fM_wrongAt
  simp (disch := omega) only [Option.bind_some, L.ck, L.gi, L.gj, L.pi, L.pz1, L.pj, L.r1, L.g1, L.s1, L.gl1, L.sl1, L.r14, L.g14, L.s14, L.gl14, L.sl14, L.r15, L.g15, L.s15, L.gl15, L.sl15, L.r16, L.g16, L.s16, L.gl16, L.sl16, L.r17, L.g17, L.s17, L.gl17, L.sl17, L.r18, L.g18, L.s18, L.r19, L.g19, L.s19, L.r20, L.g20, L.s20, L.r21, L.g21, L.s21, L.gl21, L.r25, L.g25, L.s25, L.gl25, L.sl25, L.r26, L.g26, L.s26, L.gl26, L.sl26, L.r27, L.g27, L.s27, L.gl27, L.sl27, L.r28, L.g28, L.s28, L.gl28, L.sl28, L.r29, L.g29, L.s29, L.gl29, L.sl29, L.r30, L.g30, L.s30, L.gl30, L.sl30, L.r33, L.g33, L.s33, L.gl33, L.sl33, L.r34, L.g34, L.s34, L.gl34, L.sl34, L.r35, L.g35, L.s35, L.gl35, L.sl35, L.r36, L.g36, L.s36, L.gl36, L.sl36, L.r37, L.g37, L.s37, L.gl37, L.sl37, L.r38, L.g38, L.s38, L.gl38, L.sl38, L.r42, L.g42, L.s42, L.gl42, L.sl42, I_add, I_mul, I_addl, I_ladd, I_lmul, I_mull, I_add0, up_s, up_n, mk_ofCoinl L, Nat.add_zero, mk_wrongStroke L]
theorem mk_luckOf (L : LM m g) (O : RowX row p q n t u 99) : fM_luckOf m (MH g m F A row Y) = some (luckS row n) := by
  have hp := O.p8
  have hn := O.n40
  unfold fM_luckOf
  simp (disch := omega) only [Option.bind_some, L.ck, L.gi, L.gj, L.pi, L.pz1, L.pj, L.r1, L.g1, L.s1, L.gl1, L.sl1, L.r14, L.g14, L.s14, L.gl14, L.sl14, L.r15, L.g15, L.s15, L.gl15, L.sl15, L.r16, L.g16, L.s16, L.gl16, L.sl16, L.r17, L.g17, L.s17, L.gl17, L.sl17, L.r18, L.g18, L.s18, L.r19, L.g19, L.s19, L.r20, L.g20, L.s20, L.r21, L.g21, L.s21, L.gl21, L.r25, L.g25, L.s25, L.gl25, L.sl25, L.r26, L.g26, L.s26, L.gl26, L.sl26, L.r27, L.g27, L.s27, L.gl27, L.sl27, L.r28, L.g28, L.s28, L.gl28, L.sl28, L.r29, L.g29, L.s29, L.gl29, L.sl29, L.r30, L.g30, L.s30, L.gl30, L.sl30, L.r33, L.g33, L.s33, L.gl33, L.sl33, L.r34, L.g34, L.s34, L.gl34, L.sl34, L.r35, L.g35, L.s35, L.gl35, L.sl35, L.r36, L.g36, L.s36, L.gl36, L.sl36, L.r37, L.g37, L.s37, L.gl37, L.sl37, L.r38, L.g38, L.s38, L.gl38, L.sl38, L.r42, L.g42, L.s42, L.gl42, L.sl42, I_add, I_mul, I_addl, I_ladd, I_lmul, I_mull, I_add0, up_s, up_n]
  refine loop_b (xloop_for (n := n) (r := lkN row n) (fun k => (m, lkN row k, I k)) (fun k hk => ?_) ?_) ?_
  · obtain ⟨w, hw, e⟩ := O.top hk (by omega)
    have e1 : topw row k = w := by unfold topw; rw [e, ix_I (by omega)]
    show fM_luckOf_l9 m (lkN row k) (I k) _ = _
    unfold fM_luckOf_l9
    simp (disch := omega) only [Option.bind_some, L.ck, L.gi, L.gj, L.pi, L.pz1, L.pj, L.r1, L.g1, L.s1, L.gl1, L.sl1, L.r14, L.g14, L.s14, L.gl14, L.sl14, L.r15, L.g15, L.s15, L.gl15, L.sl15, L.r16, L.g16, L.s16, L.gl16, L.sl16, L.r17, L.g17, L.s17, L.gl17, L.sl17, L.r18, L.g18, L.s18, L.r19, L.g19, L.s19, L.r20, L.g20, L.s20, L.r21, L.g21, L.s21, L.gl21, L.r25, L.g25, L.s25, L.gl25, L.sl25, L.r26, L.g26, L.s26, L.gl26, L.sl26, L.r27, L.g27, L.s27, L.gl27, L.sl27, L.r28, L.g28, L.s28, L.gl28, L.sl28, L.r29, L.g29, L.s29, L.gl29, L.sl29, L.r30, L.g30, L.s30, L.gl30, L.sl30, L.r33, L.g33, L.s33, L.gl33, L.sl33, L.r34, L.g34, L.s34, L.gl34, L.sl34, L.r35, L.g35, L.s35, L.gl35, L.sl35, L.r36, L.g36, L.s36, L.gl36, L.sl36, L.r37, L.g37, L.s37, L.gl37, L.sl37, L.r38, L.g38, L.s38, L.gl38, L.sl38, L.r42, L.g42, L.s42, L.gl42, L.sl42, I_add, I_mul, I_addl, I_ladd, I_lmul, I_mull, I_add0, up_s, up_n, mk_coins L, O.e108, I_le, show ¬ n ≤ k by omega, if_false, mk_topOf L, e, mk_ofWhol L, Nat.add_zero, lkN, e1]
    split <;> rfl
  · show fM_luckOf_l9 m (lkN row n) (I n) _ = _
    unfold fM_luckOf_l9
    simp (disch := omega) only [Option.bind_some, L.ck, L.gi, L.gj, L.pi, L.pz1, L.pj, L.r1, L.g1, L.s1, L.gl1, L.sl1, L.r14, L.g14, L.s14, L.gl14, L.sl14, L.r15, L.g15, L.s15, L.gl15, L.sl15, L.r16, L.g16, L.s16, L.gl16, L.sl16, L.r17, L.g17, L.s17, L.gl17, L.sl17, L.r18, L.g18, L.s18, L.r19, L.g19, L.s19, L.r20, L.g20, L.s20, L.r21, L.g21, L.s21, L.gl21, L.r25, L.g25, L.s25, L.gl25, L.sl25, L.r26, L.g26, L.s26, L.gl26, L.sl26, L.r27, L.g27, L.s27, L.gl27, L.sl27, L.r28, L.g28, L.s28, L.gl28, L.sl28, L.r29, L.g29, L.s29, L.gl29, L.sl29, L.r30, L.g30, L.s30, L.gl30, L.sl30, L.r33, L.g33, L.s33, L.gl33, L.sl33, L.r34, L.g34, L.s34, L.gl34, L.sl34, L.r35, L.g35, L.s35, L.gl35, L.sl35, L.r36, L.g36, L.s36, L.gl36, L.sl36, L.r37, L.g37, L.s37, L.gl37, L.sl37, L.r38, L.g38, L.s38, L.gl38, L.sl38, L.r42, L.g42, L.s42, L.gl42, L.sl42, I_add, I_mul, I_addl, I_ladd, I_lmul, I_mull, I_add0, up_s, up_n, mk_coins L, O.e108, I_le, Nat.le_refl, if_true]
  · unfold fM_luckOf_a39 luckS
    split <;> rfl
theorem mk_hundredths (L : LM m g) {w v : Nat} {luck : Int32} (hw : w < 8) (hv : v < 8) : fM_hundredths m (I w) (I v) luck (MH g m F A row Y) = some (hunS row w v luck) := by
  unfold fM_hundredths hunS hunB
  simp (disch := omega) only [Option.bind_some, L.ck, L.gi, L.gj, L.pi, L.pz1, L.pj, L.r1, L.g1, L.s1, L.gl1, L.sl1, L.r14, L.g14, L.s14, L.gl14, L.sl14, L.r15, L.g15, L.s15, L.gl15, L.sl15, L.r16, L.g16, L.s16, L.gl16, L.sl16, L.r17, L.g17, L.s17, L.gl17, L.sl17, L.r18, L.g18, L.s18, L.r19, L.g19, L.s19, L.r20, L.g20, L.s20, L.r21, L.g21, L.s21, L.gl21, L.r25, L.g25, L.s25, L.gl25, L.sl25, L.r26, L.g26, L.s26, L.gl26, L.sl26, L.r27, L.g27, L.s27, L.gl27, L.sl27, L.r28, L.g28, L.s28, L.gl28, L.sl28, L.r29, L.g29, L.s29, L.gl29, L.sl29, L.r30, L.g30, L.s30, L.gl30, L.sl30, L.r33, L.g33, L.s33, L.gl33, L.sl33, L.r34, L.g34, L.s34, L.gl34, L.sl34, L.r35, L.g35, L.s35, L.gl35, L.sl35, L.r36, L.g36, L.s36, L.gl36, L.sl36, L.r37, L.g37, L.s37, L.gl37, L.sl37, L.r38, L.g38, L.s38, L.gl38, L.sl38, L.r42, L.g42, L.s42, L.gl42, L.sl42, I_add, I_mul, I_addl, I_ladd, I_lmul, I_mull, I_add0, up_s, up_n, mk_ofWhol L, Nat.add_zero, I_inj, fM_hundredths_b67]
  repeat' split
  all_goals rfl
theorem mk_valueOf (L : LM m g) (O : RowX row p q n t u 99) {w c : Nat} (hw : w < 8) (hc : c < n) : fM_valueOf m (I w) (I c) (MH g m F A row Y) = some (valS row w c n) := by
  have hp := O.p8
  have hn := O.n40
  obtain ⟨v, hv, e⟩ := O.top hc (by omega)
  have e1 : topw row c = v := by unfold topw; rw [e, ix_I (by omega)]
  unfold fM_valueOf valS
  simp (disch := omega) only [Option.bind_some, L.ck, L.gi, L.gj, L.pi, L.pz1, L.pj, L.r1, L.g1, L.s1, L.gl1, L.sl1, L.r14, L.g14, L.s14, L.gl14, L.sl14, L.r15, L.g15, L.s15, L.gl15, L.sl15, L.r16, L.g16, L.s16, L.gl16, L.sl16, L.r17, L.g17, L.s17, L.gl17, L.sl17, L.r18, L.g18, L.s18, L.r19, L.g19, L.s19, L.r20, L.g20, L.s20, L.r21, L.g21, L.s21, L.gl21, L.r25, L.g25, L.s25, L.gl25, L.sl25, L.r26, L.g26, L.s26, L.gl26, L.sl26, L.r27, L.g27, L.s27, L.gl27, L.sl27, L.r28, L.g28, L.s28, L.gl28, L.sl28, L.r29, L.g29, L.s29, L.gl29, L.sl29, L.r30, L.g30, L.s30, L.gl30, L.sl30, L.r33, L.g33, L.s33, L.gl33, L.sl33, L.r34, L.g34, L.s34, L.gl34, L.sl34, L.r35, L.g35, L.s35, L.gl35, L.sl35, L.r36, L.g36, L.s36, L.gl36, L.sl36, L.r37, L.g37, L.s37, L.gl37, L.sl37, L.r38, L.g38, L.s38, L.gl38, L.sl38, L.r42, L.g42, L.s42, L.gl42, L.sl42, I_add, I_mul, I_addl, I_ladd, I_lmul, I_mull, I_add0, up_s, up_n, mk_ofCoinl L, Nat.add_zero, mk_topOf L, e, e1, mk_luckOf L O, mk_hundredths L]
  rfl
theorem mk_areUnfit (L : LM m g) {a b : Nat} (ha : a < 8) (hb : b < 8) : fM_areUnfit m (I a) (I b) (MH g m F A row Y) = some (if a = b ∨ 0 < row (8 + 3 * a + 2) ∨ 0 < row (8 + 3 * b + 2) then 1 else 0) := by
  unfold fM_areUnfit
  simp (disch := omega) only [Option.bind_some, L.ck, L.gi, L.gj, L.pi, L.pz1, L.pj, L.r1, L.g1, L.s1, L.gl1, L.sl1, L.r14, L.g14, L.s14, L.gl14, L.sl14, L.r15, L.g15, L.s15, L.gl15, L.sl15, L.r16, L.g16, L.s16, L.gl16, L.sl16, L.r17, L.g17, L.s17, L.gl17, L.sl17, L.r18, L.g18, L.s18, L.r19, L.g19, L.s19, L.r20, L.g20, L.s20, L.r21, L.g21, L.s21, L.gl21, L.r25, L.g25, L.s25, L.gl25, L.sl25, L.r26, L.g26, L.s26, L.gl26, L.sl26, L.r27, L.g27, L.s27, L.gl27, L.sl27, L.r28, L.g28, L.s28, L.gl28, L.sl28, L.r29, L.g29, L.s29, L.gl29, L.sl29, L.r30, L.g30, L.s30, L.gl30, L.sl30, L.r33, L.g33, L.s33, L.gl33, L.sl33, L.r34, L.g34, L.s34, L.gl34, L.sl34, L.r35, L.g35, L.s35, L.gl35, L.sl35, L.r36, L.g36, L.s36, L.gl36, L.sl36, L.r37, L.g37, L.s37, L.gl37, L.sl37, L.r38, L.g38, L.s38, L.gl38, L.sl38, L.r42, L.g42, L.s42, L.gl42, L.sl42, I_add, I_mul, I_addl, I_ladd, I_lmul, I_mull, I_add0, up_s, up_n, mk_ofWhol L, I_inj]
  by_cases h1 : a = b
  · simp only [h1, if_true, true_or]
  · by_cases h2 : 0 < row (8 + 3 * a + 2)
    · simp only [h1, h2, if_true, if_false, true_or, or_true]
    · by_cases h3 : row (8 + 3 * b + 2) ≤ 0
      · simp only [h1, h2, h3, if_true, if_false, false_or, i32_nlt.mpr h3]
      · have h4 : 0 < row (8 + 3 * b + 2) := Classical.not_not.mp fun h => h3 (i32_nlt.mp h)
        simp only [h1, h2, h3, if_true, if_false, false_or, h4]
theorem mk_isFull (L : LM m g) {a : Nat} (O : RowX row p q n t u x) (ha : a < 1000) : fM_isFull m (I a) (MH g m F A row Y) = some (if t + a ≤ 500 then 0 else 1) := by
  have ht := O.t500
  unfold fM_isFull
  simp (disch := omega) only [Option.bind_some, L.ck, L.gi, L.gj, L.pi, L.pz1, L.pj, L.r1, L.g1, L.s1, L.gl1, L.sl1, L.r14, L.g14, L.s14, L.gl14, L.sl14, L.r15, L.g15, L.s15, L.gl15, L.sl15, L.r16, L.g16, L.s16, L.gl16, L.sl16, L.r17, L.g17, L.s17, L.gl17, L.sl17, L.r18, L.g18, L.s18, L.r19, L.g19, L.s19, L.r20, L.g20, L.s20, L.r21, L.g21, L.s21, L.gl21, L.r25, L.g25, L.s25, L.gl25, L.sl25, L.r26, L.g26, L.s26, L.gl26, L.sl26, L.r27, L.g27, L.s27, L.gl27, L.sl27, L.r28, L.g28, L.s28, L.gl28, L.sl28, L.r29, L.g29, L.s29, L.gl29, L.sl29, L.r30, L.g30, L.s30, L.gl30, L.sl30, L.r33, L.g33, L.s33, L.gl33, L.sl33, L.r34, L.g34, L.s34, L.gl34, L.sl34, L.r35, L.g35, L.s35, L.gl35, L.sl35, L.r36, L.g36, L.s36, L.gl36, L.sl36, L.r37, L.g37, L.s37, L.gl37, L.sl37, L.r38, L.g38, L.s38, L.gl38, L.sl38, L.r42, L.g42, L.s42, L.gl42, L.sl42, I_add, I_mul, I_addl, I_ladd, I_lmul, I_mull, I_add0, up_s, up_n, O.e112, I_le_l]
  split <;> rfl
theorem mk_isFulll (L : LM m g) {a : Nat} (O : RowX row p q n t u x) (ha : OfNat.ofNat a < 1000) : fM_isFull m (no_index (OfNat.ofNat a)) (MH g m F A row Y) = some (if t + OfNat.ofNat a ≤ 500 then 0 else 1) := mk_isFull L O ha
theorem mk_faceFalse (L : LM m g) {c i k : Nat} (hc : c < 40) (hi : i < 9) (hk : k < 500) (e : row (120 + 32 * c + (4 + 3 * i + 2)) = I k) : fM_faceFalse m (I c) (I i) (MH g m F A row Y) = some (row (1400 + 6 * k + 5)) := by
  unfold fM_faceFalse
  simp (disch := omega) only [Option.bind_some, L.ck, L.gi, L.gj, L.pi, L.pz1, L.pj, L.r1, L.g1, L.s1, L.gl1, L.sl1, L.r14, L.g14, L.s14, L.gl14, L.sl14, L.r15, L.g15, L.s15, L.gl15, L.sl15, L.r16, L.g16, L.s16, L.gl16, L.sl16, L.r17, L.g17, L.s17, L.gl17, L.sl17, L.r18, L.g18, L.s18, L.r19, L.g19, L.s19, L.r20, L.g20, L.s20, L.r21, L.g21, L.s21, L.gl21, L.r25, L.g25, L.s25, L.gl25, L.sl25, L.r26, L.g26, L.s26, L.gl26, L.sl26, L.r27, L.g27, L.s27, L.gl27, L.sl27, L.r28, L.g28, L.s28, L.gl28, L.sl28, L.r29, L.g29, L.s29, L.gl29, L.sl29, L.r30, L.g30, L.s30, L.gl30, L.sl30, L.r33, L.g33, L.s33, L.gl33, L.sl33, L.r34, L.g34, L.s34, L.gl34, L.sl34, L.r35, L.g35, L.s35, L.gl35, L.sl35, L.r36, L.g36, L.s36, L.gl36, L.sl36, L.r37, L.g37, L.s37, L.gl37, L.sl37, L.r38, L.g38, L.s38, L.gl38, L.sl38, L.r42, L.g42, L.s42, L.gl42, L.sl42, I_add, I_mul, I_addl, I_ladd, I_lmul, I_mull, I_add0, up_s, up_n, mk_ofCoin L, e]
theorem mk_showsFalse (L : LM m g) (O : RowX row p q n t u x) {c : Nat} (hc : c < n) : fM_showsFalse m (I c) (MH g m F A row Y) = some (sfN row c (ix (row (120 + 32 * c + 3)))) := by
  have hn := O.n40
  have ht := O.t500
  obtain ⟨s, y, h1, h2, h3, h4, h5, h6⟩ := (O.2.2.2.2.2.1 c hc).2.2
  rw [h5, ix_I (by omega)]
  unfold fM_showsFalse
  refine loop_b (xloop_for (n := y) (r := sfN row c y) (fun k => (m, I c, sfN row c k, I k)) (fun k hk => ?_) ?_) ?_
  · obtain ⟨-, -, w, hw, e⟩ := h6 k hk
    show fM_showsFalse_l4 m (I c) (sfN row c k) (I k) _ = _
    unfold fM_showsFalse_l4
    simp (disch := omega) only [Option.bind_some, L.ck, L.gi, L.gj, L.pi, L.pz1, L.pj, L.r1, L.g1, L.s1, L.gl1, L.sl1, L.r14, L.g14, L.s14, L.gl14, L.sl14, L.r15, L.g15, L.s15, L.gl15, L.sl15, L.r16, L.g16, L.s16, L.gl16, L.sl16, L.r17, L.g17, L.s17, L.gl17, L.sl17, L.r18, L.g18, L.s18, L.r19, L.g19, L.s19, L.r20, L.g20, L.s20, L.r21, L.g21, L.s21, L.gl21, L.r25, L.g25, L.s25, L.gl25, L.sl25, L.r26, L.g26, L.s26, L.gl26, L.sl26, L.r27, L.g27, L.s27, L.gl27, L.sl27, L.r28, L.g28, L.s28, L.gl28, L.sl28, L.r29, L.g29, L.s29, L.gl29, L.sl29, L.r30, L.g30, L.s30, L.gl30, L.sl30, L.r33, L.g33, L.s33, L.gl33, L.sl33, L.r34, L.g34, L.s34, L.gl34, L.sl34, L.r35, L.g35, L.s35, L.gl35, L.sl35, L.r36, L.g36, L.s36, L.gl36, L.sl36, L.r37, L.g37, L.s37, L.gl37, L.sl37, L.r38, L.g38, L.s38, L.gl38, L.sl38, L.r42, L.g42, L.s42, L.gl42, L.sl42, I_add, I_mul, I_addl, I_ladd, I_lmul, I_mull, I_add0, up_s, up_n, mk_ofCoinl L, h5, I_le, show ¬ y ≤ k by omega, if_false, mk_faceFalse L (show c < 40 by omega) (show k < 9 by omega) (show w < 500 by omega) e, sfN, e, ix_I]
  · show fM_showsFalse_l4 m (I c) (sfN row c y) (I y) _ = _
    unfold fM_showsFalse_l4
    simp (disch := omega) only [Option.bind_some, L.ck, L.gi, L.gj, L.pi, L.pz1, L.pj, L.r1, L.g1, L.s1, L.gl1, L.sl1, L.r14, L.g14, L.s14, L.gl14, L.sl14, L.r15, L.g15, L.s15, L.gl15, L.sl15, L.r16, L.g16, L.s16, L.gl16, L.sl16, L.r17, L.g17, L.s17, L.gl17, L.sl17, L.r18, L.g18, L.s18, L.r19, L.g19, L.s19, L.r20, L.g20, L.s20, L.r21, L.g21, L.s21, L.gl21, L.r25, L.g25, L.s25, L.gl25, L.sl25, L.r26, L.g26, L.s26, L.gl26, L.sl26, L.r27, L.g27, L.s27, L.gl27, L.sl27, L.r28, L.g28, L.s28, L.gl28, L.sl28, L.r29, L.g29, L.s29, L.gl29, L.sl29, L.r30, L.g30, L.s30, L.gl30, L.sl30, L.r33, L.g33, L.s33, L.gl33, L.sl33, L.r34, L.g34, L.s34, L.gl34, L.sl34, L.r35, L.g35, L.s35, L.gl35, L.sl35, L.r36, L.g36, L.s36, L.gl36, L.sl36, L.r37, L.g37, L.s37, L.gl37, L.sl37, L.r38, L.g38, L.s38, L.gl38, L.sl38, L.r42, L.g42, L.s42, L.gl42, L.sl42, I_add, I_mul, I_addl, I_ladd, I_lmul, I_mull, I_add0, up_s, up_n, mk_ofCoinl L, h5, I_le, Nat.le_refl, if_true]
  · rfl
/-- whether a coin shows somebody -/
def shN (row : Nat → Int32) (c w : Nat) (y : Nat) : Prop := ∃ i, i < y ∧ row (120 + 32 * c + (4 + 3 * i)) = I w
end
