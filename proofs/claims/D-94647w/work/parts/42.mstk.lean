/-! PL 17: a stroke, on the reference's row -/
set_option maxRecDepth 100000
/-- a coin's faces (from b + 4 on) blurred, those that are gone left out: k looked at, so many left -/
def stkL (b : Nat) (blur : Int32) (row : Nat → Int32) : Nat → Nat × (Nat → Int32)
  | 0 => (0, row)
  | k + 1 => if 0 < (stkL b blur row k).2 (b + 4 + 3 * k + 1) - blur then ((stkL b blur row k).1 + 1, va_up (va_up (va_up (stkL b blur row k).2 (b + 4 + 3 * (stkL b blur row k).1) ((stkL b blur row k).2 (b + 4 + 3 * k))) (b + 4 + 3 * (stkL b blur row k).1 + 1) ((stkL b blur row k).2 (b + 4 + 3 * k + 1) - blur)) (b + 4 + 3 * (stkL b blur row k).1 + 2) ((stkL b blur row k).2 (b + 4 + 3 * k + 2))) else stkL b blur row k
theorem stkL_le (b : Nat) (blur : Int32) (row : Nat → Int32) (k : Nat) : (stkL b blur row k).1 ≤ k := by
  induction k with
  | zero => exact Nat.le_refl 0
  | succ k ih =>
    rw [stkL]
    split
    · exact Nat.succ_le_succ ih
    · omega
theorem stkL_out (b : Nat) (blur : Int32) (row : Nat → Int32) (k : Nat) {j : Nat} (hj : j < b + 4 ∨ b + 4 + 3 * k ≤ j) : (stkL b blur row k).2 j = row j := by
  induction k with
  | zero => rfl
  | succ k ih =>
    have h1 := stkL_le b blur row k
    rw [stkL]
    split
    · simp (disch := omega) only [up_n]
      exact ih (by omega)
    · exact ih (by omega)
/-- moved one on: i still to be moved -/
def stkS (b : Nat) (row : Nat → Int32) (n : Nat) : Nat → Int32 := fun j => if b + 7 ≤ j ∧ j < b + 7 + 3 * n then row (j - 3) else row j
/-- a stroke's row -/
def strikeM (row : Nat → Int32) (c w q : Nat) (sale fl : Int32) (t y : Nat) : Nat → Int32 := va_up row 0 0
section
variable {m : Nat} {g : AH} {F : Nat → Int32} {A : Nat → Nat → Int32} {row : Nat → Int32} {Y : Nat → Nat → Int64}
theorem mk_ofMint (L : LM m g) {w k : Nat} (h : 32 + 3 * w + k < 8140) : fM_ofMint m (I w) (I k) (MH g m F A row Y) = some (row (32 + 3 * w + k)) := by
  unfold fM_ofMint
  simp (disch := omega) only [Option.bind_some, L.ck, L.gi, L.gj, L.pi, L.pz1, L.pj, L.r1, L.g1, L.s1, L.gl1, L.sl1, L.r14, L.g14, L.s14, L.gl14, L.sl14, L.r15, L.g15, L.s15, L.gl15, L.sl15, L.r16, L.g16, L.s16, L.gl16, L.sl16, L.r17, L.g17, L.s17, L.gl17, L.sl17, L.r18, L.g18, L.s18, L.r19, L.g19, L.s19, L.r20, L.g20, L.s20, L.r21, L.g21, L.s21, L.gl21, L.r25, L.g25, L.s25, L.gl25, L.sl25, L.r26, L.g26, L.s26, L.gl26, L.sl26, L.r27, L.g27, L.s27, L.gl27, L.sl27, L.r28, L.g28, L.s28, L.gl28, L.sl28, L.r29, L.g29, L.s29, L.gl29, L.sl29, L.r30, L.g30, L.s30, L.gl30, L.sl30, L.r33, L.g33, L.s33, L.gl33, L.sl33, L.r34, L.g34, L.s34, L.gl34, L.sl34, L.r35, L.g35, L.s35, L.gl35, L.sl35, L.r36, L.g36, L.s36, L.gl36, L.sl36, L.r37, L.g37, L.s37, L.gl37, L.sl37, L.r38, L.g38, L.s38, L.gl38, L.sl38, L.r42, L.g42, L.s42, L.gl42, L.sl42, I_add, I_mul, I_addl, I_ladd, I_lmul, I_mull, I_add0, up_s, up_n]
theorem mk_strike_l49 (L : LM m g) {c q b y : Nat} {x2 x4 x5 : Int32} (hb : b + 40 < 8140) (hy : row (b + 3) = I y) (hy9 : y ≤ 9) (hq : q < 4) (hqb : 44 ≤ b) : xloop (fun s9 : (Nat × Int32 × Int32 × Int32 × Int32 × Int32 × Int32 × Int32 × Int32 × AH) => fM_strike_l49 s9.1 s9.2.1 s9.2.2.1 s9.2.2.2.1 s9.2.2.2.2.1 s9.2.2.2.2.2.1 s9.2.2.2.2.2.2.1 s9.2.2.2.2.2.2.2.1 s9.2.2.2.2.2.2.2.2.1 s9.2.2.2.2.2.2.2.2.2) (m, I c, x2, I q, x4, x5, I b, (0 : Int32), (0 : Int32), MH g m F A row Y) = some (m, I c, x2, I q, x4, x5, I b, I (stkL b (row (33 + 3 * q)) row y).1, MH g m F A (stkL b (row (33 + 3 * q)) row y).2 Y) := by
  refine xloop_for (n := y) (fun k => (m, I c, x2, I q, x4, x5, I b, I (stkL b (row (33 + 3 * q)) row k).1, I k, MH g m F A (stkL b (row (33 + 3 * q)) row k).2 Y)) (fun k hk => ?_) ?_
  · have h1 := stkL_le b (row (33 + 3 * q)) row k
    have h2 : (stkL b (row (33 + 3 * q)) row k).2 (b + 3) = I y := (stkL_out b _ row k (by omega)).trans hy
    have h3 : (stkL b (row (33 + 3 * q)) row k).2 (33 + 3 * q) = row (33 + 3 * q) := stkL_out b _ row k (by omega)
    show fM_strike_l49 m (I c) x2 (I q) x4 x5 (I b) (I (stkL b (row (33 + 3 * q)) row k).1) (I k) (MH g m F A (stkL b (row (33 + 3 * q)) row k).2 Y) = _
    unfold fM_strike_l49
    simp (disch := omega) only [Option.bind_some, L.ck, L.gi, L.gj, L.pi, L.pz1, L.pj, L.r1, L.g1, L.s1, L.gl1, L.sl1, L.r14, L.g14, L.s14, L.gl14, L.sl14, L.r15, L.g15, L.s15, L.gl15, L.sl15, L.r16, L.g16, L.s16, L.gl16, L.sl16, L.r17, L.g17, L.s17, L.gl17, L.sl17, L.r18, L.g18, L.s18, L.r19, L.g19, L.s19, L.r20, L.g20, L.s20, L.r21, L.g21, L.s21, L.gl21, L.r25, L.g25, L.s25, L.gl25, L.sl25, L.r26, L.g26, L.s26, L.gl26, L.sl26, L.r27, L.g27, L.s27, L.gl27, L.sl27, L.r28, L.g28, L.s28, L.gl28, L.sl28, L.r29, L.g29, L.s29, L.gl29, L.sl29, L.r30, L.g30, L.s30, L.gl30, L.sl30, L.r33, L.g33, L.s33, L.gl33, L.sl33, L.r34, L.g34, L.s34, L.gl34, L.sl34, L.r35, L.g35, L.s35, L.gl35, L.sl35, L.r36, L.g36, L.s36, L.gl36, L.sl36, L.r37, L.g37, L.s37, L.gl37, L.sl37, L.r38, L.g38, L.s38, L.gl38, L.sl38, L.r42, L.g42, L.s42, L.gl42, L.sl42, I_add, I_mul, I_addl, I_ladd, I_lmul, I_mull, I_add0, up_s, up_n, h2, I_le, show ¬ y ≤ k by omega, if_false]
    trace_state
    sorry
  · have h2 : (stkL b (row (33 + 3 * q)) row y).2 (b + 3) = I y := (stkL_out b _ row y (by omega)).trans hy
    show fM_strike_l49 m (I c) x2 (I q) x4 x5 (I b) (I (stkL b (row (33 + 3 * q)) row y).1) (I y) (MH g m F A (stkL b (row (33 + 3 * q)) row y).2 Y) = _
    unfold fM_strike_l49
    simp (disch := omega) only [Option.bind_some, L.ck, L.gi, L.gj, L.pi, L.pz1, L.pj, L.r1, L.g1, L.s1, L.gl1, L.sl1, L.r14, L.g14, L.s14, L.gl14, L.sl14, L.r15, L.g15, L.s15, L.gl15, L.sl15, L.r16, L.g16, L.s16, L.gl16, L.sl16, L.r17, L.g17, L.s17, L.gl17, L.sl17, L.r18, L.g18, L.s18, L.r19, L.g19, L.s19, L.r20, L.g20, L.s20, L.r21, L.g21, L.s21, L.gl21, L.r25, L.g25, L.s25, L.gl25, L.sl25, L.r26, L.g26, L.s26, L.gl26, L.sl26, L.r27, L.g27, L.s27, L.gl27, L.sl27, L.r28, L.g28, L.s28, L.gl28, L.sl28, L.r29, L.g29, L.s29, L.gl29, L.sl29, L.r30, L.g30, L.s30, L.gl30, L.sl30, L.r33, L.g33, L.s33, L.gl33, L.sl33, L.r34, L.g34, L.s34, L.gl34, L.sl34, L.r35, L.g35, L.s35, L.gl35, L.sl35, L.r36, L.g36, L.s36, L.gl36, L.sl36, L.r37, L.g37, L.s37, L.gl37, L.sl37, L.r38, L.g38, L.s38, L.gl38, L.sl38, L.r42, L.g42, L.s42, L.gl42, L.sl42, I_add, I_mul, I_addl, I_ladd, I_lmul, I_mull, I_add0, up_s, up_n, h2, I_le, Nat.le_refl, if_true]
end
