/-! PL 19: what a State computes and leaves as it is -/
set_option maxRecDepth 100000
set_option linter.unusedSimpArgs false
set_option linter.unusedVariables false
theorem I_ge0 (n : Nat) (h : n < 2 ^ 31) : ¬ I n < 0 := by
  show ¬ I n < I 0
  rw [I_lt h (by decide)]
  omega
theorem b01 {v : Int32} (h : v = 0 ∨ v = 1) : v ≤ 0 ↔ v = 0 := by
  rcases h with rfl | rfl <;> decide
theorem b01' {v : Int32} (h : v = 0 ∨ v = 1) : 0 < v ↔ v ≠ 0 := by
  rcases h with rfl | rfl <;> decide
theorem b01_e {v : Int32} (h : v = 0 ∨ v = 1) : (if v = 0 then (0 : Int32) else 1) = v := by
  rcases h with rfl | rfl <;> rfl
theorem bit01 (v : Int32) (k : Nat) : bit v k = 0 ∨ bit v k = 1 := by
  unfold bit
  split
  · exact Or.inr rfl
  · exact Or.inl rfl
theorem le_pred {v : Int32} {n : Nat} (h : n < 2 ^ 31) : v ≤ I n - 1 ↔ v < I n := by
  rw [Int32.le_iff_toInt_le, Int32.lt_iff_toInt_lt, I_int h]
  have : (I n - 1).toInt = (n : Int) - 1 := by
    rcases n with _ | n
    · decide
    · rw [show I (n + 1) - 1 = I n from I_sub (a := n + 1) (b := 1) (by omega), I_int (by omega)]
      omega
  omega
/-- the count of those that beg among the coins' tops -/
def bgN (row : Nat → Int32) : Nat → Int32
  | 0 => 0
  | c + 1 => if row (8 + 3 * topw row c) ≤ 0 then bgN row c else bgN row c + 1
theorem sub_add1 (a b : Int32) : a - (b + 1) = a - b + -1 := by
  rw [Int32.sub_eq_add_neg, Int32.sub_eq_add_neg, Int32.neg_add, Int32.add_assoc, Int32.sub_eq_add_neg]
theorem bgN_lk (row : Nat → Int32) (n : Nat) : row 3 - bgN row n = lkN row n := by
  induction n with
  | zero => exact Int32.sub_zero _
  | succ n ih =>
    rw [bgN, lkN]
    split
    · exact ih
    · rw [← ih]
      exact sub_add1 _ _
theorem i32_le_or {a b : Int32} : a ≤ b ∨ b < a := by
  rw [Int32.le_iff_toInt_le, Int32.lt_iff_toInt_lt]
  omega
/-- a search: from nought on, till P holds; the answer is a at the first, else b -/
theorem xloop_find {σ ρ : Type} {f : σ → Option (σ ⊕ ρ)} {n : Nat} (P : Nat → Prop) (st : Nat → σ) (a : Nat → ρ) (b : ρ) (hgo : ∀ k, k < n → ¬ P k → f (st k) = some (.inl (st (k + 1)))) (hstop : ∀ k, k < n → P k → f (st k) = some (.inr (a k))) (hend : f (st n) = some (.inr b)) : (∃ k, k < n ∧ P k ∧ (∀ j, j < k → ¬ P j) ∧ xloop f (st 0) = some (a k)) ∨ ((∀ k, k < n → ¬ P k) ∧ xloop f (st 0) = some b) := by
  have h : ∀ m k, k + m = n → (∀ j, j < k → ¬ P j) → (∃ i, i < n ∧ P i ∧ (∀ j, j < i → ¬ P j) ∧ xloop f (st k) = some (a i)) ∨ ((∀ i, i < n → ¬ P i) ∧ xloop f (st k) = some b) := by
    intro m
    induction m with
    | zero =>
      intro k hk hj
      refine Or.inr ⟨fun i hi => hj i (by omega), ?_⟩
      rw [xloop_eq, show k = n by omega, hend]
      rfl
    | succ m ih =>
      intro k hk hj
      by_cases hp : P k
      · refine Or.inl ⟨k, by omega, hp, hj, ?_⟩
        rw [xloop_eq, hstop k (by omega) hp]
        rfl
      · rw [xloop_eq, hgo k (by omega) hp]
        refine ih (k + 1) (by omega) fun j h => ?_
        by_cases e : j = k
        · rw [e]
          exact hp
        · exact hj j (by omega)
  exact h n 0 (by omega) fun j h => absurd h (Nat.not_lt_zero j)
theorem loop_find {σ ρ α : Type} {f : σ → Option (σ ⊕ ρ)} {K : ρ → Option α} {z : Option α} {n : Nat} (P : Nat → Prop) (st : Nat → σ) (a : Nat → ρ) (b : ρ) (hgo : ∀ k, k < n → ¬ P k → f (st k) = some (.inl (st (k + 1)))) (hstop : ∀ k, k < n → P k → f (st k) = some (.inr (a k))) (hend : f (st n) = some (.inr b)) (hA : ∀ k, k < n → P k → (∀ j, j < k → ¬ P j) → K (a k) = z) (hB : (∀ k, k < n → ¬ P k) → K b = z) : (xloop f (st 0)).bind K = z := by
  rcases xloop_find P st a b hgo hstop hend with ⟨k, h1, h2, h3, e⟩ | ⟨h1, e⟩
  · exact loop_b e (hA k h1 h2 h3)
  · exact loop_b e (hB h1)
section
variable {S p q n t u x : Nat} {row : Nat → Int32} {nm : Nat → Int64} {g : AH} {X : Nat → Nat → Int32} {Y : Nat → Nat → Int64}
theorem RS.coin (R : RS S row nm p q n t u x g X Y) {c : Nat} (hc : c < n) : X (S + 4) c = row (120 + 32 * c) ∧ X (S + 5) c = row (120 + 32 * c + 1) ∧ X (S + 6) c = row (120 + 32 * c + 2) ∧ X (S + 7) c = row (120 + 32 * c + 3) := (R.c c hc).1
theorem RS.tp (R : RS S row nm p q n t u x g X Y) {c : Nat} (hc : c < n) (hx : c ≠ x) : X (S + 8) (9 * c) = row (120 + 32 * c + 4) := by
  obtain ⟨s, y, h1, h2, h3, h4, h5, h6⟩ := (R.O.2.2.2.2.2.1 c hc).2.2
  have := (R.c c hc).2 0 (by rw [h5, ix_I (by omega)]; exact Nat.pos_of_ne_zero fun h => hx (h3 h))
  exact this.1
theorem s_top (R : RS S row nm p q n t u x g X Y) {c : Nat} (hc : c < n) (hx : c ≠ x) : fS_top S (I c) (mh g X Y) = some (row (120 + 32 * c + 4)) := by
  have hn := R.O.n40
  unfold fS_top
  simp (disch := omega) only [Option.bind_some, R.K.ck, R.K.gi, R.K.pi, R.K.r0, R.K.r1, R.K.r2, R.K.r3, R.K.r4, R.K.r5, R.K.r6, R.K.r7, R.K.r8, R.K.r9, R.K.r10, R.K.r11, R.K.r12, R.K.r13, R.K.r14, R.K.r15, R.K.r16, R.K.r17, R.K.r18, R.K.r19, R.K.r20, R.K.g1, R.K.g2, R.K.g3, R.K.g4, R.K.g5, R.K.g6, R.K.g7, R.K.g8, R.K.g9, R.K.g10, R.K.g11, R.K.g12, R.K.g13, R.K.g14, R.K.g15, R.K.g16, R.K.g17, R.K.g18, R.K.g19, R.K.g20, R.K.s1, R.K.s2, R.K.s3, R.K.s4, R.K.s5, R.K.s6, R.K.s7, R.K.s8, R.K.s9, R.K.s10, R.K.s11, R.K.s12, R.K.s14, R.K.s15, R.K.s16, R.K.s17, R.K.s18, R.K.s19, R.K.s20, R.L.r0, R.L.r1, R.L.g2, R.L.g3, R.L.g4, R.L.g5, R.L.g6, R.L.g7, R.L.g8, R.L.who R.O.p8, R.L.mint R.O.q4, R.L.begs, R.L.owes, R.L.tk, R.L.takes, R.L.loss, R.L.blur, I_add, I_mul, I_addl, I_ladd, I_lmul, I_mull, I_add0, up_s, up_n, xu_s, xu_n, R.tp hc hx]
theorem s_bar (R : RS S row nm p q n t u x g X Y) {a b : Int32} {w : Nat} (hw : w < q) : fS_bar S a b (I w) (mh g X Y) = some (wrS row a b w) := by
  have hq := R.O.q4
  have h2 := R.b.2 w hw
  have h3 := (R.O.2.2.2.2.1 w hw).2.2
  unfold fS_bar wrS
  simp (disch := omega) only [Option.bind_some, R.K.ck, R.K.gi, R.K.pi, R.K.r0, R.K.r1, R.K.r2, R.K.r3, R.K.r4, R.K.r5, R.K.r6, R.K.r7, R.K.r8, R.K.r9, R.K.r10, R.K.r11, R.K.r12, R.K.r13, R.K.r14, R.K.r15, R.K.r16, R.K.r17, R.K.r18, R.K.r19, R.K.r20, R.K.g1, R.K.g2, R.K.g3, R.K.g4, R.K.g5, R.K.g6, R.K.g7, R.K.g8, R.K.g9, R.K.g10, R.K.g11, R.K.g12, R.K.g13, R.K.g14, R.K.g15, R.K.g16, R.K.g17, R.K.g18, R.K.g19, R.K.g20, R.K.s1, R.K.s2, R.K.s3, R.K.s4, R.K.s5, R.K.s6, R.K.s7, R.K.s8, R.K.s9, R.K.s10, R.K.s11, R.K.s12, R.K.s14, R.K.s15, R.K.s16, R.K.s17, R.K.s18, R.K.s19, R.K.s20, R.L.r0, R.L.r1, R.L.g2, R.L.g3, R.L.g4, R.L.g5, R.L.g6, R.L.g7, R.L.g8, R.L.who R.O.p8, R.L.mint R.O.q4, R.L.begs, R.L.owes, R.L.tk, R.L.takes, R.L.loss, R.L.blur, I_add, I_mul, I_addl, I_ladd, I_lmul, I_mull, I_add0, up_s, up_n, xu_s, xu_n, c_has', h2, b01 h3]
  split
  · split
    · split <;> rfl
    · rfl
  · rfl
theorem s_luck (R : RS S row nm p q n t u 99 g X Y) : fS_luck S (mh g X Y) = some (luckS row n) := by
  have hn := R.O.n40
  have hp := R.O.p8
  unfold fS_luck
  refine loop_b (xloop_for (n := n) (r := (S, bgN row n)) (fun k => (S, bgN row k, I k)) (fun k hk => ?_) ?_) ?_
  · obtain ⟨w, hw, e⟩ := R.O.top hk (by omega)
    have e1 : topw row k = w := by unfold topw; rw [e, ix_I (by omega)]
    have h3 := (R.O.2.2.1 w hw).1
    show fS_luck_l4 S (bgN row k) (I k) _ = _
    unfold fS_luck_l4
    simp (disch := omega) only [Option.bind_some, R.K.ck, R.K.gi, R.K.pi, R.K.r0, R.K.r1, R.K.r2, R.K.r3, R.K.r4, R.K.r5, R.K.r6, R.K.r7, R.K.r8, R.K.r9, R.K.r10, R.K.r11, R.K.r12, R.K.r13, R.K.r14, R.K.r15, R.K.r16, R.K.r17, R.K.r18, R.K.r19, R.K.r20, R.K.g1, R.K.g2, R.K.g3, R.K.g4, R.K.g5, R.K.g6, R.K.g7, R.K.g8, R.K.g9, R.K.g10, R.K.g11, R.K.g12, R.K.g13, R.K.g14, R.K.g15, R.K.g16, R.K.g17, R.K.g18, R.K.g19, R.K.g20, R.K.s1, R.K.s2, R.K.s3, R.K.s4, R.K.s5, R.K.s6, R.K.s7, R.K.s8, R.K.s9, R.K.s10, R.K.s11, R.K.s12, R.K.s14, R.K.s15, R.K.s16, R.K.s17, R.K.s18, R.K.s19, R.K.s20, R.L.r0, R.L.r1, R.L.g2, R.L.g3, R.L.g4, R.L.g5, R.L.g6, R.L.g7, R.L.g8, R.L.who R.O.p8, R.L.mint R.O.q4, R.L.begs, R.L.owes, R.L.tk, R.L.takes, R.L.loss, R.L.blur, I_add, I_mul, I_addl, I_ladd, I_lmul, I_mull, I_add0, up_s, up_n, xu_s, xu_n, R.i.1, R.O.e108, I_le, show ¬ n ≤ k by omega, if_false, s_top R hk (show k ≠ 99 by omega), e, bgN, e1, b01 h3]
    split <;> rfl
  · show fS_luck_l4 S (bgN row n) (I n) _ = _
    unfold fS_luck_l4
    simp (disch := omega) only [Option.bind_some, R.K.ck, R.K.gi, R.K.pi, R.K.r0, R.K.r1, R.K.r2, R.K.r3, R.K.r4, R.K.r5, R.K.r6, R.K.r7, R.K.r8, R.K.r9, R.K.r10, R.K.r11, R.K.r12, R.K.r13, R.K.r14, R.K.r15, R.K.r16, R.K.r17, R.K.r18, R.K.r19, R.K.r20, R.K.g1, R.K.g2, R.K.g3, R.K.g4, R.K.g5, R.K.g6, R.K.g7, R.K.g8, R.K.g9, R.K.g10, R.K.g11, R.K.g12, R.K.g13, R.K.g14, R.K.g15, R.K.g16, R.K.g17, R.K.g18, R.K.g19, R.K.g20, R.K.s1, R.K.s2, R.K.s3, R.K.s4, R.K.s5, R.K.s6, R.K.s7, R.K.s8, R.K.s9, R.K.s10, R.K.s11, R.K.s12, R.K.s14, R.K.s15, R.K.s16, R.K.s17, R.K.s18, R.K.s19, R.K.s20, R.L.r0, R.L.r1, R.L.g2, R.L.g3, R.L.g4, R.L.g5, R.L.g6, R.L.g7, R.L.g8, R.L.who R.O.p8, R.L.mint R.O.q4, R.L.begs, R.L.owes, R.L.tk, R.L.takes, R.L.loss, R.L.blur, I_add, I_mul, I_addl, I_ladd, I_lmul, I_mull, I_add0, up_s, up_n, xu_s, xu_n, R.i.1, R.O.e108, I_le, Nat.le_refl, if_true]
  · show fS_luck_a45 S (bgN row n) _ = _
    unfold fS_luck_a45 luckS
    simp (disch := omega) only [Option.bind_some, R.K.ck, R.K.gi, R.K.pi, R.K.r0, R.K.r1, R.K.r2, R.K.r3, R.K.r4, R.K.r5, R.K.r6, R.K.r7, R.K.r8, R.K.r9, R.K.r10, R.K.r11, R.K.r12, R.K.r13, R.K.r14, R.K.r15, R.K.r16, R.K.r17, R.K.r18, R.K.r19, R.K.r20, R.K.g1, R.K.g2, R.K.g3, R.K.g4, R.K.g5, R.K.g6, R.K.g7, R.K.g8, R.K.g9, R.K.g10, R.K.g11, R.K.g12, R.K.g13, R.K.g14, R.K.g15, R.K.g16, R.K.g17, R.K.g18, R.K.g19, R.K.g20, R.K.s1, R.K.s2, R.K.s3, R.K.s4, R.K.s5, R.K.s6, R.K.s7, R.K.s8, R.K.s9, R.K.s10, R.K.s11, R.K.s12, R.K.s14, R.K.s15, R.K.s16, R.K.s17, R.K.s18, R.K.s19, R.K.s20, R.L.r0, R.L.r1, R.L.g2, R.L.g3, R.L.g4, R.L.g5, R.L.g6, R.L.g7, R.L.g8, R.L.who R.O.p8, R.L.mint R.O.q4, R.L.begs, R.L.owes, R.L.tk, R.L.takes, R.L.loss, R.L.blur, I_add, I_mul, I_addl, I_ladd, I_lmul, I_mull, I_add0, up_s, up_n, xu_s, xu_n, bgN_lk]
    rcases i32_le_or (a := lkN row n) (b := 0) with h | h
    · rw [if_neg (i32_nlt.mpr h), if_pos h]
    · rw [if_pos h, if_neg (fun h' => absurd h (i32_nlt.mpr h'))]
theorem s_hundredths (R : RS S row nm p q n t u x g X Y) {w v : Nat} {luck : Int32} (hw : w < p) (hv : v < p) : fS_hundredths S (I w) (I v) luck (mh g X Y) = some (hunS row w v luck) := by
  have hp := R.O.p8
  have h2 := R.b.1 v hv
  have h3 := R.O.2.2.1 v hv
  unfold fS_hundredths hunS hunB
  simp (disch := omega) only [Option.bind_some, R.K.ck, R.K.gi, R.K.pi, R.K.r0, R.K.r1, R.K.r2, R.K.r3, R.K.r4, R.K.r5, R.K.r6, R.K.r7, R.K.r8, R.K.r9, R.K.r10, R.K.r11, R.K.r12, R.K.r13, R.K.r14, R.K.r15, R.K.r16, R.K.r17, R.K.r18, R.K.r19, R.K.r20, R.K.g1, R.K.g2, R.K.g3, R.K.g4, R.K.g5, R.K.g6, R.K.g7, R.K.g8, R.K.g9, R.K.g10, R.K.g11, R.K.g12, R.K.g13, R.K.g14, R.K.g15, R.K.g16, R.K.g17, R.K.g18, R.K.g19, R.K.g20, R.K.s1, R.K.s2, R.K.s3, R.K.s4, R.K.s5, R.K.s6, R.K.s7, R.K.s8, R.K.s9, R.K.s10, R.K.s11, R.K.s12, R.K.s14, R.K.s15, R.K.s16, R.K.s17, R.K.s18, R.K.s19, R.K.s20, R.L.r0, R.L.r1, R.L.g2, R.L.g3, R.L.g4, R.L.g5, R.L.g6, R.L.g7, R.L.g8, R.L.who R.O.p8, R.L.mint R.O.q4, R.L.begs, R.L.owes, R.L.tk, R.L.takes, R.L.loss, R.L.blur, I_add, I_mul, I_addl, I_ladd, I_lmul, I_mull, I_add0, up_s, up_n, xu_s, xu_n, c_has', h2, b01 h3.1, b01 h3.2.1, b01 h3.2.2, I_inj, fS_hundredths_b87, sub1, Int32.sub_self]
  repeat' split
  all_goals rfl
theorem s_value (R : RS S row nm p q n t u 99 g X Y) {w c : Nat} (hw : w < p) (hc : c < n) : fS_value S (I w) (I c) (luckS row n) (mh g X Y) = some (valS row w c n) := by
  have hp := R.O.p8
  have hn := R.O.n40
  obtain ⟨v, hv, e⟩ := R.O.top hc (by omega)
  have e1 : topw row c = v := by unfold topw; rw [e, ix_I (by omega)]
  unfold fS_value valS
  simp (disch := omega) only [Option.bind_some, R.K.ck, R.K.gi, R.K.pi, R.K.r0, R.K.r1, R.K.r2, R.K.r3, R.K.r4, R.K.r5, R.K.r6, R.K.r7, R.K.r8, R.K.r9, R.K.r10, R.K.r11, R.K.r12, R.K.r13, R.K.r14, R.K.r15, R.K.r16, R.K.r17, R.K.r18, R.K.r19, R.K.r20, R.K.g1, R.K.g2, R.K.g3, R.K.g4, R.K.g5, R.K.g6, R.K.g7, R.K.g8, R.K.g9, R.K.g10, R.K.g11, R.K.g12, R.K.g13, R.K.g14, R.K.g15, R.K.g16, R.K.g17, R.K.g18, R.K.g19, R.K.g20, R.K.s1, R.K.s2, R.K.s3, R.K.s4, R.K.s5, R.K.s6, R.K.s7, R.K.s8, R.K.s9, R.K.s10, R.K.s11, R.K.s12, R.K.s14, R.K.s15, R.K.s16, R.K.s17, R.K.s18, R.K.s19, R.K.s20, R.L.r0, R.L.r1, R.L.g2, R.L.g3, R.L.g4, R.L.g5, R.L.g6, R.L.g7, R.L.g8, R.L.who R.O.p8, R.L.mint R.O.q4, R.L.begs, R.L.owes, R.L.tk, R.L.takes, R.L.loss, R.L.blur, I_add, I_mul, I_addl, I_ladd, I_lmul, I_mull, I_add0, up_s, up_n, xu_s, xu_n, s_top R hc (show c ≠ 99 by omega), e, e1, (R.coin hc).1, s_hundredths R hw hv]
  rfl
theorem or01 {a b : Int32} (ha : a = 0 ∨ a = 1) (hb : b = 0 ∨ b = 1) : (a ||| b = 0 ∨ a ||| b = 1) ∧ (a ||| b = 0 ↔ a = 0 ∧ b = 0) := by
  rcases ha with rfl | rfl <;> rcases hb with rfl | rfl <;> decide
theorem sfN_ok (O : RowX row p q n t u x) {c y : Nat} (hc : c < n) (hy : row (120 + 32 * c + 3) = I y) (hy2 : y < 2 ^ 31) (j : Nat) (hj : j ≤ y) : (sfN row c j = 0 ∨ sfN row c j = 1) ∧ (sfN row c j = 0 ↔ ∀ i, i < j → row (1400 + 6 * ix (row (120 + 32 * c + (4 + 3 * i + 2))) + 5) = 0) := by
  have ht := O.t500
  obtain ⟨s, y', h1, h2, h3, h4, h5, h6⟩ := (O.2.2.2.2.2.1 c hc).2.2
  have ey : y' = y := (I_inj (by omega) hy2).mp (h5.symm.trans hy)
  subst ey
  induction j with
  | zero => exact ⟨Or.inl rfl, fun _ i hi => absurd hi (Nat.not_lt_zero i), fun _ => rfl⟩
  | succ j ih =>
    obtain ⟨i1, i2⟩ := ih (by omega)
    obtain ⟨-, -, k, hk, e⟩ := h6 j hj
    have hb := (O.2.2.2.2.2.2.1 k hk).2.2.2
    rw [sfN, e, ix_I (by omega)]
    obtain ⟨o1, o2⟩ := or01 i1 hb
    refine ⟨o1, o2.trans ⟨fun ⟨a, b⟩ i hi => ?_, fun a => ⟨i2.mpr fun i hi => a i (by omega), ?_⟩⟩⟩
    · by_cases h : i = j
      · rw [h, e, ix_I (by omega)]
        exact b
      · exact i2.mp a i (by omega)
    · have := a j (by omega)
      rw [e, ix_I (by omega)] at this
      exact this
theorem s_showsFalse (R : RS S row nm p q n t u x g X Y) {c : Nat} (hc : c < n) : fS_showsFalse S (I c) (mh g X Y) = some (sfN row c (ix (row (120 + 32 * c + 3)))) := by
  have hn := R.O.n40
  have ht := R.O.t500
  obtain ⟨s, y, h1, h2, h3, h4, h5, h6⟩ := (R.O.2.2.2.2.2.1 c hc).2.2
  obtain ⟨o1, o2⟩ := sfN_ok R.O hc h5 (by omega) y (Nat.le_refl y)
  rw [h5, ix_I (by omega)]
  unfold fS_showsFalse
  refine loop_find (n := y) (fun i => row (1400 + 6 * ix (row (120 + 32 * c + (4 + 3 * i + 2))) + 5) ≠ 0) (fun k => (S, I c, I k)) (fun _ => Sum.inr 1) (Sum.inl ()) (fun k hk hp => ?_) (fun k hk hp => ?_) ?_ (fun k hk hp _ => ?_) (fun hp => ?_)
  · obtain ⟨-, -, w, hw, e⟩ := h6 k hk
    have h7 := ((R.c c hc).2 k (by rw [h5, ix_I (by omega)]; exact hk)).2.2
    have h8 := (R.s w hw).2.2.2.2.2
    rw [e, ix_I (by omega)] at hp
    show fS_showsFalse_l2 S (I c) (I k) _ = _
    unfold fS_showsFalse_l2
    simp (disch := omega) only [Option.bind_some, R.K.ck, R.K.gi, R.K.pi, R.K.r0, R.K.r1, R.K.r2, R.K.r3, R.K.r4, R.K.r5, R.K.r6, R.K.r7, R.K.r8, R.K.r9, R.K.r10, R.K.r11, R.K.r12, R.K.r13, R.K.r14, R.K.r15, R.K.r16, R.K.r17, R.K.r18, R.K.r19, R.K.r20, R.K.g1, R.K.g2, R.K.g3, R.K.g4, R.K.g5, R.K.g6, R.K.g7, R.K.g8, R.K.g9, R.K.g10, R.K.g11, R.K.g12, R.K.g13, R.K.g14, R.K.g15, R.K.g16, R.K.g17, R.K.g18, R.K.g19, R.K.g20, R.K.s1, R.K.s2, R.K.s3, R.K.s4, R.K.s5, R.K.s6, R.K.s7, R.K.s8, R.K.s9, R.K.s10, R.K.s11, R.K.s12, R.K.s14, R.K.s15, R.K.s16, R.K.s17, R.K.s18, R.K.s19, R.K.s20, R.L.r0, R.L.r1, R.L.g2, R.L.g3, R.L.g4, R.L.g5, R.L.g6, R.L.g7, R.L.g8, R.L.who R.O.p8, R.L.mint R.O.q4, R.L.begs, R.L.owes, R.L.tk, R.L.takes, R.L.loss, R.L.blur, I_add, I_mul, I_addl, I_ladd, I_lmul, I_mull, I_add0, up_s, up_n, xu_s, xu_n, (R.coin hc).2.2.2, h5, I_le, show ¬ y ≤ k by omega, if_false, h7, e, h8, Classical.not_not.mp hp, if_true]
  · obtain ⟨-, -, w, hw, e⟩ := h6 k hk
    have h7 := ((R.c c hc).2 k (by rw [h5, ix_I (by omega)]; exact hk)).2.2
    have h8 := (R.s w hw).2.2.2.2.2
    rw [e, ix_I (by omega)] at hp
    show fS_showsFalse_l2 S (I c) (I k) _ = _
    unfold fS_showsFalse_l2
    simp (disch := omega) only [Option.bind_some, R.K.ck, R.K.gi, R.K.pi, R.K.r0, R.K.r1, R.K.r2, R.K.r3, R.K.r4, R.K.r5, R.K.r6, R.K.r7, R.K.r8, R.K.r9, R.K.r10, R.K.r11, R.K.r12, R.K.r13, R.K.r14, R.K.r15, R.K.r16, R.K.r17, R.K.r18, R.K.r19, R.K.r20, R.K.g1, R.K.g2, R.K.g3, R.K.g4, R.K.g5, R.K.g6, R.K.g7, R.K.g8, R.K.g9, R.K.g10, R.K.g11, R.K.g12, R.K.g13, R.K.g14, R.K.g15, R.K.g16, R.K.g17, R.K.g18, R.K.g19, R.K.g20, R.K.s1, R.K.s2, R.K.s3, R.K.s4, R.K.s5, R.K.s6, R.K.s7, R.K.s8, R.K.s9, R.K.s10, R.K.s11, R.K.s12, R.K.s14, R.K.s15, R.K.s16, R.K.s17, R.K.s18, R.K.s19, R.K.s20, R.L.r0, R.L.r1, R.L.g2, R.L.g3, R.L.g4, R.L.g5, R.L.g6, R.L.g7, R.L.g8, R.L.who R.O.p8, R.L.mint R.O.q4, R.L.begs, R.L.owes, R.L.tk, R.L.takes, R.L.loss, R.L.blur, I_add, I_mul, I_addl, I_ladd, I_lmul, I_mull, I_add0, up_s, up_n, xu_s, xu_n, (R.coin hc).2.2.2, h5, I_le, show ¬ y ≤ k by omega, if_false, h7, e, h8, hp]
  · show fS_showsFalse_l2 S (I c) (I y) _ = _
    unfold fS_showsFalse_l2
    simp (disch := omega) only [Option.bind_some, R.K.ck, R.K.gi, R.K.pi, R.K.r0, R.K.r1, R.K.r2, R.K.r3, R.K.r4, R.K.r5, R.K.r6, R.K.r7, R.K.r8, R.K.r9, R.K.r10, R.K.r11, R.K.r12, R.K.r13, R.K.r14, R.K.r15, R.K.r16, R.K.r17, R.K.r18, R.K.r19, R.K.r20, R.K.g1, R.K.g2, R.K.g3, R.K.g4, R.K.g5, R.K.g6, R.K.g7, R.K.g8, R.K.g9, R.K.g10, R.K.g11, R.K.g12, R.K.g13, R.K.g14, R.K.g15, R.K.g16, R.K.g17, R.K.g18, R.K.g19, R.K.g20, R.K.s1, R.K.s2, R.K.s3, R.K.s4, R.K.s5, R.K.s6, R.K.s7, R.K.s8, R.K.s9, R.K.s10, R.K.s11, R.K.s12, R.K.s14, R.K.s15, R.K.s16, R.K.s17, R.K.s18, R.K.s19, R.K.s20, R.L.r0, R.L.r1, R.L.g2, R.L.g3, R.L.g4, R.L.g5, R.L.g6, R.L.g7, R.L.g8, R.L.who R.O.p8, R.L.mint R.O.q4, R.L.begs, R.L.owes, R.L.tk, R.L.takes, R.L.loss, R.L.blur, I_add, I_mul, I_addl, I_ladd, I_lmul, I_mull, I_add0, up_s, up_n, xu_s, xu_n, (R.coin hc).2.2.2, h5, I_le, Nat.le_refl, if_true]
  · rcases o1 with o1 | o1
    · exact absurd (o2.mp o1 k hk) hp
    · rw [o1]
      rfl
  · exact congrArg some (o2.mpr fun i hi => Classical.not_not.mp (hp i hi)).symm
end
