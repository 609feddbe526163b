/-! PL 18: a State against a row; what the component reads off it -/
set_option maxRecDepth 100000
set_option linter.unusedSimpArgs false
set_option linter.unusedVariables false
/-- a Law L against a row's head and the reference's names; g the structure, X the ints, Y the longs -/
def RL (L : Nat) (row : Nat → Int32) (nm : Nat → Int64) (p q : Nat) (g : AH) (X : Nat → Nat → Int32) (Y : Nat → Nat → Int64) : Prop := LL L g ∧ (∀ k, k < 7 → X L (2 + k) = row k) ∧
  (∀ w, w < p → (hkd g (hrv g (L + 1) w) = 7 ∧ X (hrv g (L + 1) w) 1 = row (8 + 3 * w) ∧ X (hrv g (L + 1) w) 2 = row (8 + 3 * w + 1) ∧ NC (Y (hrv g (L + 1) w) 0) (nm w)) ∧
    hkd g (hrv g (hrv g (L + 1) w) 3) = 100 ∧ hln g (hrv g (hrv g (L + 1) w) 3) = 8 ∧ ∀ b, b < 8 → X (hrv g (hrv g (L + 1) w) 3) b = row (44 + 8 * w + b) - 1) ∧
  ∀ m, m < q → hkd g (hrv g (L + 2) m) = 8 ∧ X (hrv g (L + 2) m) 1 = row (32 + 3 * m) ∧ X (hrv g (L + 2) m) 2 = row (32 + 3 * m + 1) ∧ NC (Y (hrv g (L + 2) m) 0) (nm (8 + m))
/-- the State's own numbers against the row -/
def RI (S : Nat) (row : Nat → Int32) (X : Nat → Nat → Int32) : Prop := X S 21 = row 108 ∧ X S 22 = row 112 ∧ X S 23 = row 113 ∧ X S 24 = row 109 ∧ X S 27 = row 110 ∧ X S 28 = row 111 ∧ X S 29 = row 114 ∧ X S 30 = row 115
def RB (S : Nat) (row : Nat → Int32) (p q : Nat) (X : Nat → Nat → Int32) : Prop := (∀ w, w < p → bit (X S 25) w = row (8 + 3 * w + 2)) ∧ ∀ m, m < q → bit (X S 26) m = row (32 + 3 * m + 2)
def RCo (S : Nat) (row : Nat → Int32) (n : Nat) (X : Nat → Nat → Int32) : Prop := ∀ c, c < n → (X (S + 4) c = row (120 + 32 * c) ∧ X (S + 5) c = row (120 + 32 * c + 1) ∧ X (S + 6) c = row (120 + 32 * c + 2) ∧ X (S + 7) c = row (120 + 32 * c + 3)) ∧
    ∀ i, i < ix (row (120 + 32 * c + 3)) → X (S + 8) (9 * c + i) = row (120 + 32 * c + (4 + 3 * i)) ∧ X (S + 9) (9 * c + i) = row (120 + 32 * c + (4 + 3 * i + 1)) ∧ X (S + 10) (9 * c + i) = row (120 + 32 * c + (4 + 3 * i + 2))
def RSt (S : Nat) (row : Nat → Int32) (t : Nat) (X : Nat → Nat → Int32) : Prop := ∀ k, k < t → X (S + 11) k = row (1400 + 6 * k) ∧ X (S + 12) k = row (1400 + 6 * k + 1) ∧ X (S + 13) k = row (1400 + 6 * k + 2) ∧ X (S + 14) k = row (1400 + 6 * k + 3) ∧ X (S + 15) k = row (1400 + 6 * k + 4) ∧ X (S + 16) k = row (1400 + 6 * k + 5)
def RSa (S : Nat) (row : Nat → Int32) (u : Nat) (X : Nat → Nat → Int32) : Prop := ∀ k, k < u → X (S + 17) k = row (4400 + 7 * k) ∧ X (S + 18) k = row (4400 + 7 * k + 1) ∧ X (S + 19) k = row (4400 + 7 * k + 2) ∧ X (S + 20) k = row (4400 + 7 * k + 3) ∧ X (S + 21) k = row (4400 + 7 * k + 4) ∧ X (S + 22) k = row (4400 + 7 * k + 5) ∧ X (S + 23) k = row (4400 + 7 * k + 6)
/-- a State S against a row -/
def RS (S : Nat) (row : Nat → Int32) (nm : Nat → Int64) (p q n t u x : Nat) (g : AH) (X : Nat → Nat → Int32) (Y : Nat → Nat → Int64) : Prop := LSt S g ∧ RowX row p q n t u x ∧ RL (hrv g S 0) row nm p q g X Y ∧ RI S row X ∧ RB S row p q X ∧ RCo S row n X ∧ RSt S row t X ∧ RSa S row u X
section
variable {S p q n t u x : Nat} {row : Nat → Int32} {nm : Nat → Int64} {g : AH} {X : Nat → Nat → Int32} {Y : Nat → Nat → Int64}
/-! the layout alone -/
theorem LSt.ck {β : Type} (K : LSt S g) (f : Option β) : xck (mh g X Y) S 3 f = f := if_pos K.1
theorem LSt.gi (K : LSt S g) (k : Nat) : xgi (mh g X Y) S [3] k = some (X S k) := by
  unfold xgi
  rw [mh_kd, mh_iv, if_pos (by rw [K.1]; decide)]
theorem LSt.pi (K : LSt S g) (k : Nat) (v : Int32) : xpi (mh g X Y) S [3] k v = some (mh g (xu X S k v) Y) := by
  unfold xpi
  rw [mh_kd, mh_I, if_pos (by rw [K.1]; decide)]
theorem LSt.r0 (K : LSt S g) : xgr (mh g X Y) S [3] 0 = some (hrv g S 0) := by
  unfold xgr
  rw [mh_kd, mh_rv, if_pos (by rw [K.1]; decide)]
theorem LSt.r1 (K : LSt S g) : xgr (mh g X Y) S [3] 1 = some (S + 4) := by
  unfold xgr
  rw [mh_kd, mh_rv, if_pos (by rw [K.1]; decide)]
  exact congrArg some (K.2 0 (by decide)).1
theorem LSt.k1 (K : LSt S g) : hkd g (S + 4) = 100 ∧ hln g (S + 4) = 40 := (K.2 0 (by decide)).2
theorem LSt.g1 (K : LSt S g) {i : Nat} (hi : i < 40) : xai (mh g X Y) (S + 4) 100 (I i) = some (X (S + 4) i) := by
  unfold xai
  rw [mh_kd, mh_ln, mh_iv, I_int (by omega), I_nat (by omega), if_pos ⟨K.k1.1, by omega, by rw [K.k1.2]; omega⟩]
theorem LSt.s1 (K : LSt S g) {i : Nat} (v : Int32) (hi : i < 40) : xsi (mh g X Y) (S + 4) (I i) v = some (mh g (xu X (S + 4) i v) Y) := by
  unfold xsi
  rw [mh_kd, mh_ln, mh_I, I_int (by omega), I_nat (by omega), if_pos ⟨K.k1.1, by omega, by rw [K.k1.2]; omega⟩]
theorem LSt.r2 (K : LSt S g) : xgr (mh g X Y) S [3] 2 = some (S + 5) := by
  unfold xgr
  rw [mh_kd, mh_rv, if_pos (by rw [K.1]; decide)]
  exact congrArg some (K.2 1 (by decide)).1
theorem LSt.k2 (K : LSt S g) : hkd g (S + 5) = 100 ∧ hln g (S + 5) = 40 := (K.2 1 (by decide)).2
theorem LSt.g2 (K : LSt S g) {i : Nat} (hi : i < 40) : xai (mh g X Y) (S + 5) 100 (I i) = some (X (S + 5) i) := by
  unfold xai
  rw [mh_kd, mh_ln, mh_iv, I_int (by omega), I_nat (by omega), if_pos ⟨K.k2.1, by omega, by rw [K.k2.2]; omega⟩]
theorem LSt.s2 (K : LSt S g) {i : Nat} (v : Int32) (hi : i < 40) : xsi (mh g X Y) (S + 5) (I i) v = some (mh g (xu X (S + 5) i v) Y) := by
  unfold xsi
  rw [mh_kd, mh_ln, mh_I, I_int (by omega), I_nat (by omega), if_pos ⟨K.k2.1, by omega, by rw [K.k2.2]; omega⟩]
theorem LSt.r3 (K : LSt S g) : xgr (mh g X Y) S [3] 3 = some (S + 6) := by
  unfold xgr
  rw [mh_kd, mh_rv, if_pos (by rw [K.1]; decide)]
  exact congrArg some (K.2 2 (by decide)).1
theorem LSt.k3 (K : LSt S g) : hkd g (S + 6) = 100 ∧ hln g (S + 6) = 40 := (K.2 2 (by decide)).2
theorem LSt.g3 (K : LSt S g) {i : Nat} (hi : i < 40) : xai (mh g X Y) (S + 6) 100 (I i) = some (X (S + 6) i) := by
  unfold xai
  rw [mh_kd, mh_ln, mh_iv, I_int (by omega), I_nat (by omega), if_pos ⟨K.k3.1, by omega, by rw [K.k3.2]; omega⟩]
theorem LSt.s3 (K : LSt S g) {i : Nat} (v : Int32) (hi : i < 40) : xsi (mh g X Y) (S + 6) (I i) v = some (mh g (xu X (S + 6) i v) Y) := by
  unfold xsi
  rw [mh_kd, mh_ln, mh_I, I_int (by omega), I_nat (by omega), if_pos ⟨K.k3.1, by omega, by rw [K.k3.2]; omega⟩]
theorem LSt.r4 (K : LSt S g) : xgr (mh g X Y) S [3] 4 = some (S + 7) := by
  unfold xgr
  rw [mh_kd, mh_rv, if_pos (by rw [K.1]; decide)]
  exact congrArg some (K.2 3 (by decide)).1
theorem LSt.k4 (K : LSt S g) : hkd g (S + 7) = 100 ∧ hln g (S + 7) = 40 := (K.2 3 (by decide)).2
theorem LSt.g4 (K : LSt S g) {i : Nat} (hi : i < 40) : xai (mh g X Y) (S + 7) 100 (I i) = some (X (S + 7) i) := by
  unfold xai
  rw [mh_kd, mh_ln, mh_iv, I_int (by omega), I_nat (by omega), if_pos ⟨K.k4.1, by omega, by rw [K.k4.2]; omega⟩]
theorem LSt.s4 (K : LSt S g) {i : Nat} (v : Int32) (hi : i < 40) : xsi (mh g X Y) (S + 7) (I i) v = some (mh g (xu X (S + 7) i v) Y) := by
  unfold xsi
  rw [mh_kd, mh_ln, mh_I, I_int (by omega), I_nat (by omega), if_pos ⟨K.k4.1, by omega, by rw [K.k4.2]; omega⟩]
theorem LSt.r5 (K : LSt S g) : xgr (mh g X Y) S [3] 5 = some (S + 8) := by
  unfold xgr
  rw [mh_kd, mh_rv, if_pos (by rw [K.1]; decide)]
  exact congrArg some (K.2 4 (by decide)).1
theorem LSt.k5 (K : LSt S g) : hkd g (S + 8) = 100 ∧ hln g (S + 8) = 360 := (K.2 4 (by decide)).2
theorem LSt.g5 (K : LSt S g) {i : Nat} (hi : i < 360) : xai (mh g X Y) (S + 8) 100 (I i) = some (X (S + 8) i) := by
  unfold xai
  rw [mh_kd, mh_ln, mh_iv, I_int (by omega), I_nat (by omega), if_pos ⟨K.k5.1, by omega, by rw [K.k5.2]; omega⟩]
theorem LSt.s5 (K : LSt S g) {i : Nat} (v : Int32) (hi : i < 360) : xsi (mh g X Y) (S + 8) (I i) v = some (mh g (xu X (S + 8) i v) Y) := by
  unfold xsi
  rw [mh_kd, mh_ln, mh_I, I_int (by omega), I_nat (by omega), if_pos ⟨K.k5.1, by omega, by rw [K.k5.2]; omega⟩]
theorem LSt.r6 (K : LSt S g) : xgr (mh g X Y) S [3] 6 = some (S + 9) := by
  unfold xgr
  rw [mh_kd, mh_rv, if_pos (by rw [K.1]; decide)]
  exact congrArg some (K.2 5 (by decide)).1
theorem LSt.k6 (K : LSt S g) : hkd g (S + 9) = 100 ∧ hln g (S + 9) = 360 := (K.2 5 (by decide)).2
theorem LSt.g6 (K : LSt S g) {i : Nat} (hi : i < 360) : xai (mh g X Y) (S + 9) 100 (I i) = some (X (S + 9) i) := by
  unfold xai
  rw [mh_kd, mh_ln, mh_iv, I_int (by omega), I_nat (by omega), if_pos ⟨K.k6.1, by omega, by rw [K.k6.2]; omega⟩]
theorem LSt.s6 (K : LSt S g) {i : Nat} (v : Int32) (hi : i < 360) : xsi (mh g X Y) (S + 9) (I i) v = some (mh g (xu X (S + 9) i v) Y) := by
  unfold xsi
  rw [mh_kd, mh_ln, mh_I, I_int (by omega), I_nat (by omega), if_pos ⟨K.k6.1, by omega, by rw [K.k6.2]; omega⟩]
theorem LSt.r7 (K : LSt S g) : xgr (mh g X Y) S [3] 7 = some (S + 10) := by
  unfold xgr
  rw [mh_kd, mh_rv, if_pos (by rw [K.1]; decide)]
  exact congrArg some (K.2 6 (by decide)).1
theorem LSt.k7 (K : LSt S g) : hkd g (S + 10) = 100 ∧ hln g (S + 10) = 360 := (K.2 6 (by decide)).2
theorem LSt.g7 (K : LSt S g) {i : Nat} (hi : i < 360) : xai (mh g X Y) (S + 10) 100 (I i) = some (X (S + 10) i) := by
  unfold xai
  rw [mh_kd, mh_ln, mh_iv, I_int (by omega), I_nat (by omega), if_pos ⟨K.k7.1, by omega, by rw [K.k7.2]; omega⟩]
theorem LSt.s7 (K : LSt S g) {i : Nat} (v : Int32) (hi : i < 360) : xsi (mh g X Y) (S + 10) (I i) v = some (mh g (xu X (S + 10) i v) Y) := by
  unfold xsi
  rw [mh_kd, mh_ln, mh_I, I_int (by omega), I_nat (by omega), if_pos ⟨K.k7.1, by omega, by rw [K.k7.2]; omega⟩]
theorem LSt.r8 (K : LSt S g) : xgr (mh g X Y) S [3] 8 = some (S + 11) := by
  unfold xgr
  rw [mh_kd, mh_rv, if_pos (by rw [K.1]; decide)]
  exact congrArg some (K.2 7 (by decide)).1
theorem LSt.k8 (K : LSt S g) : hkd g (S + 11) = 100 ∧ hln g (S + 11) = 500 := (K.2 7 (by decide)).2
theorem LSt.g8 (K : LSt S g) {i : Nat} (hi : i < 500) : xai (mh g X Y) (S + 11) 100 (I i) = some (X (S + 11) i) := by
  unfold xai
  rw [mh_kd, mh_ln, mh_iv, I_int (by omega), I_nat (by omega), if_pos ⟨K.k8.1, by omega, by rw [K.k8.2]; omega⟩]
theorem LSt.s8 (K : LSt S g) {i : Nat} (v : Int32) (hi : i < 500) : xsi (mh g X Y) (S + 11) (I i) v = some (mh g (xu X (S + 11) i v) Y) := by
  unfold xsi
  rw [mh_kd, mh_ln, mh_I, I_int (by omega), I_nat (by omega), if_pos ⟨K.k8.1, by omega, by rw [K.k8.2]; omega⟩]
theorem LSt.r9 (K : LSt S g) : xgr (mh g X Y) S [3] 9 = some (S + 12) := by
  unfold xgr
  rw [mh_kd, mh_rv, if_pos (by rw [K.1]; decide)]
  exact congrArg some (K.2 8 (by decide)).1
theorem LSt.k9 (K : LSt S g) : hkd g (S + 12) = 100 ∧ hln g (S + 12) = 500 := (K.2 8 (by decide)).2
theorem LSt.g9 (K : LSt S g) {i : Nat} (hi : i < 500) : xai (mh g X Y) (S + 12) 100 (I i) = some (X (S + 12) i) := by
  unfold xai
  rw [mh_kd, mh_ln, mh_iv, I_int (by omega), I_nat (by omega), if_pos ⟨K.k9.1, by omega, by rw [K.k9.2]; omega⟩]
theorem LSt.s9 (K : LSt S g) {i : Nat} (v : Int32) (hi : i < 500) : xsi (mh g X Y) (S + 12) (I i) v = some (mh g (xu X (S + 12) i v) Y) := by
  unfold xsi
  rw [mh_kd, mh_ln, mh_I, I_int (by omega), I_nat (by omega), if_pos ⟨K.k9.1, by omega, by rw [K.k9.2]; omega⟩]
theorem LSt.r10 (K : LSt S g) : xgr (mh g X Y) S [3] 10 = some (S + 13) := by
  unfold xgr
  rw [mh_kd, mh_rv, if_pos (by rw [K.1]; decide)]
  exact congrArg some (K.2 9 (by decide)).1
theorem LSt.k10 (K : LSt S g) : hkd g (S + 13) = 100 ∧ hln g (S + 13) = 500 := (K.2 9 (by decide)).2
theorem LSt.g10 (K : LSt S g) {i : Nat} (hi : i < 500) : xai (mh g X Y) (S + 13) 100 (I i) = some (X (S + 13) i) := by
  unfold xai
  rw [mh_kd, mh_ln, mh_iv, I_int (by omega), I_nat (by omega), if_pos ⟨K.k10.1, by omega, by rw [K.k10.2]; omega⟩]
theorem LSt.s10 (K : LSt S g) {i : Nat} (v : Int32) (hi : i < 500) : xsi (mh g X Y) (S + 13) (I i) v = some (mh g (xu X (S + 13) i v) Y) := by
  unfold xsi
  rw [mh_kd, mh_ln, mh_I, I_int (by omega), I_nat (by omega), if_pos ⟨K.k10.1, by omega, by rw [K.k10.2]; omega⟩]
theorem LSt.r11 (K : LSt S g) : xgr (mh g X Y) S [3] 11 = some (S + 14) := by
  unfold xgr
  rw [mh_kd, mh_rv, if_pos (by rw [K.1]; decide)]
  exact congrArg some (K.2 10 (by decide)).1
theorem LSt.k11 (K : LSt S g) : hkd g (S + 14) = 100 ∧ hln g (S + 14) = 500 := (K.2 10 (by decide)).2
theorem LSt.g11 (K : LSt S g) {i : Nat} (hi : i < 500) : xai (mh g X Y) (S + 14) 100 (I i) = some (X (S + 14) i) := by
  unfold xai
  rw [mh_kd, mh_ln, mh_iv, I_int (by omega), I_nat (by omega), if_pos ⟨K.k11.1, by omega, by rw [K.k11.2]; omega⟩]
theorem LSt.s11 (K : LSt S g) {i : Nat} (v : Int32) (hi : i < 500) : xsi (mh g X Y) (S + 14) (I i) v = some (mh g (xu X (S + 14) i v) Y) := by
  unfold xsi
  rw [mh_kd, mh_ln, mh_I, I_int (by omega), I_nat (by omega), if_pos ⟨K.k11.1, by omega, by rw [K.k11.2]; omega⟩]
theorem LSt.r12 (K : LSt S g) : xgr (mh g X Y) S [3] 12 = some (S + 15) := by
  unfold xgr
  rw [mh_kd, mh_rv, if_pos (by rw [K.1]; decide)]
  exact congrArg some (K.2 11 (by decide)).1
theorem LSt.k12 (K : LSt S g) : hkd g (S + 15) = 100 ∧ hln g (S + 15) = 500 := (K.2 11 (by decide)).2
theorem LSt.g12 (K : LSt S g) {i : Nat} (hi : i < 500) : xai (mh g X Y) (S + 15) 100 (I i) = some (X (S + 15) i) := by
  unfold xai
  rw [mh_kd, mh_ln, mh_iv, I_int (by omega), I_nat (by omega), if_pos ⟨K.k12.1, by omega, by rw [K.k12.2]; omega⟩]
theorem LSt.s12 (K : LSt S g) {i : Nat} (v : Int32) (hi : i < 500) : xsi (mh g X Y) (S + 15) (I i) v = some (mh g (xu X (S + 15) i v) Y) := by
  unfold xsi
  rw [mh_kd, mh_ln, mh_I, I_int (by omega), I_nat (by omega), if_pos ⟨K.k12.1, by omega, by rw [K.k12.2]; omega⟩]
theorem LSt.r13 (K : LSt S g) : xgr (mh g X Y) S [3] 13 = some (S + 16) := by
  unfold xgr
  rw [mh_kd, mh_rv, if_pos (by rw [K.1]; decide)]
  exact congrArg some (K.2 12 (by decide)).1
theorem LSt.k13 (K : LSt S g) : hkd g (S + 16) = 101 ∧ hln g (S + 16) = 500 := (K.2 12 (by decide)).2
theorem LSt.g13 (K : LSt S g) {i : Nat} (hi : i < 500) : xai (mh g X Y) (S + 16) 101 (I i) = some (X (S + 16) i) := by
  unfold xai
  rw [mh_kd, mh_ln, mh_iv, I_int (by omega), I_nat (by omega), if_pos ⟨K.k13.1, by omega, by rw [K.k13.2]; omega⟩]
theorem LSt.s13 (K : LSt S g) {i : Nat} (v : Int32) (hi : i < 500) (hv : v = 0 ∨ v = 1) : xsz (mh g X Y) (S + 16) (I i) v = some (mh g (xu X (S + 16) i v) Y) := by
  unfold xsz
  rw [mh_kd, mh_ln, mh_I, I_int (by omega), I_nat (by omega), if_pos ⟨K.k13.1, by omega, by rw [K.k13.2]; omega, hv⟩]
theorem LSt.r14 (K : LSt S g) : xgr (mh g X Y) S [3] 14 = some (S + 17) := by
  unfold xgr
  rw [mh_kd, mh_rv, if_pos (by rw [K.1]; decide)]
  exact congrArg some (K.2 13 (by decide)).1
theorem LSt.k14 (K : LSt S g) : hkd g (S + 17) = 100 ∧ hln g (S + 17) = 500 := (K.2 13 (by decide)).2
theorem LSt.g14 (K : LSt S g) {i : Nat} (hi : i < 500) : xai (mh g X Y) (S + 17) 100 (I i) = some (X (S + 17) i) := by
  unfold xai
  rw [mh_kd, mh_ln, mh_iv, I_int (by omega), I_nat (by omega), if_pos ⟨K.k14.1, by omega, by rw [K.k14.2]; omega⟩]
theorem LSt.s14 (K : LSt S g) {i : Nat} (v : Int32) (hi : i < 500) : xsi (mh g X Y) (S + 17) (I i) v = some (mh g (xu X (S + 17) i v) Y) := by
  unfold xsi
  rw [mh_kd, mh_ln, mh_I, I_int (by omega), I_nat (by omega), if_pos ⟨K.k14.1, by omega, by rw [K.k14.2]; omega⟩]
theorem LSt.r15 (K : LSt S g) : xgr (mh g X Y) S [3] 15 = some (S + 18) := by
  unfold xgr
  rw [mh_kd, mh_rv, if_pos (by rw [K.1]; decide)]
  exact congrArg some (K.2 14 (by decide)).1
theorem LSt.k15 (K : LSt S g) : hkd g (S + 18) = 100 ∧ hln g (S + 18) = 500 := (K.2 14 (by decide)).2
theorem LSt.g15 (K : LSt S g) {i : Nat} (hi : i < 500) : xai (mh g X Y) (S + 18) 100 (I i) = some (X (S + 18) i) := by
  unfold xai
  rw [mh_kd, mh_ln, mh_iv, I_int (by omega), I_nat (by omega), if_pos ⟨K.k15.1, by omega, by rw [K.k15.2]; omega⟩]
theorem LSt.s15 (K : LSt S g) {i : Nat} (v : Int32) (hi : i < 500) : xsi (mh g X Y) (S + 18) (I i) v = some (mh g (xu X (S + 18) i v) Y) := by
  unfold xsi
  rw [mh_kd, mh_ln, mh_I, I_int (by omega), I_nat (by omega), if_pos ⟨K.k15.1, by omega, by rw [K.k15.2]; omega⟩]
theorem LSt.r16 (K : LSt S g) : xgr (mh g X Y) S [3] 16 = some (S + 19) := by
  unfold xgr
  rw [mh_kd, mh_rv, if_pos (by rw [K.1]; decide)]
  exact congrArg some (K.2 15 (by decide)).1
theorem LSt.k16 (K : LSt S g) : hkd g (S + 19) = 100 ∧ hln g (S + 19) = 500 := (K.2 15 (by decide)).2
theorem LSt.g16 (K : LSt S g) {i : Nat} (hi : i < 500) : xai (mh g X Y) (S + 19) 100 (I i) = some (X (S + 19) i) := by
  unfold xai
  rw [mh_kd, mh_ln, mh_iv, I_int (by omega), I_nat (by omega), if_pos ⟨K.k16.1, by omega, by rw [K.k16.2]; omega⟩]
theorem LSt.s16 (K : LSt S g) {i : Nat} (v : Int32) (hi : i < 500) : xsi (mh g X Y) (S + 19) (I i) v = some (mh g (xu X (S + 19) i v) Y) := by
  unfold xsi
  rw [mh_kd, mh_ln, mh_I, I_int (by omega), I_nat (by omega), if_pos ⟨K.k16.1, by omega, by rw [K.k16.2]; omega⟩]
theorem LSt.r17 (K : LSt S g) : xgr (mh g X Y) S [3] 17 = some (S + 20) := by
  unfold xgr
  rw [mh_kd, mh_rv, if_pos (by rw [K.1]; decide)]
  exact congrArg some (K.2 16 (by decide)).1
theorem LSt.k17 (K : LSt S g) : hkd g (S + 20) = 100 ∧ hln g (S + 20) = 500 := (K.2 16 (by decide)).2
theorem LSt.g17 (K : LSt S g) {i : Nat} (hi : i < 500) : xai (mh g X Y) (S + 20) 100 (I i) = some (X (S + 20) i) := by
  unfold xai
  rw [mh_kd, mh_ln, mh_iv, I_int (by omega), I_nat (by omega), if_pos ⟨K.k17.1, by omega, by rw [K.k17.2]; omega⟩]
theorem LSt.s17 (K : LSt S g) {i : Nat} (v : Int32) (hi : i < 500) : xsi (mh g X Y) (S + 20) (I i) v = some (mh g (xu X (S + 20) i v) Y) := by
  unfold xsi
  rw [mh_kd, mh_ln, mh_I, I_int (by omega), I_nat (by omega), if_pos ⟨K.k17.1, by omega, by rw [K.k17.2]; omega⟩]
theorem LSt.r18 (K : LSt S g) : xgr (mh g X Y) S [3] 18 = some (S + 21) := by
  unfold xgr
  rw [mh_kd, mh_rv, if_pos (by rw [K.1]; decide)]
  exact congrArg some (K.2 17 (by decide)).1
theorem LSt.k18 (K : LSt S g) : hkd g (S + 21) = 100 ∧ hln g (S + 21) = 500 := (K.2 17 (by decide)).2
theorem LSt.g18 (K : LSt S g) {i : Nat} (hi : i < 500) : xai (mh g X Y) (S + 21) 100 (I i) = some (X (S + 21) i) := by
  unfold xai
  rw [mh_kd, mh_ln, mh_iv, I_int (by omega), I_nat (by omega), if_pos ⟨K.k18.1, by omega, by rw [K.k18.2]; omega⟩]
theorem LSt.s18 (K : LSt S g) {i : Nat} (v : Int32) (hi : i < 500) : xsi (mh g X Y) (S + 21) (I i) v = some (mh g (xu X (S + 21) i v) Y) := by
  unfold xsi
  rw [mh_kd, mh_ln, mh_I, I_int (by omega), I_nat (by omega), if_pos ⟨K.k18.1, by omega, by rw [K.k18.2]; omega⟩]
theorem LSt.r19 (K : LSt S g) : xgr (mh g X Y) S [3] 19 = some (S + 22) := by
  unfold xgr
  rw [mh_kd, mh_rv, if_pos (by rw [K.1]; decide)]
  exact congrArg some (K.2 18 (by decide)).1
theorem LSt.k19 (K : LSt S g) : hkd g (S + 22) = 100 ∧ hln g (S + 22) = 500 := (K.2 18 (by decide)).2
theorem LSt.g19 (K : LSt S g) {i : Nat} (hi : i < 500) : xai (mh g X Y) (S + 22) 100 (I i) = some (X (S + 22) i) := by
  unfold xai
  rw [mh_kd, mh_ln, mh_iv, I_int (by omega), I_nat (by omega), if_pos ⟨K.k19.1, by omega, by rw [K.k19.2]; omega⟩]
theorem LSt.s19 (K : LSt S g) {i : Nat} (v : Int32) (hi : i < 500) : xsi (mh g X Y) (S + 22) (I i) v = some (mh g (xu X (S + 22) i v) Y) := by
  unfold xsi
  rw [mh_kd, mh_ln, mh_I, I_int (by omega), I_nat (by omega), if_pos ⟨K.k19.1, by omega, by rw [K.k19.2]; omega⟩]
theorem LSt.r20 (K : LSt S g) : xgr (mh g X Y) S [3] 20 = some (S + 23) := by
  unfold xgr
  rw [mh_kd, mh_rv, if_pos (by rw [K.1]; decide)]
  exact congrArg some (K.2 19 (by decide)).1
theorem LSt.k20 (K : LSt S g) : hkd g (S + 23) = 100 ∧ hln g (S + 23) = 500 := (K.2 19 (by decide)).2
theorem LSt.g20 (K : LSt S g) {i : Nat} (hi : i < 500) : xai (mh g X Y) (S + 23) 100 (I i) = some (X (S + 23) i) := by
  unfold xai
  rw [mh_kd, mh_ln, mh_iv, I_int (by omega), I_nat (by omega), if_pos ⟨K.k20.1, by omega, by rw [K.k20.2]; omega⟩]
theorem LSt.s20 (K : LSt S g) {i : Nat} (v : Int32) (hi : i < 500) : xsi (mh g X Y) (S + 23) (I i) v = some (mh g (xu X (S + 23) i v) Y) := by
  unfold xsi
  rw [mh_kd, mh_ln, mh_I, I_int (by omega), I_nat (by omega), if_pos ⟨K.k20.1, by omega, by rw [K.k20.2]; omega⟩]
/-! the law -/
theorem RL.r0 {L : Nat} (R : RL L row nm p q g X Y) : xgr (mh g X Y) L [4] 0 = some (L + 1) := by
  unfold xgr
  rw [mh_kd, mh_rv, if_pos (by rw [R.1.1]; decide), R.1.2.1.1]
theorem RL.r1 {L : Nat} (R : RL L row nm p q g X Y) : xgr (mh g X Y) L [4] 1 = some (L + 2) := by
  unfold xgr
  rw [mh_kd, mh_rv, if_pos (by rw [R.1.1]; decide), R.1.2.2.1]
theorem RL.gi {L k : Nat} (R : RL L row nm p q g X Y) (hk : k < 7) : xgi (mh g X Y) L [4] (2 + k) = some (row k) := by
  unfold xgi
  rw [mh_kd, mh_iv, if_pos (by rw [R.1.1]; decide), R.2.1 k hk]
theorem RL.g2 {L : Nat} (R : RL L row nm p q g X Y) : xgi (mh g X Y) L [4] 2 = some (row 0) := R.gi (k := 0) (by decide)
theorem RL.g3 {L : Nat} (R : RL L row nm p q g X Y) : xgi (mh g X Y) L [4] 3 = some (row 1) := R.gi (k := 1) (by decide)
theorem RL.g4 {L : Nat} (R : RL L row nm p q g X Y) : xgi (mh g X Y) L [4] 4 = some (row 2) := R.gi (k := 2) (by decide)
theorem RL.g5 {L : Nat} (R : RL L row nm p q g X Y) : xgi (mh g X Y) L [4] 5 = some (row 3) := R.gi (k := 3) (by decide)
theorem RL.g6 {L : Nat} (R : RL L row nm p q g X Y) : xgi (mh g X Y) L [4] 6 = some (row 4) := R.gi (k := 4) (by decide)
theorem RL.g7 {L : Nat} (R : RL L row nm p q g X Y) : xgi (mh g X Y) L [4] 7 = some (row 5) := R.gi (k := 5) (by decide)
theorem RL.g8 {L : Nat} (R : RL L row nm p q g X Y) : xgi (mh g X Y) L [4] 8 = some (row 6) := R.gi (k := 6) (by decide)
theorem RL.who {L w : Nat} (R : RL L row nm p q g X Y) (hp : p ≤ 8) (hw : w < p) : xar (mh g X Y) (L + 1) [105] (I w) = some (hrv g (L + 1) w) := by
  unfold xar
  rw [mh_kd, mh_ln, mh_rv, I_int (by omega), I_nat (by omega), if_pos ⟨by rw [R.1.2.1.2.1]; decide, by omega, by rw [R.1.2.1.2.2]; omega⟩]
theorem RL.mint {L w : Nat} (R : RL L row nm p q g X Y) (hq : q ≤ 4) (hw : w < q) : xar (mh g X Y) (L + 2) [106] (I w) = some (hrv g (L + 2) w) := by
  unfold xar
  rw [mh_kd, mh_ln, mh_rv, I_int (by omega), I_nat (by omega), if_pos ⟨by rw [R.1.2.2.2.1]; decide, by omega, by rw [R.1.2.2.2.2]; omega⟩]
theorem RL.begs {L w : Nat} (R : RL L row nm p q g X Y) (hw : w < p) : xgi (mh g X Y) (hrv g (L + 1) w) [7] 1 = some (row (8 + 3 * w)) := by
  have h := R.2.2.1 w hw
  unfold xgi
  rw [mh_kd, mh_iv, if_pos (by rw [h.1.1]; decide), h.1.2.1]
theorem RL.owes {L w : Nat} (R : RL L row nm p q g X Y) (hw : w < p) : xgi (mh g X Y) (hrv g (L + 1) w) [7] 2 = some (row (8 + 3 * w + 1)) := by
  have h := R.2.2.1 w hw
  unfold xgi
  rw [mh_kd, mh_iv, if_pos (by rw [h.1.1]; decide), h.1.2.2.1]
theorem RL.tk {L w : Nat} (R : RL L row nm p q g X Y) (hw : w < p) : xgr (mh g X Y) (hrv g (L + 1) w) [7] 3 = some (hrv g (hrv g (L + 1) w) 3) := by
  have h := R.2.2.1 w hw
  unfold xgr
  rw [mh_kd, mh_rv, if_pos (by rw [h.1.1]; decide)]
theorem RL.takes {L w b : Nat} (R : RL L row nm p q g X Y) (hw : w < p) (hb : b < 8) : xai (mh g X Y) (hrv g (hrv g (L + 1) w) 3) 100 (I b) = some (row (44 + 8 * w + b) - 1) := by
  have h := R.2.2.1 w hw
  unfold xai
  rw [mh_kd, mh_ln, mh_iv, I_int (by omega), I_nat (by omega), if_pos ⟨h.2.1, by omega, by rw [h.2.2.1]; omega⟩, h.2.2.2 b hb]
theorem RL.loss {L w : Nat} (R : RL L row nm p q g X Y) (hw : w < q) : xgi (mh g X Y) (hrv g (L + 2) w) [8] 1 = some (row (32 + 3 * w)) := by
  have h := R.2.2.2 w hw
  unfold xgi
  rw [mh_kd, mh_iv, if_pos (by rw [h.1]; decide), h.2.1]
theorem RL.blur {L w : Nat} (R : RL L row nm p q g X Y) (hw : w < q) : xgi (mh g X Y) (hrv g (L + 2) w) [8] 2 = some (row (32 + 3 * w + 1)) := by
  have h := R.2.2.2 w hw
  unfold xgi
  rw [mh_kd, mh_iv, if_pos (by rw [h.1]; decide), h.2.2.1]
theorem RS.K (R : RS S row nm p q n t u x g X Y) : LSt S g := R.1
theorem RS.O (R : RS S row nm p q n t u x g X Y) : RowX row p q n t u x := R.2.1
theorem RS.L (R : RS S row nm p q n t u x g X Y) : RL (hrv g S 0) row nm p q g X Y := R.2.2.1
theorem RS.i (R : RS S row nm p q n t u x g X Y) : RI S row X := R.2.2.2.1
theorem RS.b (R : RS S row nm p q n t u x g X Y) : RB S row p q X := R.2.2.2.2.1
theorem RS.c (R : RS S row nm p q n t u x g X Y) : RCo S row n X := R.2.2.2.2.2.1
theorem RS.s (R : RS S row nm p q n t u x g X Y) : RSt S row t X := R.2.2.2.2.2.2.1
theorem RS.a (R : RS S row nm p q n t u x g X Y) : RSa S row u X := R.2.2.2.2.2.2.2
end
theorem sub1 {x : Int32} : x - 1 = -1 ↔ x = 0 := by
  constructor
  · intro h
    have : x - 1 + 1 = -1 + 1 := by rw [h]
    rw [Int32.sub_add_cancel] at this
    exact this
  · rintro rfl
    rfl
theorem c_has' (v : Int32) {k : Nat} (h : AH) : fC_has v (I k) h = some (bit v k) := c_has v (I k) h
