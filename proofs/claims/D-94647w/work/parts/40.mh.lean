/-! PL 15: the reference's memory, its numbers apart: F the object's own ints, row the row of now, A the other arrays, Y the longs -/
set_option maxRecDepth 100000
/-- a memory whose ints and longs are given anew -/
def mh (h : AH) (X : Nat → Nat → Int32) (Y : Nat → Nat → Int64) : AH := (h.1, h.2.1, h.2.2.1, h.2.2.2.1, h.2.2.2.2.1, h.2.2.2.2.2.1, X, Y, h.2.2.2.2.2.2.2.2.1, h.2.2.2.2.2.2.2.2.2)
section
variable (h : AH) (X : Nat → Nat → Int32) (Y : Nat → Nat → Int64)
theorem mh_self : mh h (hiv h) (hjv h) = h := rfl
theorem mh_mh (X' : Nat → Nat → Int32) (Y' : Nat → Nat → Int64) : mh (mh h X Y) X' Y' = mh h X' Y' := rfl
theorem mh_iv : hiv (mh h X Y) = X := rfl
theorem mh_jv : hjv (mh h X Y) = Y := rfl
theorem mh_kd : hkd (mh h X Y) = hkd h := rfl
theorem mh_ln : hln (mh h X Y) = hln h := rfl
theorem mh_rv : hrv (mh h X Y) = hrv h := rfl
theorem mh_cs : hcs (mh h X Y) = hcs h := rfl
theorem mh_sz : hsz (mh h X Y) = hsz h := rfl
theorem mh_sl : hsl (mh h X Y) = hsl h := rfl
theorem mh_cap : hcap (mh h X Y) = hcap h := rfl
theorem mh_scap : hscap (mh h X Y) = hscap h := rfl
theorem mh_I (a k : Nat) (v : Int32) : hsI (mh h X Y) a k v = mh h (xu X a k v) Y := rfl
theorem mh_J (a k : Nat) (v : Int64) : hsJ (mh h X Y) a k v = mh h X (xu Y a k v) := rfl
theorem mh_A (a : Nat) (f : Nat → Int32) : hsA (mh h X Y) a f = mh h (va_up X a f) Y := rfl
end
theorem SameS.mh {h : AH} {X : Nat → Nat → Int32} {Y : Nat → Nat → Int64} : SameS h (mh h X Y) := ⟨rfl, rfl, rfl, rfl, rfl, rfl, rfl, rfl⟩
section
variable {α : Type}
theorem up_s (f : Nat → α) (k : Nat) (v : α) : va_up f k v k = v := if_pos rfl
theorem up_n (f : Nat → α) {k j : Nat} (v : α) (h : ¬ j = k) : va_up f k v j = f j := if_neg h
theorem up_e (f : Nat → α) {k j : Nat} (v : α) (h : j = k) : va_up f k v j = v := if_pos h
theorem up_if (f : Nat → α) (k j : Nat) (v : α) : va_up f k v j = if j = k then v else f j := rfl
theorem up_up (f : Nat → α) (k : Nat) (v w : α) : va_up (va_up f k v) k w = va_up f k w := by
  funext j
  unfold va_up
  split <;> rfl
theorem up_self (f : Nat → α) (k : Nat) : va_up f k (f k) = f := by
  funext j
  unfold va_up
  split
  · next h => rw [h]
  · rfl
theorem xu_s (f : Nat → Nat → α) (a k : Nat) (v : α) : xu f a k v a k = v := by unfold xu; rw [up_s, up_s]
theorem xu_n (f : Nat → Nat → α) {a k r j : Nat} (v : α) (h : ¬ (r = a ∧ j = k)) : xu f a k v r j = f r j := by
  unfold xu
  by_cases h1 : r = a
  · subst h1
    rw [up_s, up_n _ _ fun q => h ⟨rfl, q⟩]
  · rw [up_n _ _ h1]
theorem xu_a (f : Nat → Nat → α) {a k r : Nat} (v : α) (h : ¬ r = a) : xu f a k v r = f r := up_n _ _ h
theorem xu_r (f : Nat → Nat → α) (a k : Nat) (v : α) : xu f a k v a = va_up (f a) k v := up_s _ _ _
theorem xu_if (f : Nat → Nat → α) (a k r j : Nat) (v : α) : xu f a k v r j = if r = a ∧ j = k then v else f r j := by
  by_cases h : r = a ∧ j = k
  · rw [if_pos h, h.1, h.2, xu_s]
  · rw [if_neg h, xu_n _ _ h]
theorem xu_up (f : Nat → Nat → α) (a k : Nat) (v : α) (r : Nat → α) : xu (va_up f a r) a k v = va_up f a (va_up r k v) := by unfold xu; rw [up_s, up_up]
end
/-! numbers, with literals -/
theorem I_addl (a n : Nat) : I a + (no_index (OfNat.ofNat n) : Int32) = I (a + OfNat.ofNat n) := I_add a n
theorem I_ladd (a n : Nat) : (no_index (OfNat.ofNat n) : Int32) + I a = I (OfNat.ofNat n + a) := I_add n a
theorem I_lmul (a n : Nat) : (no_index (OfNat.ofNat n) : Int32) * I a = I (OfNat.ofNat n * a) := I_mul n a
theorem I_mull (a n : Nat) : I a * (no_index (OfNat.ofNat n) : Int32) = I (a * OfNat.ofNat n) := I_mul a n
theorem I_subl {a n : Nat} (h : OfNat.ofNat n ≤ a) : I a - (no_index (OfNat.ofNat n) : Int32) = I (a - OfNat.ofNat n) := I_sub h
theorem I_add0 (v : Int32) : v + (0 : Int32) = v := Int32.add_zero v
theorem I_lt_l {a n : Nat} (ha : a < 2 ^ 31) (hn : OfNat.ofNat n < 2 ^ 31) : I a < (no_index (OfNat.ofNat n) : Int32) ↔ a < OfNat.ofNat n := I_lt ha hn
theorem I_l_lt {a n : Nat} (ha : a < 2 ^ 31) (hn : OfNat.ofNat n < 2 ^ 31) : (no_index (OfNat.ofNat n) : Int32) < I a ↔ OfNat.ofNat n < a := I_lt hn ha
theorem I_le_l {a n : Nat} (ha : a < 2 ^ 31) (hn : OfNat.ofNat n < 2 ^ 31) : I a ≤ (no_index (OfNat.ofNat n) : Int32) ↔ a ≤ OfNat.ofNat n := I_le ha hn
theorem I_l_le {a n : Nat} (ha : a < 2 ^ 31) (hn : OfNat.ofNat n < 2 ^ 31) : (no_index (OfNat.ofNat n) : Int32) ≤ I a ↔ OfNat.ofNat n ≤ a := I_le hn ha
theorem I_eq_l {a n : Nat} (ha : a < 2 ^ 31) (hn : OfNat.ofNat n < 2 ^ 31) : I a = (no_index (OfNat.ofNat n) : Int32) ↔ a = OfNat.ofNat n := I_inj ha hn
theorem I_l_eq {a n : Nat} (ha : a < 2 ^ 31) (hn : OfNat.ofNat n < 2 ^ 31) : (no_index (OfNat.ofNat n) : Int32) = I a ↔ OfNat.ofNat n = a := I_inj hn ha
/-! the reference's memory -/
def MA (m : Nat) (F : Nat → Int32) (A : Nat → Nat → Int32) (row : Nat → Int32) : Nat → Nat → Int32 := fun r => if r = m then F else if r = m + 2 then row else A r
def MH (g : AH) (m : Nat) (F : Nat → Int32) (A : Nat → Nat → Int32) (row : Nat → Int32) (Y : Nat → Nat → Int64) : AH := mh g (MA m F A row) Y
section
variable (m : Nat) (F : Nat → Int32) (A : Nat → Nat → Int32) (row : Nat → Int32)
theorem MA_m : MA m F A row m = F := if_pos rfl
theorem MA_n : MA m F A row (m + 2) = row := by
  unfold MA
  rw [if_neg (by omega), if_pos rfl]
theorem MA_a {r : Nat} (h1 : ¬ r = m) (h2 : ¬ r = m + 2) : MA m F A row r = A r := by
  unfold MA
  rw [if_neg h1, if_neg h2]
theorem MA_F (k : Nat) (v : Int32) : xu (MA m F A row) m k v = MA m (va_up F k v) A row := by
  funext r
  unfold xu va_up MA
  by_cases h : r = m
  · simp [h]
  · simp [h]
theorem MA_W (k : Nat) (v : Int32) : xu (MA m F A row) (m + 2) k v = MA m F A (va_up row k v) := by
  funext r
  unfold xu va_up MA
  by_cases h : r = m
  · simp [h]
  · by_cases h2 : r = m + 2
    · simp [h2]
    · simp [h, h2]
theorem MA_A {a : Nat} (k : Nat) (v : Int32) (h1 : ¬ a = m) (h2 : ¬ a = m + 2) : xu (MA m F A row) a k v = MA m F (xu A a k v) row := by
  funext r
  unfold xu va_up MA
  by_cases h : r = m
  · have h3 : ¬ m = a := fun q => h1 q.symm
    simp [h, h3]
  · by_cases h4 : r = m + 2
    · have h3 : ¬ m + 2 = a := fun q => h2 q.symm
      simp [h4, h3]
    · simp [h, h4, h1, h2]
end
theorem MH_self (g : AH) (m : Nat) : MH g m (hiv g m) (hiv g) (hiv g (m + 2)) (hjv g) = g := by
  have : MA m (hiv g m) (hiv g) (hiv g (m + 2)) = hiv g := by
    funext r
    unfold MA
    split
    · next h => rw [h]
    · split
      · next h => rw [h]
      · rfl
  unfold MH
  rw [this]
  rfl
section
variable {m : Nat} {g : AH} {F : Nat → Int32} {A : Nat → Nat → Int32} {row : Nat → Int32} {Y : Nat → Nat → Int64}
theorem LM.ck {β : Type} (L : LM m g) (f : Option β) : xck (MH g m F A row Y) m 14 f = f := if_pos L.1
theorem LM.gi (L : LM m g) (k : Nat) : xgi (MH g m F A row Y) m [14] k = some (F k) := by
  unfold xgi MH
  rw [mh_kd, mh_iv, if_pos (by rw [L.1]; decide), MA_m]
theorem LM.gj (L : LM m g) (k : Nat) : xgj (MH g m F A row Y) m [14] k = some (Y m k) := by
  unfold xgj MH
  rw [mh_kd, mh_jv, if_pos (by rw [L.1]; decide)]
theorem LM.pi (L : LM m g) (k : Nat) (v : Int32) : xpi (MH g m F A row Y) m [14] k v = some (MH g m (va_up F k v) A row Y) := by
  unfold xpi MH
  rw [mh_kd, mh_I, if_pos (by rw [L.1]; decide), MA_F]
theorem LM.pz (L : LM m g) (k : Nat) (v : Int32) (hv : v = 0 ∨ v = 1) : xpz (MH g m F A row Y) m [14] k v = some (MH g m (va_up F k v) A row Y) := by
  unfold xpz MH
  rw [mh_kd, mh_I, if_pos ⟨by rw [L.1]; decide, hv⟩, MA_F]
theorem LM.pz1 (L : LM m g) (k : Nat) : xpz (MH g m F A row Y) m [14] k 1 = some (MH g m (va_up F k 1) A row Y) := L.pz k 1 (Or.inr rfl)
theorem LM.pj (L : LM m g) (k : Nat) (v : Int64) : xpj (MH g m F A row Y) m [14] k v = some (MH g m F A row (xu Y m k v)) := by
  unfold xpj MH
  rw [mh_kd, mh_J, if_pos (by rw [L.1]; decide)]
theorem LM.r1 (L : LM m g) : xgr (MH g m F A row Y) m [14] 1 = some (m + 1) := by
  unfold xgr MH
  rw [mh_kd, mh_rv, if_pos (by rw [L.1]; decide)]
  exact congrArg some (L.2 0 (by decide)).1
theorem LM.g1 (L : LM m g) {n : Nat} (hn : n < 740) : xai (MH g m F A row Y) (m + 1) 100 (I n) = some (A (m + 1) n) := by
  have h1 : hkd g (m + 1) = 100 := (L.2 0 (by decide)).2.1
  have h2 : hln g (m + 1) = 740 := (L.2 0 (by decide)).2.2
  unfold xai MH
  rw [mh_kd, mh_ln, mh_iv, I_int (by omega), I_nat (by omega), if_pos ⟨h1, by omega, by omega⟩, MA_a m F A row (by omega) (by omega)]
theorem LM.gl1 (L : LM m g) {n : Nat} (hn : OfNat.ofNat n < 740) : xai (MH g m F A row Y) (m + 1) 100 (no_index (OfNat.ofNat n) : Int32) = some (A (m + 1) (OfNat.ofNat n)) := L.g1 hn
theorem LM.s1 (L : LM m g) {n : Nat} (v : Int32) (hn : n < 740) : xsi (MH g m F A row Y) (m + 1) (I n) v = some (MH g m F (xu A (m + 1) n v) row Y) := by
  have h1 : hkd g (m + 1) = 100 := (L.2 0 (by decide)).2.1
  have h2 : hln g (m + 1) = 740 := (L.2 0 (by decide)).2.2
  unfold xsi MH
  rw [mh_kd, mh_ln, mh_I, I_int (by omega), I_nat (by omega), if_pos ⟨h1, by omega, by omega⟩, MA_A m F A row _ _ (by omega) (by omega)]
theorem LM.sl1 (L : LM m g) {n : Nat} (v : Int32) (hn : OfNat.ofNat n < 740) : xsi (MH g m F A row Y) (m + 1) (no_index (OfNat.ofNat n) : Int32) v = some (MH g m F (xu A (m + 1) (OfNat.ofNat n) v) row Y) := L.s1 v hn
theorem LM.r14 (L : LM m g) : xgr (MH g m F A row Y) m [14] 14 = some (m + 2) := by
  unfold xgr MH
  rw [mh_kd, mh_rv, if_pos (by rw [L.1]; decide)]
  exact congrArg some (L.2 1 (by decide)).1
theorem LM.g14 (L : LM m g) {n : Nat} (hn : n < 8140) : xai (MH g m F A row Y) (m + 2) 100 (I n) = some (row n) := by
  have h1 : hkd g (m + 2) = 100 := (L.2 1 (by decide)).2.1
  have h2 : hln g (m + 2) = 8140 := (L.2 1 (by decide)).2.2
  unfold xai MH
  rw [mh_kd, mh_ln, mh_iv, I_int (by omega), I_nat (by omega), if_pos ⟨h1, by omega, by omega⟩, MA_n]
theorem LM.gl14 (L : LM m g) {n : Nat} (hn : OfNat.ofNat n < 8140) : xai (MH g m F A row Y) (m + 2) 100 (no_index (OfNat.ofNat n) : Int32) = some (row (OfNat.ofNat n)) := L.g14 hn
theorem LM.s14 (L : LM m g) {n : Nat} (v : Int32) (hn : n < 8140) : xsi (MH g m F A row Y) (m + 2) (I n) v = some (MH g m F A (va_up row n v) Y) := by
  have h1 : hkd g (m + 2) = 100 := (L.2 1 (by decide)).2.1
  have h2 : hln g (m + 2) = 8140 := (L.2 1 (by decide)).2.2
  unfold xsi MH
  rw [mh_kd, mh_ln, mh_I, I_int (by omega), I_nat (by omega), if_pos ⟨h1, by omega, by omega⟩, MA_W]
theorem LM.sl14 (L : LM m g) {n : Nat} (v : Int32) (hn : OfNat.ofNat n < 8140) : xsi (MH g m F A row Y) (m + 2) (no_index (OfNat.ofNat n) : Int32) v = some (MH g m F A (va_up row (OfNat.ofNat n) v) Y) := L.s14 v hn
theorem LM.r15 (L : LM m g) : xgr (MH g m F A row Y) m [14] 15 = some (m + 3) := by
  unfold xgr MH
  rw [mh_kd, mh_rv, if_pos (by rw [L.1]; decide)]
  exact congrArg some (L.2 2 (by decide)).1
theorem LM.g15 (L : LM m g) {n : Nat} (hn : n < 108) : xai (MH g m F A row Y) (m + 3) 100 (I n) = some (A (m + 3) n) := by
  have h1 : hkd g (m + 3) = 100 := (L.2 2 (by decide)).2.1
  have h2 : hln g (m + 3) = 108 := (L.2 2 (by decide)).2.2
  unfold xai MH
  rw [mh_kd, mh_ln, mh_iv, I_int (by omega), I_nat (by omega), if_pos ⟨h1, by omega, by omega⟩, MA_a m F A row (by omega) (by omega)]
theorem LM.gl15 (L : LM m g) {n : Nat} (hn : OfNat.ofNat n < 108) : xai (MH g m F A row Y) (m + 3) 100 (no_index (OfNat.ofNat n) : Int32) = some (A (m + 3) (OfNat.ofNat n)) := L.g15 hn
theorem LM.s15 (L : LM m g) {n : Nat} (v : Int32) (hn : n < 108) : xsi (MH g m F A row Y) (m + 3) (I n) v = some (MH g m F (xu A (m + 3) n v) row Y) := by
  have h1 : hkd g (m + 3) = 100 := (L.2 2 (by decide)).2.1
  have h2 : hln g (m + 3) = 108 := (L.2 2 (by decide)).2.2
  unfold xsi MH
  rw [mh_kd, mh_ln, mh_I, I_int (by omega), I_nat (by omega), if_pos ⟨h1, by omega, by omega⟩, MA_A m F A row _ _ (by omega) (by omega)]
theorem LM.sl15 (L : LM m g) {n : Nat} (v : Int32) (hn : OfNat.ofNat n < 108) : xsi (MH g m F A row Y) (m + 3) (no_index (OfNat.ofNat n) : Int32) v = some (MH g m F (xu A (m + 3) (OfNat.ofNat n) v) row Y) := L.s15 v hn
theorem LM.r16 (L : LM m g) : xgr (MH g m F A row Y) m [14] 16 = some (m + 4) := by
  unfold xgr MH
  rw [mh_kd, mh_rv, if_pos (by rw [L.1]; decide)]
  exact congrArg some (L.2 3 (by decide)).1
theorem LM.g16 (L : LM m g) {n : Nat} (hn : n < 16280) : xai (MH g m F A row Y) (m + 4) 100 (I n) = some (A (m + 4) n) := by
  have h1 : hkd g (m + 4) = 100 := (L.2 3 (by decide)).2.1
  have h2 : hln g (m + 4) = 16280 := (L.2 3 (by decide)).2.2
  unfold xai MH
  rw [mh_kd, mh_ln, mh_iv, I_int (by omega), I_nat (by omega), if_pos ⟨h1, by omega, by omega⟩, MA_a m F A row (by omega) (by omega)]
theorem LM.gl16 (L : LM m g) {n : Nat} (hn : OfNat.ofNat n < 16280) : xai (MH g m F A row Y) (m + 4) 100 (no_index (OfNat.ofNat n) : Int32) = some (A (m + 4) (OfNat.ofNat n)) := L.g16 hn
theorem LM.s16 (L : LM m g) {n : Nat} (v : Int32) (hn : n < 16280) : xsi (MH g m F A row Y) (m + 4) (I n) v = some (MH g m F (xu A (m + 4) n v) row Y) := by
  have h1 : hkd g (m + 4) = 100 := (L.2 3 (by decide)).2.1
  have h2 : hln g (m + 4) = 16280 := (L.2 3 (by decide)).2.2
  unfold xsi MH
  rw [mh_kd, mh_ln, mh_I, I_int (by omega), I_nat (by omega), if_pos ⟨h1, by omega, by omega⟩, MA_A m F A row _ _ (by omega) (by omega)]
theorem LM.sl16 (L : LM m g) {n : Nat} (v : Int32) (hn : OfNat.ofNat n < 16280) : xsi (MH g m F A row Y) (m + 4) (no_index (OfNat.ofNat n) : Int32) v = some (MH g m F (xu A (m + 4) (OfNat.ofNat n) v) row Y) := L.s16 v hn
theorem LM.r17 (L : LM m g) : xgr (MH g m F A row Y) m [14] 17 = some (m + 5) := by
  unfold xgr MH
  rw [mh_kd, mh_rv, if_pos (by rw [L.1]; decide)]
  exact congrArg some (L.2 4 (by decide)).1
theorem LM.g17 (L : LM m g) {n : Nat} (hn : n < 47400) : xai (MH g m F A row Y) (m + 5) 100 (I n) = some (A (m + 5) n) := by
  have h1 : hkd g (m + 5) = 100 := (L.2 4 (by decide)).2.1
  have h2 : hln g (m + 5) = 47400 := (L.2 4 (by decide)).2.2
  unfold xai MH
  rw [mh_kd, mh_ln, mh_iv, I_int (by omega), I_nat (by omega), if_pos ⟨h1, by omega, by omega⟩, MA_a m F A row (by omega) (by omega)]
theorem LM.gl17 (L : LM m g) {n : Nat} (hn : OfNat.ofNat n < 47400) : xai (MH g m F A row Y) (m + 5) 100 (no_index (OfNat.ofNat n) : Int32) = some (A (m + 5) (OfNat.ofNat n)) := L.g17 hn
theorem LM.s17 (L : LM m g) {n : Nat} (v : Int32) (hn : n < 47400) : xsi (MH g m F A row Y) (m + 5) (I n) v = some (MH g m F (xu A (m + 5) n v) row Y) := by
  have h1 : hkd g (m + 5) = 100 := (L.2 4 (by decide)).2.1
  have h2 : hln g (m + 5) = 47400 := (L.2 4 (by decide)).2.2
  unfold xsi MH
  rw [mh_kd, mh_ln, mh_I, I_int (by omega), I_nat (by omega), if_pos ⟨h1, by omega, by omega⟩, MA_A m F A row _ _ (by omega) (by omega)]
theorem LM.sl17 (L : LM m g) {n : Nat} (v : Int32) (hn : OfNat.ofNat n < 47400) : xsi (MH g m F A row Y) (m + 5) (no_index (OfNat.ofNat n) : Int32) v = some (MH g m F (xu A (m + 5) (OfNat.ofNat n) v) row Y) := L.s17 v hn
theorem LM.r18 (L : LM m g) : xgr (MH g m F A row Y) m [14] 18 = some (m + 6) := by
  unfold xgr MH
  rw [mh_kd, mh_rv, if_pos (by rw [L.1]; decide)]
  exact congrArg some (L.2 5 (by decide)).1
theorem LM.g18 (L : LM m g) {n : Nat} (hn : n < 12) : xaj (MH g m F A row Y) (m + 6) (I n) = some (Y (m + 6) n) := by
  have h1 : hkd g (m + 6) = 103 := (L.2 5 (by decide)).2.1
  have h2 : hln g (m + 6) = 12 := (L.2 5 (by decide)).2.2
  unfold xaj MH
  rw [mh_kd, mh_ln, mh_jv, I_int (by omega), I_nat (by omega), if_pos ⟨h1, by omega, by omega⟩]
theorem LM.s18 (L : LM m g) {n : Nat} (v : Int64) (hn : n < 12) : xsj (MH g m F A row Y) (m + 6) (I n) v = some (MH g m F A row (xu Y (m + 6) n v)) := by
  have h1 : hkd g (m + 6) = 103 := (L.2 5 (by decide)).2.1
  have h2 : hln g (m + 6) = 12 := (L.2 5 (by decide)).2.2
  unfold xsj MH
  rw [mh_kd, mh_ln, mh_J, I_int (by omega), I_nat (by omega), if_pos ⟨h1, by omega, by omega⟩]
theorem LM.r19 (L : LM m g) : xgr (MH g m F A row Y) m [14] 19 = some (m + 7) := by
  unfold xgr MH
  rw [mh_kd, mh_rv, if_pos (by rw [L.1]; decide)]
  exact congrArg some (L.2 6 (by decide)).1
theorem LM.g19 (L : LM m g) {n : Nat} (hn : n < 12) : xaj (MH g m F A row Y) (m + 7) (I n) = some (Y (m + 7) n) := by
  have h1 : hkd g (m + 7) = 103 := (L.2 6 (by decide)).2.1
  have h2 : hln g (m + 7) = 12 := (L.2 6 (by decide)).2.2
  unfold xaj MH
  rw [mh_kd, mh_ln, mh_jv, I_int (by omega), I_nat (by omega), if_pos ⟨h1, by omega, by omega⟩]
theorem LM.s19 (L : LM m g) {n : Nat} (v : Int64) (hn : n < 12) : xsj (MH g m F A row Y) (m + 7) (I n) v = some (MH g m F A row (xu Y (m + 7) n v)) := by
  have h1 : hkd g (m + 7) = 103 := (L.2 6 (by decide)).2.1
  have h2 : hln g (m + 7) = 12 := (L.2 6 (by decide)).2.2
  unfold xsj MH
  rw [mh_kd, mh_ln, mh_J, I_int (by omega), I_nat (by omega), if_pos ⟨h1, by omega, by omega⟩]
theorem LM.r20 (L : LM m g) : xgr (MH g m F A row Y) m [14] 20 = some (m + 8) := by
  unfold xgr MH
  rw [mh_kd, mh_rv, if_pos (by rw [L.1]; decide)]
  exact congrArg some (L.2 7 (by decide)).1
theorem LM.g20 (L : LM m g) {n : Nat} (hn : n < 24) : xaj (MH g m F A row Y) (m + 8) (I n) = some (Y (m + 8) n) := by
  have h1 : hkd g (m + 8) = 103 := (L.2 7 (by decide)).2.1
  have h2 : hln g (m + 8) = 24 := (L.2 7 (by decide)).2.2
  unfold xaj MH
  rw [mh_kd, mh_ln, mh_jv, I_int (by omega), I_nat (by omega), if_pos ⟨h1, by omega, by omega⟩]
theorem LM.s20 (L : LM m g) {n : Nat} (v : Int64) (hn : n < 24) : xsj (MH g m F A row Y) (m + 8) (I n) v = some (MH g m F A row (xu Y (m + 8) n v)) := by
  have h1 : hkd g (m + 8) = 103 := (L.2 7 (by decide)).2.1
  have h2 : hln g (m + 8) = 24 := (L.2 7 (by decide)).2.2
  unfold xsj MH
  rw [mh_kd, mh_ln, mh_J, I_int (by omega), I_nat (by omega), if_pos ⟨h1, by omega, by omega⟩]
theorem LM.r21 (L : LM m g) : xgr (MH g m F A row Y) m [14] 21 = some (m + 9) := by
  unfold xgr MH
  rw [mh_kd, mh_rv, if_pos (by rw [L.1]; decide)]
  exact congrArg some (L.2 8 (by decide)).1
theorem LM.g21 (L : LM m g) {n : Nat} (hn : n < 2) : xai (MH g m F A row Y) (m + 9) 101 (I n) = some (A (m + 9) n) := by
  have h1 : hkd g (m + 9) = 101 := (L.2 8 (by decide)).2.1
  have h2 : hln g (m + 9) = 2 := (L.2 8 (by decide)).2.2
  unfold xai MH
  rw [mh_kd, mh_ln, mh_iv, I_int (by omega), I_nat (by omega), if_pos ⟨h1, by omega, by omega⟩, MA_a m F A row (by omega) (by omega)]
theorem LM.gl21 (L : LM m g) {n : Nat} (hn : OfNat.ofNat n < 2) : xai (MH g m F A row Y) (m + 9) 101 (no_index (OfNat.ofNat n) : Int32) = some (A (m + 9) (OfNat.ofNat n)) := L.g21 hn
theorem LM.s21 (L : LM m g) {n : Nat} (v : Int32) (hn : n < 2) (hv : v = 0 ∨ v = 1) : xsz (MH g m F A row Y) (m + 9) (I n) v = some (MH g m F (xu A (m + 9) n v) row Y) := by
  have h1 : hkd g (m + 9) = 101 := (L.2 8 (by decide)).2.1
  have h2 : hln g (m + 9) = 2 := (L.2 8 (by decide)).2.2
  unfold xsz MH
  rw [mh_kd, mh_ln, mh_I, I_int (by omega), I_nat (by omega), if_pos ⟨h1, by omega, by omega, hv⟩, MA_A m F A row _ _ (by omega) (by omega)]
theorem LM.r25 (L : LM m g) : xgr (MH g m F A row Y) m [14] 25 = some (m + 10) := by
  unfold xgr MH
  rw [mh_kd, mh_rv, if_pos (by rw [L.1]; decide)]
  exact congrArg some (L.2 9 (by decide)).1
theorem LM.g25 (L : LM m g) {n : Nat} (hn : n < 40) : xai (MH g m F A row Y) (m + 10) 100 (I n) = some (A (m + 10) n) := by
  have h1 : hkd g (m + 10) = 100 := (L.2 9 (by decide)).2.1
  have h2 : hln g (m + 10) = 40 := (L.2 9 (by decide)).2.2
  unfold xai MH
  rw [mh_kd, mh_ln, mh_iv, I_int (by omega), I_nat (by omega), if_pos ⟨h1, by omega, by omega⟩, MA_a m F A row (by omega) (by omega)]
theorem LM.gl25 (L : LM m g) {n : Nat} (hn : OfNat.ofNat n < 40) : xai (MH g m F A row Y) (m + 10) 100 (no_index (OfNat.ofNat n) : Int32) = some (A (m + 10) (OfNat.ofNat n)) := L.g25 hn
theorem LM.s25 (L : LM m g) {n : Nat} (v : Int32) (hn : n < 40) : xsi (MH g m F A row Y) (m + 10) (I n) v = some (MH g m F (xu A (m + 10) n v) row Y) := by
  have h1 : hkd g (m + 10) = 100 := (L.2 9 (by decide)).2.1
  have h2 : hln g (m + 10) = 40 := (L.2 9 (by decide)).2.2
  unfold xsi MH
  rw [mh_kd, mh_ln, mh_I, I_int (by omega), I_nat (by omega), if_pos ⟨h1, by omega, by omega⟩, MA_A m F A row _ _ (by omega) (by omega)]
theorem LM.sl25 (L : LM m g) {n : Nat} (v : Int32) (hn : OfNat.ofNat n < 40) : xsi (MH g m F A row Y) (m + 10) (no_index (OfNat.ofNat n) : Int32) v = some (MH g m F (xu A (m + 10) (OfNat.ofNat n) v) row Y) := L.s25 v hn
theorem LM.r26 (L : LM m g) : xgr (MH g m F A row Y) m [14] 26 = some (m + 11) := by
  unfold xgr MH
  rw [mh_kd, mh_rv, if_pos (by rw [L.1]; decide)]
  exact congrArg some (L.2 10 (by decide)).1
theorem LM.g26 (L : LM m g) {n : Nat} (hn : n < 12) : xai (MH g m F A row Y) (m + 11) 100 (I n) = some (A (m + 11) n) := by
  have h1 : hkd g (m + 11) = 100 := (L.2 10 (by decide)).2.1
  have h2 : hln g (m + 11) = 12 := (L.2 10 (by decide)).2.2
  unfold xai MH
  rw [mh_kd, mh_ln, mh_iv, I_int (by omega), I_nat (by omega), if_pos ⟨h1, by omega, by omega⟩, MA_a m F A row (by omega) (by omega)]
theorem LM.gl26 (L : LM m g) {n : Nat} (hn : OfNat.ofNat n < 12) : xai (MH g m F A row Y) (m + 11) 100 (no_index (OfNat.ofNat n) : Int32) = some (A (m + 11) (OfNat.ofNat n)) := L.g26 hn
theorem LM.s26 (L : LM m g) {n : Nat} (v : Int32) (hn : n < 12) : xsi (MH g m F A row Y) (m + 11) (I n) v = some (MH g m F (xu A (m + 11) n v) row Y) := by
  have h1 : hkd g (m + 11) = 100 := (L.2 10 (by decide)).2.1
  have h2 : hln g (m + 11) = 12 := (L.2 10 (by decide)).2.2
  unfold xsi MH
  rw [mh_kd, mh_ln, mh_I, I_int (by omega), I_nat (by omega), if_pos ⟨h1, by omega, by omega⟩, MA_A m F A row _ _ (by omega) (by omega)]
theorem LM.sl26 (L : LM m g) {n : Nat} (v : Int32) (hn : OfNat.ofNat n < 12) : xsi (MH g m F A row Y) (m + 11) (no_index (OfNat.ofNat n) : Int32) v = some (MH g m F (xu A (m + 11) (OfNat.ofNat n) v) row Y) := L.s26 v hn
theorem LM.r27 (L : LM m g) : xgr (MH g m F A row Y) m [14] 27 = some (m + 12) := by
  unfold xgr MH
  rw [mh_kd, mh_rv, if_pos (by rw [L.1]; decide)]
  exact congrArg some (L.2 11 (by decide)).1
theorem LM.g27 (L : LM m g) {n : Nat} (hn : n < 72) : xai (MH g m F A row Y) (m + 12) 100 (I n) = some (A (m + 12) n) := by
  have h1 : hkd g (m + 12) = 100 := (L.2 11 (by decide)).2.1
  have h2 : hln g (m + 12) = 72 := (L.2 11 (by decide)).2.2
  unfold xai MH
  rw [mh_kd, mh_ln, mh_iv, I_int (by omega), I_nat (by omega), if_pos ⟨h1, by omega, by omega⟩, MA_a m F A row (by omega) (by omega)]
theorem LM.gl27 (L : LM m g) {n : Nat} (hn : OfNat.ofNat n < 72) : xai (MH g m F A row Y) (m + 12) 100 (no_index (OfNat.ofNat n) : Int32) = some (A (m + 12) (OfNat.ofNat n)) := L.g27 hn
theorem LM.s27 (L : LM m g) {n : Nat} (v : Int32) (hn : n < 72) : xsi (MH g m F A row Y) (m + 12) (I n) v = some (MH g m F (xu A (m + 12) n v) row Y) := by
  have h1 : hkd g (m + 12) = 100 := (L.2 11 (by decide)).2.1
  have h2 : hln g (m + 12) = 72 := (L.2 11 (by decide)).2.2
  unfold xsi MH
  rw [mh_kd, mh_ln, mh_I, I_int (by omega), I_nat (by omega), if_pos ⟨h1, by omega, by omega⟩, MA_A m F A row _ _ (by omega) (by omega)]
theorem LM.sl27 (L : LM m g) {n : Nat} (v : Int32) (hn : OfNat.ofNat n < 72) : xsi (MH g m F A row Y) (m + 12) (no_index (OfNat.ofNat n) : Int32) v = some (MH g m F (xu A (m + 12) (OfNat.ofNat n) v) row Y) := L.s27 v hn
theorem LM.r28 (L : LM m g) : xgr (MH g m F A row Y) m [14] 28 = some (m + 13) := by
  unfold xgr MH
  rw [mh_kd, mh_rv, if_pos (by rw [L.1]; decide)]
  exact congrArg some (L.2 12 (by decide)).1
theorem LM.g28 (L : LM m g) {n : Nat} (hn : n < 26013) : xai (MH g m F A row Y) (m + 13) 100 (I n) = some (A (m + 13) n) := by
  have h1 : hkd g (m + 13) = 100 := (L.2 12 (by decide)).2.1
  have h2 : hln g (m + 13) = 26013 := (L.2 12 (by decide)).2.2
  unfold xai MH
  rw [mh_kd, mh_ln, mh_iv, I_int (by omega), I_nat (by omega), if_pos ⟨h1, by omega, by omega⟩, MA_a m F A row (by omega) (by omega)]
theorem LM.gl28 (L : LM m g) {n : Nat} (hn : OfNat.ofNat n < 26013) : xai (MH g m F A row Y) (m + 13) 100 (no_index (OfNat.ofNat n) : Int32) = some (A (m + 13) (OfNat.ofNat n)) := L.g28 hn
theorem LM.s28 (L : LM m g) {n : Nat} (v : Int32) (hn : n < 26013) : xsi (MH g m F A row Y) (m + 13) (I n) v = some (MH g m F (xu A (m + 13) n v) row Y) := by
  have h1 : hkd g (m + 13) = 100 := (L.2 12 (by decide)).2.1
  have h2 : hln g (m + 13) = 26013 := (L.2 12 (by decide)).2.2
  unfold xsi MH
  rw [mh_kd, mh_ln, mh_I, I_int (by omega), I_nat (by omega), if_pos ⟨h1, by omega, by omega⟩, MA_A m F A row _ _ (by omega) (by omega)]
theorem LM.sl28 (L : LM m g) {n : Nat} (v : Int32) (hn : OfNat.ofNat n < 26013) : xsi (MH g m F A row Y) (m + 13) (no_index (OfNat.ofNat n) : Int32) v = some (MH g m F (xu A (m + 13) (OfNat.ofNat n) v) row Y) := L.s28 v hn
theorem LM.r29 (L : LM m g) : xgr (MH g m F A row Y) m [14] 29 = some (m + 14) := by
  unfold xgr MH
  rw [mh_kd, mh_rv, if_pos (by rw [L.1]; decide)]
  exact congrArg some (L.2 13 (by decide)).1
theorem LM.g29 (L : LM m g) {n : Nat} (hn : n < 40) : xai (MH g m F A row Y) (m + 14) 100 (I n) = some (A (m + 14) n) := by
  have h1 : hkd g (m + 14) = 100 := (L.2 13 (by decide)).2.1
  have h2 : hln g (m + 14) = 40 := (L.2 13 (by decide)).2.2
  unfold xai MH
  rw [mh_kd, mh_ln, mh_iv, I_int (by omega), I_nat (by omega), if_pos ⟨h1, by omega, by omega⟩, MA_a m F A row (by omega) (by omega)]
theorem LM.gl29 (L : LM m g) {n : Nat} (hn : OfNat.ofNat n < 40) : xai (MH g m F A row Y) (m + 14) 100 (no_index (OfNat.ofNat n) : Int32) = some (A (m + 14) (OfNat.ofNat n)) := L.g29 hn
theorem LM.s29 (L : LM m g) {n : Nat} (v : Int32) (hn : n < 40) : xsi (MH g m F A row Y) (m + 14) (I n) v = some (MH g m F (xu A (m + 14) n v) row Y) := by
  have h1 : hkd g (m + 14) = 100 := (L.2 13 (by decide)).2.1
  have h2 : hln g (m + 14) = 40 := (L.2 13 (by decide)).2.2
  unfold xsi MH
  rw [mh_kd, mh_ln, mh_I, I_int (by omega), I_nat (by omega), if_pos ⟨h1, by omega, by omega⟩, MA_A m F A row _ _ (by omega) (by omega)]
theorem LM.sl29 (L : LM m g) {n : Nat} (v : Int32) (hn : OfNat.ofNat n < 40) : xsi (MH g m F A row Y) (m + 14) (no_index (OfNat.ofNat n) : Int32) v = some (MH g m F (xu A (m + 14) (OfNat.ofNat n) v) row Y) := L.s29 v hn
theorem LM.r30 (L : LM m g) : xgr (MH g m F A row Y) m [14] 30 = some (m + 15) := by
  unfold xgr MH
  rw [mh_kd, mh_rv, if_pos (by rw [L.1]; decide)]
  exact congrArg some (L.2 14 (by decide)).1
theorem LM.g30 (L : LM m g) {n : Nat} (hn : n < 12) : xai (MH g m F A row Y) (m + 15) 100 (I n) = some (A (m + 15) n) := by
  have h1 : hkd g (m + 15) = 100 := (L.2 14 (by decide)).2.1
  have h2 : hln g (m + 15) = 12 := (L.2 14 (by decide)).2.2
  unfold xai MH
  rw [mh_kd, mh_ln, mh_iv, I_int (by omega), I_nat (by omega), if_pos ⟨h1, by omega, by omega⟩, MA_a m F A row (by omega) (by omega)]
theorem LM.gl30 (L : LM m g) {n : Nat} (hn : OfNat.ofNat n < 12) : xai (MH g m F A row Y) (m + 15) 100 (no_index (OfNat.ofNat n) : Int32) = some (A (m + 15) (OfNat.ofNat n)) := L.g30 hn
theorem LM.s30 (L : LM m g) {n : Nat} (v : Int32) (hn : n < 12) : xsi (MH g m F A row Y) (m + 15) (I n) v = some (MH g m F (xu A (m + 15) n v) row Y) := by
  have h1 : hkd g (m + 15) = 100 := (L.2 14 (by decide)).2.1
  have h2 : hln g (m + 15) = 12 := (L.2 14 (by decide)).2.2
  unfold xsi MH
  rw [mh_kd, mh_ln, mh_I, I_int (by omega), I_nat (by omega), if_pos ⟨h1, by omega, by omega⟩, MA_A m F A row _ _ (by omega) (by omega)]
theorem LM.sl30 (L : LM m g) {n : Nat} (v : Int32) (hn : OfNat.ofNat n < 12) : xsi (MH g m F A row Y) (m + 15) (no_index (OfNat.ofNat n) : Int32) v = some (MH g m F (xu A (m + 15) (OfNat.ofNat n) v) row Y) := L.s30 v hn
theorem LM.r33 (L : LM m g) : xgr (MH g m F A row Y) m [14] 33 = some (m + 16) := by
  unfold xgr MH
  rw [mh_kd, mh_rv, if_pos (by rw [L.1]; decide)]
  exact congrArg some (L.2 15 (by decide)).1
theorem LM.g33 (L : LM m g) {n : Nat} (hn : n < 9) : xai (MH g m F A row Y) (m + 16) 100 (I n) = some (A (m + 16) n) := by
  have h1 : hkd g (m + 16) = 100 := (L.2 15 (by decide)).2.1
  have h2 : hln g (m + 16) = 9 := (L.2 15 (by decide)).2.2
  unfold xai MH
  rw [mh_kd, mh_ln, mh_iv, I_int (by omega), I_nat (by omega), if_pos ⟨h1, by omega, by omega⟩, MA_a m F A row (by omega) (by omega)]
theorem LM.gl33 (L : LM m g) {n : Nat} (hn : OfNat.ofNat n < 9) : xai (MH g m F A row Y) (m + 16) 100 (no_index (OfNat.ofNat n) : Int32) = some (A (m + 16) (OfNat.ofNat n)) := L.g33 hn
theorem LM.s33 (L : LM m g) {n : Nat} (v : Int32) (hn : n < 9) : xsi (MH g m F A row Y) (m + 16) (I n) v = some (MH g m F (xu A (m + 16) n v) row Y) := by
  have h1 : hkd g (m + 16) = 100 := (L.2 15 (by decide)).2.1
  have h2 : hln g (m + 16) = 9 := (L.2 15 (by decide)).2.2
  unfold xsi MH
  rw [mh_kd, mh_ln, mh_I, I_int (by omega), I_nat (by omega), if_pos ⟨h1, by omega, by omega⟩, MA_A m F A row _ _ (by omega) (by omega)]
theorem LM.sl33 (L : LM m g) {n : Nat} (v : Int32) (hn : OfNat.ofNat n < 9) : xsi (MH g m F A row Y) (m + 16) (no_index (OfNat.ofNat n) : Int32) v = some (MH g m F (xu A (m + 16) (OfNat.ofNat n) v) row Y) := L.s33 v hn
theorem LM.r34 (L : LM m g) : xgr (MH g m F A row Y) m [14] 34 = some (m + 17) := by
  unfold xgr MH
  rw [mh_kd, mh_rv, if_pos (by rw [L.1]; decide)]
  exact congrArg some (L.2 16 (by decide)).1
theorem LM.g34 (L : LM m g) {n : Nat} (hn : n < 9) : xai (MH g m F A row Y) (m + 17) 100 (I n) = some (A (m + 17) n) := by
  have h1 : hkd g (m + 17) = 100 := (L.2 16 (by decide)).2.1
  have h2 : hln g (m + 17) = 9 := (L.2 16 (by decide)).2.2
  unfold xai MH
  rw [mh_kd, mh_ln, mh_iv, I_int (by omega), I_nat (by omega), if_pos ⟨h1, by omega, by omega⟩, MA_a m F A row (by omega) (by omega)]
theorem LM.gl34 (L : LM m g) {n : Nat} (hn : OfNat.ofNat n < 9) : xai (MH g m F A row Y) (m + 17) 100 (no_index (OfNat.ofNat n) : Int32) = some (A (m + 17) (OfNat.ofNat n)) := L.g34 hn
theorem LM.s34 (L : LM m g) {n : Nat} (v : Int32) (hn : n < 9) : xsi (MH g m F A row Y) (m + 17) (I n) v = some (MH g m F (xu A (m + 17) n v) row Y) := by
  have h1 : hkd g (m + 17) = 100 := (L.2 16 (by decide)).2.1
  have h2 : hln g (m + 17) = 9 := (L.2 16 (by decide)).2.2
  unfold xsi MH
  rw [mh_kd, mh_ln, mh_I, I_int (by omega), I_nat (by omega), if_pos ⟨h1, by omega, by omega⟩, MA_A m F A row _ _ (by omega) (by omega)]
theorem LM.sl34 (L : LM m g) {n : Nat} (v : Int32) (hn : OfNat.ofNat n < 9) : xsi (MH g m F A row Y) (m + 17) (no_index (OfNat.ofNat n) : Int32) v = some (MH g m F (xu A (m + 17) (OfNat.ofNat n) v) row Y) := L.s34 v hn
theorem LM.r35 (L : LM m g) : xgr (MH g m F A row Y) m [14] 35 = some (m + 18) := by
  unfold xgr MH
  rw [mh_kd, mh_rv, if_pos (by rw [L.1]; decide)]
  exact congrArg some (L.2 17 (by decide)).1
theorem LM.g35 (L : LM m g) {n : Nat} (hn : n < 9) : xai (MH g m F A row Y) (m + 18) 100 (I n) = some (A (m + 18) n) := by
  have h1 : hkd g (m + 18) = 100 := (L.2 17 (by decide)).2.1
  have h2 : hln g (m + 18) = 9 := (L.2 17 (by decide)).2.2
  unfold xai MH
  rw [mh_kd, mh_ln, mh_iv, I_int (by omega), I_nat (by omega), if_pos ⟨h1, by omega, by omega⟩, MA_a m F A row (by omega) (by omega)]
theorem LM.gl35 (L : LM m g) {n : Nat} (hn : OfNat.ofNat n < 9) : xai (MH g m F A row Y) (m + 18) 100 (no_index (OfNat.ofNat n) : Int32) = some (A (m + 18) (OfNat.ofNat n)) := L.g35 hn
theorem LM.s35 (L : LM m g) {n : Nat} (v : Int32) (hn : n < 9) : xsi (MH g m F A row Y) (m + 18) (I n) v = some (MH g m F (xu A (m + 18) n v) row Y) := by
  have h1 : hkd g (m + 18) = 100 := (L.2 17 (by decide)).2.1
  have h2 : hln g (m + 18) = 9 := (L.2 17 (by decide)).2.2
  unfold xsi MH
  rw [mh_kd, mh_ln, mh_I, I_int (by omega), I_nat (by omega), if_pos ⟨h1, by omega, by omega⟩, MA_A m F A row _ _ (by omega) (by omega)]
theorem LM.sl35 (L : LM m g) {n : Nat} (v : Int32) (hn : OfNat.ofNat n < 9) : xsi (MH g m F A row Y) (m + 18) (no_index (OfNat.ofNat n) : Int32) v = some (MH g m F (xu A (m + 18) (OfNat.ofNat n) v) row Y) := L.s35 v hn
theorem LM.r36 (L : LM m g) : xgr (MH g m F A row Y) m [14] 36 = some (m + 19) := by
  unfold xgr MH
  rw [mh_kd, mh_rv, if_pos (by rw [L.1]; decide)]
  exact congrArg some (L.2 18 (by decide)).1
theorem LM.g36 (L : LM m g) {n : Nat} (hn : n < 9) : xai (MH g m F A row Y) (m + 19) 100 (I n) = some (A (m + 19) n) := by
  have h1 : hkd g (m + 19) = 100 := (L.2 18 (by decide)).2.1
  have h2 : hln g (m + 19) = 9 := (L.2 18 (by decide)).2.2
  unfold xai MH
  rw [mh_kd, mh_ln, mh_iv, I_int (by omega), I_nat (by omega), if_pos ⟨h1, by omega, by omega⟩, MA_a m F A row (by omega) (by omega)]
theorem LM.gl36 (L : LM m g) {n : Nat} (hn : OfNat.ofNat n < 9) : xai (MH g m F A row Y) (m + 19) 100 (no_index (OfNat.ofNat n) : Int32) = some (A (m + 19) (OfNat.ofNat n)) := L.g36 hn
theorem LM.s36 (L : LM m g) {n : Nat} (v : Int32) (hn : n < 9) : xsi (MH g m F A row Y) (m + 19) (I n) v = some (MH g m F (xu A (m + 19) n v) row Y) := by
  have h1 : hkd g (m + 19) = 100 := (L.2 18 (by decide)).2.1
  have h2 : hln g (m + 19) = 9 := (L.2 18 (by decide)).2.2
  unfold xsi MH
  rw [mh_kd, mh_ln, mh_I, I_int (by omega), I_nat (by omega), if_pos ⟨h1, by omega, by omega⟩, MA_A m F A row _ _ (by omega) (by omega)]
theorem LM.sl36 (L : LM m g) {n : Nat} (v : Int32) (hn : OfNat.ofNat n < 9) : xsi (MH g m F A row Y) (m + 19) (no_index (OfNat.ofNat n) : Int32) v = some (MH g m F (xu A (m + 19) (OfNat.ofNat n) v) row Y) := L.s36 v hn
theorem LM.r37 (L : LM m g) : xgr (MH g m F A row Y) m [14] 37 = some (m + 20) := by
  unfold xgr MH
  rw [mh_kd, mh_rv, if_pos (by rw [L.1]; decide)]
  exact congrArg some (L.2 19 (by decide)).1
theorem LM.g37 (L : LM m g) {n : Nat} (hn : n < 9) : xai (MH g m F A row Y) (m + 20) 100 (I n) = some (A (m + 20) n) := by
  have h1 : hkd g (m + 20) = 100 := (L.2 19 (by decide)).2.1
  have h2 : hln g (m + 20) = 9 := (L.2 19 (by decide)).2.2
  unfold xai MH
  rw [mh_kd, mh_ln, mh_iv, I_int (by omega), I_nat (by omega), if_pos ⟨h1, by omega, by omega⟩, MA_a m F A row (by omega) (by omega)]
theorem LM.gl37 (L : LM m g) {n : Nat} (hn : OfNat.ofNat n < 9) : xai (MH g m F A row Y) (m + 20) 100 (no_index (OfNat.ofNat n) : Int32) = some (A (m + 20) (OfNat.ofNat n)) := L.g37 hn
theorem LM.s37 (L : LM m g) {n : Nat} (v : Int32) (hn : n < 9) : xsi (MH g m F A row Y) (m + 20) (I n) v = some (MH g m F (xu A (m + 20) n v) row Y) := by
  have h1 : hkd g (m + 20) = 100 := (L.2 19 (by decide)).2.1
  have h2 : hln g (m + 20) = 9 := (L.2 19 (by decide)).2.2
  unfold xsi MH
  rw [mh_kd, mh_ln, mh_I, I_int (by omega), I_nat (by omega), if_pos ⟨h1, by omega, by omega⟩, MA_A m F A row _ _ (by omega) (by omega)]
theorem LM.sl37 (L : LM m g) {n : Nat} (v : Int32) (hn : OfNat.ofNat n < 9) : xsi (MH g m F A row Y) (m + 20) (no_index (OfNat.ofNat n) : Int32) v = some (MH g m F (xu A (m + 20) (OfNat.ofNat n) v) row Y) := L.s37 v hn
theorem LM.r38 (L : LM m g) : xgr (MH g m F A row Y) m [14] 38 = some (m + 21) := by
  unfold xgr MH
  rw [mh_kd, mh_rv, if_pos (by rw [L.1]; decide)]
  exact congrArg some (L.2 20 (by decide)).1
theorem LM.g38 (L : LM m g) {n : Nat} (hn : n < 9) : xai (MH g m F A row Y) (m + 21) 100 (I n) = some (A (m + 21) n) := by
  have h1 : hkd g (m + 21) = 100 := (L.2 20 (by decide)).2.1
  have h2 : hln g (m + 21) = 9 := (L.2 20 (by decide)).2.2
  unfold xai MH
  rw [mh_kd, mh_ln, mh_iv, I_int (by omega), I_nat (by omega), if_pos ⟨h1, by omega, by omega⟩, MA_a m F A row (by omega) (by omega)]
theorem LM.gl38 (L : LM m g) {n : Nat} (hn : OfNat.ofNat n < 9) : xai (MH g m F A row Y) (m + 21) 100 (no_index (OfNat.ofNat n) : Int32) = some (A (m + 21) (OfNat.ofNat n)) := L.g38 hn
theorem LM.s38 (L : LM m g) {n : Nat} (v : Int32) (hn : n < 9) : xsi (MH g m F A row Y) (m + 21) (I n) v = some (MH g m F (xu A (m + 21) n v) row Y) := by
  have h1 : hkd g (m + 21) = 100 := (L.2 20 (by decide)).2.1
  have h2 : hln g (m + 21) = 9 := (L.2 20 (by decide)).2.2
  unfold xsi MH
  rw [mh_kd, mh_ln, mh_I, I_int (by omega), I_nat (by omega), if_pos ⟨h1, by omega, by omega⟩, MA_A m F A row _ _ (by omega) (by omega)]
theorem LM.sl38 (L : LM m g) {n : Nat} (v : Int32) (hn : OfNat.ofNat n < 9) : xsi (MH g m F A row Y) (m + 21) (no_index (OfNat.ofNat n) : Int32) v = some (MH g m F (xu A (m + 21) (OfNat.ofNat n) v) row Y) := L.s38 v hn
theorem LM.r42 (L : LM m g) : xgr (MH g m F A row Y) m [14] 42 = some (m + 22) := by
  unfold xgr MH
  rw [mh_kd, mh_rv, if_pos (by rw [L.1]; decide)]
  exact congrArg some (L.2 21 (by decide)).1
theorem LM.g42 (L : LM m g) {n : Nat} (hn : n < 240) : xai (MH g m F A row Y) (m + 22) 100 (I n) = some (A (m + 22) n) := by
  have h1 : hkd g (m + 22) = 100 := (L.2 21 (by decide)).2.1
  have h2 : hln g (m + 22) = 240 := (L.2 21 (by decide)).2.2
  unfold xai MH
  rw [mh_kd, mh_ln, mh_iv, I_int (by omega), I_nat (by omega), if_pos ⟨h1, by omega, by omega⟩, MA_a m F A row (by omega) (by omega)]
theorem LM.gl42 (L : LM m g) {n : Nat} (hn : OfNat.ofNat n < 240) : xai (MH g m F A row Y) (m + 22) 100 (no_index (OfNat.ofNat n) : Int32) = some (A (m + 22) (OfNat.ofNat n)) := L.g42 hn
theorem LM.s42 (L : LM m g) {n : Nat} (v : Int32) (hn : n < 240) : xsi (MH g m F A row Y) (m + 22) (I n) v = some (MH g m F (xu A (m + 22) n v) row Y) := by
  have h1 : hkd g (m + 22) = 100 := (L.2 21 (by decide)).2.1
  have h2 : hln g (m + 22) = 240 := (L.2 21 (by decide)).2.2
  unfold xsi MH
  rw [mh_kd, mh_ln, mh_I, I_int (by omega), I_nat (by omega), if_pos ⟨h1, by omega, by omega⟩, MA_A m F A row _ _ (by omega) (by omega)]
theorem LM.sl42 (L : LM m g) {n : Nat} (v : Int32) (hn : OfNat.ofNat n < 240) : xsi (MH g m F A row Y) (m + 22) (no_index (OfNat.ofNat n) : Int32) v = some (MH g m F (xu A (m + 22) (OfNat.ofNat n) v) row Y) := L.s42 v hn
end
