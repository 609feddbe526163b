/-! PL 12: what the reference reads off its row -/
set_option maxRecDepth 100000
/-- the row is laid, and it is row -/
def RW (m : Nat) (row : Nat → Int32) (g : AH) : Prop := LM m g ∧ ∀ j, j < 8140 → hiv g (m + 2) j = row j
theorem RW.rd {m j : Nat} {row : Nat → Int32} {g : AH} {β : Type} {k : Int32 → Option β} {i : Int32} (W : RW m row g) (hi : i = I j) (hj : j < 8140) : ((xgr g m [14] 14).bind fun x => (xai g x 100 i).bind k) = k (row j) := by
  obtain ⟨n1, n2, n3⟩ := W.1.now
  subst hi
  unfold xgr
  rw [if_pos (by rw [W.1.1]; decide), Option.bind_some, n1]
  unfold xai
  rw [I_int (by omega), I_nat (by omega), if_pos ⟨n2, by omega, by omega⟩, Option.bind_some, W.2 j hj]
theorem RW.people {m : Nat} {row : Nat → Int32} {g : AH} (W : RW m row g) : fM_people m g = some (row 0) := W.rd (j := 0) rfl (by decide)
theorem RW.mints {m : Nat} {row : Nat → Int32} {g : AH} (W : RW m row g) : fM_mints m g = some (row 1) := W.rd (j := 1) rfl (by decide)
theorem RW.coins {m : Nat} {row : Nat → Int32} {g : AH} (W : RW m row g) : fM_coins m g = some (row 108) := W.rd (j := 108) rfl (by decide)
theorem RW.ofWho {m w k : Nat} {row : Nat → Int32} {g : AH} (W : RW m row g) (h : 8 + 3 * w + k < 8140) : fM_ofWho m (I w) (I k) g = some (row (8 + 3 * w + k)) := W.rd (j := 8 + 3 * w + k) (by rw [show (8 : Int32) = I 8 from rfl, show (3 : Int32) = I 3 from rfl, I_mul, I_add, I_add]) h
theorem RW.ofMint {m w k : Nat} {row : Nat → Int32} {g : AH} (W : RW m row g) (h : 32 + 3 * w + k < 8140) : fM_ofMint m (I w) (I k) g = some (row (32 + 3 * w + k)) := W.rd (j := 32 + 3 * w + k) (by rw [show (32 : Int32) = I 32 from rfl, show (3 : Int32) = I 3 from rfl, I_mul, I_add, I_add]) h
theorem RW.ofCoin {m c k : Nat} {row : Nat → Int32} {g : AH} (W : RW m row g) (h : 120 + 32 * c + k < 8140) : fM_ofCoin m (I c) (I k) g = some (row (120 + 32 * c + k)) := W.rd (j := 120 + 32 * c + k) (by rw [show (120 : Int32) = I 120 from rfl, show (32 : Int32) = I 32 from rfl, I_mul, I_add, I_add]) h
theorem RW.ck {m : Nat} {row : Nat → Int32} {g : AH} {β : Type} {F : Option β} (W : RW m row g) : xck g m 14 F = F := if_pos W.1.1
/-- below a count: from nought on -/
theorem RW.isN {n v : Int32} : (if v < 0 then some (0 : Int32) else if n ≤ v then some 0 else some 1) = some (if 0 ≤ v ∧ v < n then 1 else 0) := by
  by_cases h1 : v < 0
  · rw [if_pos h1, if_neg (fun q => absurd h1 (i32_nlt.mpr q.1))]
  · rw [if_neg h1]
    by_cases h2 : n ≤ v
    · rw [if_pos h2, if_neg (fun q => absurd q.2 (i32_nlt.mpr h2))]
    · rw [if_neg h2, if_pos ⟨i32_nlt.mp h1, Classical.not_not.mp fun h => h2 (i32_nlt.mp h)⟩]
theorem RW.isWho {m : Nat} {row : Nat → Int32} {g : AH} (W : RW m row g) (v : Int32) : fM_isWho m v g = some (if 0 ≤ v ∧ v < row 0 then 1 else 0) := by
  unfold fM_isWho
  rw [W.ck, W.people]
  exact RW.isN
theorem RW.isMint {m : Nat} {row : Nat → Int32} {g : AH} (W : RW m row g) (v : Int32) : fM_isMint m v g = some (if 0 ≤ v ∧ v < row 1 then 1 else 0) := by
  unfold fM_isMint
  rw [W.ck, W.mints]
  exact RW.isN
theorem RW.isCoin {m : Nat} {row : Nat → Int32} {g : AH} (W : RW m row g) (v : Int32) : fM_isCoin m v g = some (if 0 ≤ v ∧ v < row 108 then 1 else 0) := by
  unfold fM_isCoin
  rw [W.ck, W.coins]
  exact RW.isN
theorem RW.topOf {m c : Nat} {row : Nat → Int32} {g : AH} (W : RW m row g) (h : 120 + 32 * c + 4 < 8140) : fM_topOf m (I c) g = some (row (120 + 32 * c + 4)) := by
  unfold fM_topOf
  rw [W.ck, show (4 : Int32) = I 4 from rfl, W.ofCoin h]
  rfl
