/-! PL 10: the small functions of both; end, taken, take -/
set_option maxRecDepth 100000
def bi (P : Prop) (i : Decidable P) : Int32 := @ite _ P i 1 0
theorem i32_nlt {a b : Int32} : ¬ a < b ↔ b ≤ a := by
  rw [Int32.lt_iff_toInt_lt, Int32.le_iff_toInt_le]
  omega
theorem c_isIn (v a b : Int32) (h : AH) : fC_isIn v a b h = some (if a ≤ v ∧ v ≤ b then 1 else 0) := by
  unfold fC_isIn
  by_cases h1 : v < a
  · rw [if_pos h1, if_neg (fun q => absurd q.1 (by rw [← i32_nlt]; exact fun n => n h1))]
  · rw [if_neg h1]
    by_cases h2 : b < v
    · rw [if_pos h2, if_neg (fun q => absurd q.2 (by rw [← i32_nlt]; exact fun n => n h2))]
    · rw [if_neg h2, if_pos ⟨i32_nlt.mp h1, i32_nlt.mp h2⟩]
theorem m_isIn (v a b : Int32) (h : AH) : fM_isIn v a b h = some (if a ≤ v ∧ v ≤ b then 1 else 0) := c_isIn v a b h
def hasB (x k : Int32) : Prop := ((x >>> (k &&& 31)) &&& (1 : Int32)) = (1 : Int32)
theorem c_has (x k : Int32) (h : AH) : fC_has x k h = some (if ((x >>> (k &&& 31)) &&& (1 : Int32)) = (1 : Int32) then 1 else 0) := by
  unfold fC_has
  split <;> rfl
theorem m_has (x k : Int32) (h : AH) : fM_has x k h = some (if ((x >>> (k &&& 31)) &&& (1 : Int32)) = (1 : Int32) then 1 else 0) := c_has x k h
theorem c_end {c : Nat} {v : Int32} {h : AH} (L : LC c h) : wpo (fC_end c v h) fun z => if 0 ≤ v ∧ v ≤ hiv h c 1 then z = (1, hsI h c 1 v) else z = (0, h) := by
  have k1 : hkd h c ∈ [1] := by rw [L.1]; decide
  unfold fC_end
  rw [wpo_ite]
  refine ⟨fun h1 => ?_, fun h1 => ?_⟩
  · rw [wpo_some, if_neg (fun q => absurd h1 (i32_nlt.mpr q.1))]
  · rw [wpo_bind, wpo_gi]
    refine ⟨k1, ?_⟩
    rw [wpo_ite]
    refine ⟨fun h2 => ?_, fun h2 => ?_⟩
    · rw [wpo_bind, wpo_pi]
      refine ⟨k1, ?_⟩
      rw [wpo_some, if_pos ⟨i32_nlt.mp h1, h2⟩]
    · rw [wpo_some, if_neg (fun q => h2 q.2)]
theorem m_end {m : Nat} {v : Int32} {h : AH} (L : LM m h) : wpo (fM_end m v h) fun z => if 0 ≤ v ∧ v ≤ hiv h m 2 then z = (1, hsI (hsI h m 0 0) m 2 v) else z = (0, hsI h m 0 0) := by
  have k1 : hkd h m ∈ [14] := by rw [L.1]; decide
  have e2 : hiv (hsI h m 0 0) m 2 = hiv h m 2 := by rw [iv_I, if_neg (by omega)]
  unfold fM_end
  rw [wpo_bind, wpo_pi]
  refine ⟨k1, ?_⟩
  have k2 : hkd (hsI h m 0 0) m ∈ [14] := k1
  rw [wpo_ite]
  refine ⟨fun h1 => ?_, fun h1 => ?_⟩
  · rw [wpo_some, if_neg (fun q => absurd h1 (i32_nlt.mpr q.1))]
  · rw [wpo_bind, wpo_gi, e2]
    refine ⟨k2, ?_⟩
    rw [wpo_ite]
    refine ⟨fun h2 => ?_, fun h2 => ?_⟩
    · rw [wpo_bind, wpo_pi]
      refine ⟨k2, ?_⟩
      rw [wpo_some, if_pos ⟨i32_nlt.mp h1, h2⟩]
    · rw [wpo_some, if_neg (fun q => h2 q.2)]
theorem c_taken {c : Nat} {h : AH} (L : LC c h) : fC_taken c h = some ((), hsI (hsI h c 2 (hiv h c 1)) c 1 0) := by
  have k1 : hkd h c ∈ [1] := by rw [L.1]; decide
  unfold fC_taken xgi xpi
  rw [if_pos k1]
  simp only [Option.bind_some, kd_I]
  rw [if_pos k1, Option.bind_some, kd_I, if_pos k1, Option.bind_some]
theorem m_take {m : Nat} {h : AH} (L : LM m h) : fM_take m h = some (hiv h m 2, hsI h m 2 0) := by
  have k1 : hkd h m ∈ [14] := by rw [L.1]; decide
  unfold fM_take xgi xpi
  simp only [Option.bind_some, if_pos k1]
