/-! PL 11: the reference's row, laid at its first use -/
set_option maxRecDepth 100000
def laid0 (j : Nat) : Int32 := if j = 4 ∨ j = 5 then 50 else if j = 6 then 5 else if j = 110 ∨ j = 111 then -1 else 0
/-- the row of now, as it is or as it will be laid -/
def MRow (m : Nat) (row : Nat → Int32) (g : AH) : Prop := (hiv g m 22 ≠ 0 ∧ ∀ j, j < 8140 → hiv g (m + 2) j = row j) ∨ (hiv g m 22 = 0 ∧ (∀ j, j < 8140 → hiv g (m + 2) j = 0) ∧ ∀ j, j < 8140 → row j = laid0 j)
theorem LM.now {m : Nat} {g : AH} (L : LM m g) : hrv g m 14 = m + 2 ∧ hkd g (m + 2) = 100 ∧ hln g (m + 2) = 8140 := L.2 1 (by decide)
theorem m_plain {m r : Nat} {h : AH} (hk : hkd h r = 100) (hl : 7 ≤ hln h r) : fM_plain m r h = some ((), hsI (hsI (hsI h r 4 50) r 5 50) r 6 5) := by
  have e : wpo (fM_plain m r h) fun z => z = ((), hsI (hsI (hsI h r 4 50) r 5 50) r 6 5) := by
    unfold fM_plain
    rw [wpo_bind]
    refine (wpo_si (n := 4) (by decide)).mpr ⟨⟨hk, by omega⟩, ?_⟩
    rw [wpo_bind]
    refine (wpo_si (n := 5) (by decide)).mpr ⟨⟨by rw [kd_I]; exact hk, by rw [ln_I]; omega⟩, ?_⟩
    rw [wpo_bind]
    refine (wpo_si (n := 6) (by decide)).mpr ⟨⟨by rw [kd_I, kd_I]; exact hk, by rw [ln_I, ln_I]; omega⟩, ?_⟩
    exact wpo_some.mpr rfl
  obtain ⟨z, e1, rfl⟩ := e
  exact e1
theorem m_lay {m : Nat} {row : Nat → Int32} {h : AH} (L : LM m h) (M : MRow m row h) : wpo (fM_lay m h) fun z => SameS h z.2 ∧ hjv z.2 = hjv h ∧ hiv z.2 m 22 ≠ 0 ∧ (∀ j, j < 8140 → hiv z.2 (m + 2) j = row j) ∧ ∀ r j, r ≠ m + 2 → ¬ (r = m ∧ j = 22) → hiv z.2 r j = hiv h r j := by
  have k1 : hkd h m ∈ [14] := by rw [L.1]; decide
  obtain ⟨n1, n2, n3⟩ := L.now
  unfold fM_lay
  rw [wpo_bind, wpo_gi]
  refine ⟨k1, ?_⟩
  rw [wpo_ite]
  refine ⟨fun h0 => ?_, fun h0 => ?_⟩
  · rcases M with ⟨q, -⟩ | ⟨-, q2, q3⟩
    · exact absurd h0 q
    · rw [wpo_bind, wpo_pz]
      refine ⟨⟨k1, Or.inr rfl⟩, ?_⟩
      rw [wpo_bind, wpo_gr, kd_I, rv_I, n1]
      refine ⟨k1, ?_⟩
      rw [wpo_b2, wpo_ck, kd_I]
      refine ⟨L.1, ?_⟩
      rw [m_plain (by rw [kd_I]; exact n2) (by rw [ln_I, n3]; decide), wpo_some]
      rw [wpo_bind, wpo_gr]
      simp only [kd_I, rv_I, n1]
      refine ⟨k1, ?_⟩
      rw [wpo_bind]
      refine (wpo_si (n := 110) (by decide)).mpr ⟨⟨by rw [kd_I, kd_I, kd_I, kd_I]; exact n2, by rw [ln_I, ln_I, ln_I, ln_I, n3]; decide⟩, ?_⟩
      rw [wpo_bind, wpo_gr]
      simp only [kd_I, rv_I, n1]
      refine ⟨k1, ?_⟩
      rw [wpo_bind]
      refine (wpo_si (n := 111) (by decide)).mpr ⟨⟨by rw [kd_I, kd_I, kd_I, kd_I, kd_I]; exact n2, by rw [ln_I, ln_I, ln_I, ln_I, ln_I, n3]; decide⟩, ?_⟩
      rw [wpo_some]
      refine ⟨(((((SameS.rf.I _ _ _).I _ _ _).I _ _ _).I _ _ _).I _ _ _).I _ _ _, rfl, ?_, fun j hj => ?_, fun r j h1 h2 => ?_⟩
      · rw [iv_I, if_neg (by omega), iv_I, if_neg (by omega), iv_I, if_neg (by omega), iv_I, if_neg (by omega), iv_I, if_neg (by omega), iv_I, if_pos ⟨rfl, rfl⟩]
        decide
      · rw [q3 j hj]
        simp only [iv_I, laid0, true_and]
        rw [if_neg (show ¬ (m + 2 = m ∧ j = 22) by omega), q2 j hj]
        by_cases a : j = 111
        · subst a; rfl
        by_cases b : j = 110
        · subst b; rfl
        by_cases c : j = 6
        · subst c; rfl
        by_cases d : j = 5
        · subst d; rfl
        by_cases e : j = 4
        · subst e; rfl
        simp [a, b, c, d, e]
      · rw [iv_I, if_neg (fun z => h1 z.1), iv_I, if_neg (fun z => h1 z.1), iv_I, if_neg (fun z => h1 z.1), iv_I, if_neg (fun z => h1 z.1), iv_I, if_neg (fun z => h1 z.1), iv_I, if_neg h2]
  · rw [wpo_some]
    rcases M with ⟨-, q⟩ | ⟨q, -⟩
    · exact ⟨SameS.rf, rfl, h0, q, fun r j _ _ => rfl⟩
    · exact absurd q h0
