/-! PL 9: feed, end -/
set_option maxRecDepth 100000
/-- what the ints ws, told one by one, leave on a tape -/
def TapeL (h : AH) (F f A n : Nat) (ws : List Int32) (g : AH) : Prop := SameS h g ∧ hjv g = hjv h ∧ hiv g F f = I (n + 4 * ws.length) ∧ (∀ r j, ¬ (r = F ∧ j = f) → ¬ (r = A ∧ n ≤ j ∧ j < n + 4 * ws.length) → hiv g r j = hiv h r j) ∧ ∀ i, i < 4 * ws.length → hiv g A (n + i) &&& 255 = bty (ws.getD (i / 4) 0) (i % 4)
theorem TapeL.nil {h : AH} {F f A n : Nat} (hn : hiv h F f = I n) : TapeL h F f A n [] h := ⟨SameS.rf, rfl, hn, fun r j _ _ => rfl, fun i hi => absurd hi (Nat.not_lt_zero i)⟩
theorem TapeL.snoc {h g g' : AH} {F f A n : Nat} {ws : List Int32} {w : Int32} (hFA : F ≠ A) (T : TapeL h F f A n ws g) (J : TapeJ g F f A (n + 4 * ws.length) w 4 g') : TapeL h F f A n (ws ++ [w]) g' := by
  obtain ⟨t1, t2, t3, t4, t5⟩ := T
  obtain ⟨j1, j2, j3, j4, j5⟩ := J
  have hl : (ws ++ [w]).length = ws.length + 1 := by simp
  refine ⟨t1.tr j1, j2.trans t2, ?_, fun r j h1 h2 => ?_, fun i hi => ?_⟩
  · rw [j3, hl]; congr 1
  · rw [hl] at h2
    rw [j4 r j h1 (fun h => h2 ⟨h.1, by omega, by omega⟩), t4 r j h1 (fun h => h2 ⟨h.1, by omega, by omega⟩)]
  · rw [hl] at hi
    by_cases h4 : i < 4 * ws.length
    · rw [j4 A (n + i) (fun h => hFA h.1.symm) (fun h => by omega), t5 i h4]
      simp only [List.getD_eq_getElem?_getD, List.getElem?_append_left (show i / 4 < ws.length by omega)]
    · have e : i = 4 * ws.length + (i - 4 * ws.length) := by omega
      have h5 := j5 (i - 4 * ws.length) (by omega)
      rw [show n + 4 * ws.length + (i - 4 * ws.length) = n + i by omega] at h5
      rw [h5, show i / 4 = ws.length by omega, show i % 4 = i - 4 * ws.length by omega]
      simp
theorem c_feed {c n : Nat} {a b d e f : Int32} {h : AH} (L : LC c h) (hn : hiv h c 1 = I n) (hn7 : n ≤ 740) : wpo (fC_feed c a b d e f h) fun z => if n + 20 ≤ 740 then z.1 = I (n + 20) ∧ TapeL h c 1 (c + 1) n [a, b, d, e, f] z.2 else z = (-1, h) := by
  have k0 : ∀ g, LC c g → hkd g c = 1 := fun g L => L.1
  have k1 : ∀ g, LC c g → hkd g c ∈ [1] := fun g L => by rw [L.1]; decide
  have hne : c ≠ c + 1 := Nat.ne_of_lt (Nat.lt_succ_self c)
  unfold fC_feed
  rw [wpo_bind, wpo_gi]
  refine ⟨k1 h L, ?_⟩
  rw [hn, show I n + (20 : Int32) = I (n + 20) from I_add n 20, show ((740 : Int32)) = I 740 from rfl, wpo_ite]
  refine ⟨fun h7 => ?_, fun h7 => ?_⟩
  · rw [I_le (by omega) (by omega)] at h7
    simp only [if_pos h7]
    have T0 : TapeL h c 1 (c + 1) n [] h := TapeL.nil hn
    rw [wpo_b2, wpo_ck]
    refine ⟨k0 _ L, wpo_mono (c_four (n := n) L hn (by omega)) ?_⟩
    rintro ⟨_, g1⟩ J1
    have T1 := T0.snoc hne (w := a) J1
    have L1 := L.same T1.1
    rw [wpo_b2, wpo_ck]
    refine ⟨k0 _ L1, wpo_mono (c_four (n := n + 4) L1 T1.2.2.1 (by omega)) ?_⟩
    rintro ⟨_, g2⟩ J2
    have T2 := T1.snoc hne (w := b) J2
    have L2 := L.same T2.1
    rw [wpo_b2, wpo_ck]
    refine ⟨k0 _ L2, wpo_mono (c_four (n := n + 8) L2 T2.2.2.1 (by omega)) ?_⟩
    rintro ⟨_, g3⟩ J3
    have T3 := T2.snoc hne (w := d) J3
    have L3 := L.same T3.1
    rw [wpo_b2, wpo_ck]
    refine ⟨k0 _ L3, wpo_mono (c_four (n := n + 12) L3 T3.2.2.1 (by omega)) ?_⟩
    rintro ⟨_, g4⟩ J4
    have T4 := T3.snoc hne (w := e) J4
    have L4 := L.same T4.1
    rw [wpo_b2, wpo_ck]
    refine ⟨k0 _ L4, wpo_mono (c_four (n := n + 16) L4 T4.2.2.1 (by omega)) ?_⟩
    rintro ⟨_, g5⟩ J5
    have T5 := T4.snoc hne (w := f) J5
    have L5 := L.same T5.1
    rw [wpo_bind, wpo_gi]
    refine ⟨k1 _ L5, ?_⟩
    exact wpo_some.mpr ⟨T5.2.2.1, T5⟩
  · rw [I_le (by omega) (by omega)] at h7
    simp only [if_neg h7]
    exact wpo_some.mpr rfl
theorem m_feed {m n : Nat} {a b d e f : Int32} {h : AH} (L : LM m h) (hn : hiv h m 2 = I n) (hn7 : n ≤ 740) : wpo (fM_feed m a b d e f h) fun z => if n + 20 ≤ 740 then z.1 = I (n + 20) ∧ TapeL (hsI h m 0 0) m 2 (m + 1) n [a, b, d, e, f] z.2 else z = (-1, hsI h m 0 0) := by
  have k0 : ∀ g, LM m g → hkd g m = 14 := fun g L => L.1
  have k1 : ∀ g, LM m g → hkd g m ∈ [14] := fun g L => by rw [L.1]; decide
  have hne : m ≠ m + 1 := Nat.ne_of_lt (Nat.lt_succ_self m)
  unfold fM_feed
  rw [wpo_bind, wpo_pi]
  refine ⟨k1 h L, ?_⟩
  have L0 : LM m (hsI h m 0 0) := L.same (SameS.rf.I _ _ _)
  have hn0 : hiv (hsI h m 0 0) m 2 = I n := by rw [iv_I, if_neg (by omega)]; exact hn
  generalize hsI h m 0 0 = h0 at *
  rw [wpo_bind, wpo_gi]
  refine ⟨k1 _ L0, ?_⟩
  rw [hn0, show I n + (20 : Int32) = I (n + 20) from I_add n 20, show ((740 : Int32)) = I 740 from rfl, wpo_ite]
  refine ⟨fun h7 => ?_, fun h7 => ?_⟩
  · rw [I_le (by omega) (by omega)] at h7
    simp only [if_pos h7]
    have T0 : TapeL h0 m 2 (m + 1) n [] h0 := TapeL.nil hn0
    rw [wpo_b2, wpo_ck]
    refine ⟨k0 _ L0, wpo_mono (m_come (n := n) L0 hn0 (by omega)) ?_⟩
    rintro ⟨_, g1⟩ J1
    have T1 := T0.snoc hne (w := a) J1
    have L1 := L0.same T1.1
    rw [wpo_b2, wpo_ck]
    refine ⟨k0 _ L1, wpo_mono (m_come (n := n + 4) L1 T1.2.2.1 (by omega)) ?_⟩
    rintro ⟨_, g2⟩ J2
    have T2 := T1.snoc hne (w := b) J2
    have L2 := L0.same T2.1
    rw [wpo_b2, wpo_ck]
    refine ⟨k0 _ L2, wpo_mono (m_come (n := n + 8) L2 T2.2.2.1 (by omega)) ?_⟩
    rintro ⟨_, g3⟩ J3
    have T3 := T2.snoc hne (w := d) J3
    have L3 := L0.same T3.1
    rw [wpo_b2, wpo_ck]
    refine ⟨k0 _ L3, wpo_mono (m_come (n := n + 12) L3 T3.2.2.1 (by omega)) ?_⟩
    rintro ⟨_, g4⟩ J4
    have T4 := T3.snoc hne (w := e) J4
    have L4 := L0.same T4.1
    rw [wpo_b2, wpo_ck]
    refine ⟨k0 _ L4, wpo_mono (m_come (n := n + 16) L4 T4.2.2.1 (by omega)) ?_⟩
    rintro ⟨_, g5⟩ J5
    have T5 := T4.snoc hne (w := f) J5
    have L5 := L0.same T5.1
    rw [wpo_bind, wpo_gi]
    refine ⟨k1 _ L5, ?_⟩
    exact wpo_some.mpr ⟨T5.2.2.1, T5⟩
  · rw [I_le (by omega) (by omega)] at h7
    simp only [if_neg h7]
    exact wpo_some.mpr rfl
