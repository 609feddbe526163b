/-! PL 2: layouts of the two systems; the tape -/
set_option maxRecDepth 100000
/-- all but ints and longs is as it was -/
def SameS (h h1 : AH) : Prop := hsz h1 = hsz h ∧ hsl h1 = hsl h ∧ hcap h1 = hcap h ∧ hscap h1 = hscap h ∧ hkd h1 = hkd h ∧ hln h1 = hln h ∧ hrv h1 = hrv h ∧ hcs h1 = hcs h
theorem SameS.rf {h : AH} : SameS h h := ⟨rfl, rfl, rfl, rfl, rfl, rfl, rfl, rfl⟩
theorem SameS.tr {h h1 h2 : AH} (a : SameS h h1) (b : SameS h1 h2) : SameS h h2 := ⟨b.1.trans a.1, b.2.1.trans a.2.1, b.2.2.1.trans a.2.2.1, b.2.2.2.1.trans a.2.2.2.1, b.2.2.2.2.1.trans a.2.2.2.2.1, b.2.2.2.2.2.1.trans a.2.2.2.2.2.1, b.2.2.2.2.2.2.1.trans a.2.2.2.2.2.2.1, b.2.2.2.2.2.2.2.trans a.2.2.2.2.2.2.2⟩
theorem SameS.I {h h1 : AH} (a : SameS h h1) (r k : Nat) (v : Int32) : SameS h (hsI h1 r k v) := a
theorem SameS.J {h h1 : AH} (a : SameS h h1) (r k : Nat) (v : Int64) : SameS h (hsJ h1 r k v) := a
/-- the reference's cells: its object at m, its arrays behind it: field, kind, length -/
def mlay : List (Nat × Nat × Nat) := [(1, 100, 740), (14, 100, 8140), (15, 100, 108), (16, 100, 16280), (17, 100, 47400), (18, 103, 12), (19, 103, 12), (20, 103, 24), (21, 101, 2), (25, 100, 40), (26, 100, 12), (27, 100, 72), (28, 100, 26013), (29, 100, 40), (30, 100, 12), (33, 100, 9), (34, 100, 9), (35, 100, 9), (36, 100, 9), (37, 100, 9), (38, 100, 9), (42, 100, 240)]
def LM (m : Nat) (h : AH) : Prop := hkd h m = 14 ∧ ∀ i, i < 22 → hrv h m (mlay.getD i (0, 0, 0)).1 = m + 1 + i ∧ hkd h (m + 1 + i) = (mlay.getD i (0, 0, 0)).2.1 ∧ hln h (m + 1 + i) = (mlay.getD i (0, 0, 0)).2.2
theorem LM.same {m : Nat} {h h1 : AH} (a : LM m h) (b : SameS h h1) : LM m h1 := by
  obtain ⟨b1, b2, b3, b4, b5, b6, b7, b8⟩ := b
  unfold LM
  rw [b5, b6, b7]
  exact a
/-- the component's own arrays: field, place behind c, kind, length -/
def clay : List (Nat × Nat × Nat × Nat) := [(0, 1, 102, 740), (4, 2, 2, 0), (5, 3, 104, 7), (6, 4, 104, 12), (8, 29, 107, 6), (10, 30, 5, 0), (12, 31, 100, 12), (13, 32, 100, 72), (14, 33, 100, 26013), (15, 34, 100, 40), (16, 35, 100, 40), (19, 36, 100, 9), (20, 37, 100, 9), (21, 38, 100, 9), (22, 39, 100, 9), (25, 40, 6, 0), (27, 43, 107, 2), (28, 44, 108, 2)]
def LC (c : Nat) (h : AH) : Prop := hkd h c = 1 ∧ hrv h c 7 = c + 5 ∧ ∀ i, i < 18 → hrv h c (clay.getD i (0, 0, 0, 0)).1 = c + (clay.getD i (0, 0, 0, 0)).2.1 ∧ hkd h (c + (clay.getD i (0, 0, 0, 0)).2.1) = (clay.getD i (0, 0, 0, 0)).2.2.1 ∧ hln h (c + (clay.getD i (0, 0, 0, 0)).2.1) = (clay.getD i (0, 0, 0, 0)).2.2.2
theorem LC.same {c : Nat} {h h1 : AH} (a : LC c h) (b : SameS h h1) : LC c h1 := by
  obtain ⟨b1, b2, b3, b4, b5, b6, b7, b8⟩ := b
  unfold LC
  rw [b5, b6, b7]
  exact a
/-- the k-th byte of an int on the tape, as it is taken -/
def bty (w : Int32) (k : Nat) : Int32 := ((Int32.toUInt32 w >>> (Int32.toUInt32 (I (24 - 8 * k)) &&& Int32.toUInt32 31)).toInt32) &&& 255
theorem b255 : ∀ i, i < 32 → (255#32 : BitVec 32).getLsbD i = decide (i < 8) := by decide
theorem bty_s (w : Int32) (n : Nat) (hn : n + 8 ≤ 32) {a : Int32} {b : UInt32} (ha : ∀ x : Int32, (x >>> a).toBitVec = x.toBitVec.sshiftRight n) (hb : ∀ x : UInt32, (x >>> b).toBitVec = x.toBitVec >>> n) : (((Int32.toInt8 (w >>> a)).toInt32).toInt8.toInt32) &&& 255 = ((Int32.toUInt32 w >>> b).toInt32) &&& 255 := by
  apply Int32.toBitVec_inj.mp
  apply BitVec.eq_of_getLsbD_eq
  intro i hi
  simp only [Int32.toBitVec_and, Int8.toBitVec_toInt32, Int32.toBitVec_toInt8, BitVec.getLsbD_and, ha, UInt32.toBitVec_toInt32, hb, show (255 : Int32).toBitVec = 255#32 from rfl, b255 i hi]
  by_cases h8 : i < 8
  · simp only [BitVec.getLsbD_signExtend, BitVec.getLsbD_sshiftRight, BitVec.getLsbD_ushiftRight, if_pos h8, if_pos (show i < 32 by omega), if_pos (show n + i < 32 by omega), decide_eq_true h8, decide_eq_true hi, decide_eq_false (show ¬ 32 ≤ i by omega), Bool.not_false, Bool.true_and, Bool.and_true]
    rfl
  · simp [h8]
theorem bty_c (w : Int32) (k : Nat) (hk : k < 4) : (((Int32.toInt8 (w >>> ((I (24 - 8 * k)) &&& 31))).toInt32).toInt8.toInt32) &&& 255 = bty w k := by
  rcases k with _ | _ | _ | _ | k
  · exact bty_s w 24 (by decide) (fun x => by simp [I]) (fun x => by simp [I])
  · exact bty_s w 16 (by decide) (fun x => by simp [I]) (fun x => by simp [I])
  · exact bty_s w 8 (by decide) (fun x => by simp [I]) (fun x => by simp [I])
  · exact bty_s w 0 (by decide) (fun x => by simp [I]) (fun x => by simp [I])
  · omega
/-- what four bytes more on a tape leave: F the length's cell and place, A the tape's cell -/
def TapeJ (h : AH) (F f A n : Nat) (w : Int32) (k : Nat) (g : AH) : Prop := SameS h g ∧ hjv g = hjv h ∧ hiv g F f = I (n + k) ∧ (∀ r j, ¬ (r = F ∧ j = f) → ¬ (r = A ∧ n ≤ j ∧ j < n + k) → hiv g r j = hiv h r j) ∧ ∀ i, i < k → hiv g A (n + i) &&& 255 = bty w i
theorem TapeJ.step {h : AH} {F f A n k : Nat} {w v : Int32} {g : AH} (hFA : F ≠ A) (J : TapeJ h F f A n w k g) (hv : v &&& 255 = bty w k) : TapeJ h F f A n w (k + 1) (hsI (hsI g A (n + k) v) F f (I (n + k) + 1)) := by
  obtain ⟨j1, j2, j3, j4, j5⟩ := J
  refine ⟨(j1.I _ _ _).I _ _ _, j2, ?_, fun r j h1 h2 => ?_, fun i hi => ?_⟩
  · rw [iv_I, if_pos ⟨rfl, rfl⟩]
    exact I_add (n + k) 1
  · rw [iv_I, if_neg h1, iv_I]
    by_cases h3 : r = A ∧ j = n + k
    · exact absurd ⟨h3.1, by omega, by omega⟩ h2
    · rw [if_neg h3]
      exact j4 r j h1 fun h => h2 ⟨h.1, h.2.1, by omega⟩
  · rw [iv_I, if_neg (fun h => hFA h.1.symm), iv_I]
    by_cases h3 : i = k
    · subst h3
      rw [if_pos ⟨rfl, rfl⟩]
      exact hv
    · rw [if_neg (fun h => h3 (by omega))]
      exact j5 i (by omega)
theorem c_four {c n : Nat} {w : Int32} {h : AH} (L : LC c h) (hn : hiv h c 1 = I n) (hn4 : n + 4 ≤ 740) : wpo (fC_four c w h) fun z => TapeJ h c 1 (c + 1) n w 4 z.2 := by
  unfold fC_four
  rw [wpo_bind]
  refine wpo_loop (n := 4) (fun k s => s.1 = c ∧ s.2.1 = w ∧ s.2.2.1 = (if k < 4 then I (24 - 8 * k) else -8) ∧ TapeJ h c 1 (c + 1) n w k s.2.2.2) (fun k hk s hs => ?_) (fun s hs => ?_) ⟨rfl, rfl, rfl, SameS.rf, rfl, hn, fun r j _ _ => rfl, fun i hi => absurd hi (Nat.not_lt_zero i)⟩
  · obtain ⟨v0, v1, v2, g⟩ := s
    obtain ⟨rfl, rfl, e3, J⟩ := hs
    have e3 : v2 = I (24 - 8 * k) := by rw [if_pos hk] at e3; exact e3
    have hneg : ¬ v2 < 0 := by
      rw [e3]
      show ¬ I (24 - 8 * k) < I 0
      rw [I_lt (by omega) (by omega)]
      omega
    have L1 := L.same J.1
    obtain ⟨a1, a2, a3⟩ := L1.2.2 0 (by decide)
    have a1 : hrv g v0 0 = v0 + 1 := a1
    have a2 : hkd g (v0 + 1) = 102 := a2
    have a3 : hln g (v0 + 1) = 740 := a3
    have a0 : hkd g v0 ∈ [1] := by rw [L1.1]; decide
    show wpo (fC_four_l3 v0 v1 v2 g) _
    unfold fC_four_l3
    rw [if_neg hneg]
    simp only [wpo_bind, wpo_gr, wpo_gi, J.2.2.1, wpo_sb (show n + k < 2 ^ 31 by omega), a1]
    refine ⟨a0, a0, ⟨a2, by rw [a3]; omega⟩, ?_⟩
    rw [iv_I, if_neg (fun h => Nat.ne_of_lt (Nat.lt_succ_self v0) h.1), J.2.2.1]
    refine ⟨a0, ?_⟩
    rw [wpo_pi, wpo_some]
    refine ⟨a0, rfl, rfl, ?_, ?_⟩
    · show v2 + (-8) = _
      rw [e3]
      rcases k with _ | _ | _ | _ | k
      · decide
      · decide
      · decide
      · decide
      · omega
    · refine J.step (Nat.ne_of_lt (Nat.lt_succ_self v0)) ?_
      rw [e3]
      exact bty_c v1 k hk
  · obtain ⟨v0, v1, v2, g⟩ := s
    obtain ⟨rfl, rfl, e3, J⟩ := hs
    have e3 : v2 = -8 := e3
    show wpo (fC_four_l3 v0 v1 v2 g) _
    unfold fC_four_l3
    rw [if_pos (by rw [e3]; decide), wpo_some]
    exact ⟨_, rfl, J⟩
theorem m_come {m n : Nat} {w : Int32} {h : AH} (L : LM m h) (hn : hiv h m 2 = I n) (hn4 : n + 4 ≤ 740) : wpo (fM_come m w h) fun z => TapeJ h m 2 (m + 1) n w 4 z.2 := by
  unfold fM_come
  rw [wpo_bind]
  refine wpo_loop (n := 4) (fun k s => s.1 = m ∧ s.2.1 = w ∧ s.2.2.1 = (if k < 4 then I (24 - 8 * k) else -8) ∧ TapeJ h m 2 (m + 1) n w k s.2.2.2) (fun k hk s hs => ?_) (fun s hs => ?_) ⟨rfl, rfl, rfl, SameS.rf, rfl, hn, fun r j _ _ => rfl, fun i hi => absurd hi (Nat.not_lt_zero i)⟩
  · obtain ⟨v0, v1, v2, g⟩ := s
    obtain ⟨rfl, rfl, e3, J⟩ := hs
    have e3 : v2 = I (24 - 8 * k) := by rw [if_pos hk] at e3; exact e3
    have hneg : ¬ v2 < 0 := by
      rw [e3]
      show ¬ I (24 - 8 * k) < I 0
      rw [I_lt (by omega) (by omega)]
      omega
    have L1 := L.same J.1
    obtain ⟨a1, a2, a3⟩ := L1.2 0 (by decide)
    have a1 : hrv g v0 1 = v0 + 1 := a1
    have a2 : hkd g (v0 + 1) = 100 := a2
    have a3 : hln g (v0 + 1) = 740 := a3
    have a0 : hkd g v0 ∈ [14] := by rw [L1.1]; decide
    show wpo (fM_come_l3 v0 v1 v2 g) _
    unfold fM_come_l3
    rw [if_neg hneg]
    simp only [wpo_bind, wpo_gr, wpo_gi, J.2.2.1, wpo_si (show n + k < 2 ^ 31 by omega), a1]
    refine ⟨a0, a0, ⟨a2, by rw [a3]; omega⟩, ?_⟩
    rw [iv_I, if_neg (fun h => Nat.ne_of_lt (Nat.lt_succ_self v0) h.1), J.2.2.1]
    refine ⟨a0, ?_⟩
    rw [wpo_pi, wpo_some]
    refine ⟨a0, rfl, rfl, ?_, ?_⟩
    · show v2 + (-8) = _
      rw [e3]
      rcases k with _ | _ | _ | _ | k
      · decide
      · decide
      · decide
      · decide
      · omega
    · refine J.step (Nat.ne_of_lt (Nat.lt_succ_self v0)) ?_
      rw [e3, Int32.and_assoc]
      rfl
  · obtain ⟨v0, v1, v2, g⟩ := s
    obtain ⟨rfl, rfl, e3, J⟩ := hs
    have e3 : v2 = -8 := e3
    show wpo (fM_come_l3 v0 v1 v2 g) _
    unfold fM_come_l3
    rw [if_pos (by rw [e3]; decide), wpo_some]
    exact ⟨_, rfl, J⟩
