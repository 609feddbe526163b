/-! PL 4: the constructors of Law and State -/
set_option maxRecDepth 100000
/-- a State's arrays: field, kind, length -/
def slay : List (Nat × Nat × Nat) := [(1, 100, 40), (2, 100, 40), (3, 100, 40), (4, 100, 40), (5, 100, 360), (6, 100, 360), (7, 100, 360), (8, 100, 500), (9, 100, 500), (10, 100, 500), (11, 100, 500), (12, 100, 500), (13, 101, 500), (14, 100, 500), (15, 100, 500), (16, 100, 500), (17, 100, 500), (18, 100, 500), (19, 100, 500), (20, 100, 500)]
/-- i arrays made, put into the fields of the object v (kind K); the first lies at v + b -/
def AI (T : List (Nat × Nat × Nat)) (K b : Nat) (h : AH) (v i : Nat) (g : AH) : Prop := hkd g v = K ∧ hsz g + 1 = v + b + i ∧ hsl g = hsl h + ((T.take i).map fun q => q.2.2).sum ∧ Caps h g ∧ (∀ j, j < i → hrv g v (T.getD j (0, 0, 0)).1 = v + b + j ∧ hkd g (v + b + j) = (T.getD j (0, 0, 0)).2.1 ∧ hln g (v + b + j) = (T.getD j (0, 0, 0)).2.2 ∧ ∀ k, hiv g (v + b + j) k = 0 ∧ hjv g (v + b + j) k = 0) ∧ ∀ r, r < v + b → hkd g r = hkd h r ∧ hln g r = hln h r ∧ ∀ j, hiv g r j = hiv h r j ∧ hjv g r j = hjv h r j ∧ ((r ≠ v ∨ ∀ i9, i9 < i → j ≠ (T.getD i9 (0, 0, 0)).1) → hrv g r j = hrv h r j)
theorem AI.zero {T : List (Nat × Nat × Nat)} {K b v : Nat} {h : AH} (h1 : hkd h v = K) (h2 : hsz h + 1 = v + b) : AI T K b h v 0 h := ⟨h1, h2, by rw [List.take_zero]; rfl, ⟨rfl, rfl, rfl⟩, fun j hj => absurd hj (Nat.not_lt_zero j), fun r hr => ⟨rfl, rfl, fun j => ⟨rfl, rfl, fun _ => rfl⟩⟩⟩
/-- a table whose fields are apart -/
def TabOk (T : List (Nat × Nat × Nat)) : Prop := (∀ i, i < T.length → ∀ j, j < T.length → i ≠ j → (T.getD i (0, 0, 0)).1 ≠ (T.getD j (0, 0, 0)).1) ∧ ∀ i, i < T.length → ((T.take (i + 1)).map fun q => q.2.2).sum = ((T.take i).map fun q => q.2.2).sum + (T.getD i (0, 0, 0)).2.2
theorem AI.step {T : List (Nat × Nat × Nat)} {K b v i f kd n : Nat} {h g : AH} (hT : TabOk T) (hb : 1 ≤ b) (J : AI T K b h v i g) (hi : i < T.length) (he : T.getD i (0, 0, 0) = (f, kd, n)) : AI T K b h v (i + 1) (hsR (hnew g kd n n) v f (hsz g + 1)) := by
  obtain ⟨a1, a2, a3, a4, a5, a6⟩ := J
  have hvn : v ≠ hsz g + 1 := by omega
  have ef : (T.getD i (0, 0, 0)).1 = f := by rw [he]
  have ek : (T.getD i (0, 0, 0)).2.1 = kd := by rw [he]
  have en : (T.getD i (0, 0, 0)).2.2 = n := by rw [he]
  have hne : ∀ j, j < i + 1 → j ≠ i → (T.getD j (0, 0, 0)).1 ≠ f := fun j hj hji h => hT.1 j (Nat.lt_of_lt_of_le hj hi) i hi hji (h.trans ef.symm)
  have hsum := hT.2 i hi
  refine ⟨?_, ?_, ?_, a4, fun j hj => ⟨?_, ?_, ?_, fun k => ⟨?_, ?_⟩⟩, fun r hr => ⟨?_, ?_, fun j => ⟨?_, ?_, fun h9 => ?_⟩⟩⟩
  · rw [kd_R, kd_N, if_neg hvn]; exact a1
  · rw [sz_R, sz_N]; omega
  · rw [sl_R, sl_N, hsum, en, a3]; exact Nat.add_assoc _ _ _
  · rw [rv_R]
    by_cases hji : j = i
    · subst hji
      rw [if_pos ⟨rfl, ef⟩]; omega
    · rw [if_neg (fun h => hne j hj hji h.2), rv_N, if_neg hvn]
      exact (a5 j (by omega)).1
  · rw [kd_R, kd_N]
    by_cases hji : j = i
    · subst hji
      rw [if_pos (by omega), ek]
    · rw [if_neg (by omega)]; exact (a5 j (by omega)).2.1
  · rw [ln_R, ln_N]
    by_cases hji : j = i
    · subst hji
      rw [if_pos (by omega), en]
    · rw [if_neg (by omega)]; exact (a5 j (by omega)).2.2.1
  · rw [iv_R, iv_N]
    by_cases hji : j = i
    · rw [if_pos (by omega)]
    · rw [if_neg (by omega)]; exact ((a5 j (by omega)).2.2.2 k).1
  · rw [jv_R, jv_N]
    by_cases hji : j = i
    · rw [if_pos (by omega)]
    · rw [if_neg (by omega)]; exact ((a5 j (by omega)).2.2.2 k).2
  · rw [kd_R, kd_N, if_neg (by omega)]; exact (a6 r hr).1
  · rw [ln_R, ln_N, if_neg (by omega)]; exact (a6 r hr).2.1
  · rw [iv_R, iv_N, if_neg (by omega)]; exact ((a6 r hr).2.2 j).1
  · rw [jv_R, jv_N, if_neg (by omega)]; exact ((a6 r hr).2.2 j).2.1
  · rw [rv_R, if_neg ?_, rv_N, if_neg (by omega)]
    · exact ((a6 r hr).2.2 j).2.2 (h9.imp id fun h i9 h8 => h i9 (by omega))
    · rintro ⟨h1, h2⟩
      rcases h9 with h | h
      · exact h h1
      · exact h i (Nat.lt_succ_self i) (h2.trans ef.symm)
theorem AI.alloc {T : List (Nat × Nat × Nat)} {K b v i f kd n m c : Nat} {h g : AH} {β : Type} {k : AH → Option β} {Q : β → Prop} (hT : TabOk T) (hb : 1 ≤ b) (J : AI T K b h v i g) (h1 : v + b + c ≤ hcap h + 1) (h2 : hsl h + m ≤ hscap h) (hi : i < T.length) (hc : i < c) (he : T.getD i (0, 0, 0) = (f, kd, n)) (hn : n ≤ 60000) (hm : ((T.take i).map fun q => q.2.2).sum + n ≤ m) (kk : ∀ g', AI T K b h v (i + 1) g' → wpo (k g') Q) : wpo (xb2 (xnewa g kd (I n)) fun x g1 => (xpr g1 v [K] f x).bind k) Q := by
  have J1 := J.step hT hb hi he
  obtain ⟨a1, a2, a3, ⟨a4, a5, a6⟩, -⟩ := J
  rw [wpo_b2, wpo_newa hn]
  refine ⟨⟨by rw [a4]; omega, by rw [a5, a3]; omega⟩, ?_⟩
  rw [wpo_bind, wpo_pr]
  refine ⟨?_, kk _ J1⟩
  have := J1.1
  rw [kd_R] at this
  rw [this]
  exact List.mem_cons_self
theorem slay_ok : TabOk slay := ⟨by decide +kernel, by decide +kernel⟩
/-! a Law as it is made: v; its arrays at v + 1, v + 2 -/
def wlay : List (Nat × Nat × Nat) := [(0, 105, 8), (1, 106, 4)]
theorem wlay_ok : TabOk wlay := ⟨by decide +kernel, by decide +kernel⟩
/-- its three numbers are given, all else nought -/
def LawI (v : Nat) (h g : AH) : Prop := AI wlay 4 1 h v 2 g
theorem w_init {h : AH} {v : Nat} (hv : v ≠ 0) (hk : hkd h v = 4) (hz : hsz h = v) (h1 : v + 2 ≤ hcap h) (h2 : hsl h + 12 ≤ hscap h) : wpo (fW_init v h) fun z => ∃ g, AI wlay 4 1 h v 2 g ∧ z.2 = hsI (hsI (hsI g v 6 50) v 7 50) v 8 5 := by
  have J : AI wlay 4 1 h v 0 h := AI.zero hk (by omega)
  unfold fW_init
  rw [if_neg hv]
  refine J.alloc (n := 8) (m := 12) (c := 2) wlay_ok (by decide) (by omega) h2 (by decide) (by decide) rfl (by decide) (by decide) fun g J => ?_
  refine J.alloc (n := 4) (m := 12) (c := 2) wlay_ok (by decide) (by omega) h2 (by decide) (by decide) rfl (by decide) (by decide) fun g J => ?_
  have k4 : ∀ g' : AH, hkd g' = hkd g → hkd g' v ∈ [4] := fun g' e => by rw [e, J.1]; decide
  rw [wpo_bind, wpo_pi]
  refine ⟨k4 _ rfl, ?_⟩
  rw [wpo_bind, wpo_pi]
  refine ⟨k4 _ rfl, ?_⟩
  rw [wpo_bind, wpo_pi]
  refine ⟨k4 _ rfl, ?_⟩
  exact wpo_some.mpr ⟨g, J, rfl⟩
/-- a State as it is made: v; its Law at v + 1, its arrays from v + 4 -/
theorem s_init {h : AH} {v : Nat} (hv : v ≠ 0) (hk : hkd h v = 3) (hz : hsz h = v) (h1 : v + 23 ≤ hcap h) (h2 : hsl h + 7761 ≤ hscap h) : wpo (fS_init v h) fun z => ∃ g1 g2 g3, AI wlay 4 1 (hnew h 4 0 9) (v + 1) 2 g1 ∧ g2 = hsR (hsI (hsI (hsI g1 (v + 1) 6 50) (v + 1) 7 50) (v + 1) 8 5) v 0 (v + 1) ∧ AI slay 3 4 g2 v 20 g3 ∧ z.2 = hsI (hsI g3 v 27 (-1)) v 28 (-1) := by
  unfold fS_init
  rw [if_neg hv, wpo_b2, wpo_new]
  refine ⟨⟨by omega, by omega⟩, ?_⟩
  have e1 : hsz h + 1 = v + 1 := by rw [hz]
  rw [e1]
  have k1 : hkd (hnew h 4 0 9) (v + 1) = 4 := by rw [kd_N, if_pos e1.symm]
  show wpo (xb2 (xck (hnew h 4 0 9) (v + 1) 4 (fW_init (v + 1) (hnew h 4 0 9))) _) _
  rw [wpo_b2, wpo_ck]
  refine ⟨k1, wpo_mono (w_init (h := hnew h 4 0 9) (Nat.succ_ne_zero v) k1 (by rw [sz_N]; omega) (by rw [cap_N]; omega) (by rw [sl_N, scap_N]; omega)) ?_⟩
  rintro ⟨u, z⟩ ⟨g1, J1, rfl⟩
  have a6 := J1.2.2.2.2.2 v (by omega)
  have kv : hkd g1 v = 3 := by rw [a6.1, kd_N, if_neg (by omega)]; exact hk
  rw [wpo_bind, wpo_pr]
  refine ⟨by rw [kd_I, kd_I, kd_I, kv]; decide, ?_⟩
  obtain ⟨g2, hg2⟩ : ∃ g2, g2 = hsR (hsI (hsI (hsI g1 (v + 1) 6 50) (v + 1) 7 50) (v + 1) 8 5) v 0 (v + 1) := ⟨_, rfl⟩
  rw [← hg2]
  have b1 : hcap g2 = hcap h := by rw [hg2, cap_R, cap_I, cap_I, cap_I, J1.2.2.2.1.1, cap_N]
  have b2 : hscap g2 = hscap h := by rw [hg2, scap_R, scap_I, scap_I, scap_I, J1.2.2.2.1.2.1, scap_N]
  have b3 : hsl g2 = hsl h + 21 := by rw [hg2, sl_R, sl_I, sl_I, sl_I, J1.2.2.1, sl_N]; rfl
  have b4 : hsz g2 + 1 = v + 4 := by rw [hg2, sz_R, sz_I, sz_I, sz_I, J1.2.1]
  have J : AI slay 3 4 g2 v 0 g2 := AI.zero (by rw [hg2, kd_R, kd_I, kd_I, kd_I, kv]) b4
  have h1' : v + 4 + 20 ≤ hcap g2 + 1 := by omega
  have h2' : hsl g2 + 7740 ≤ hscap g2 := by omega
  clear b1 b2 b3 b4
  refine J.alloc (n := 40) (m := 7740) (c := 20) slay_ok (by decide) h1' h2' (by decide) (by decide) rfl (by decide) (by decide +kernel) fun g J => ?_
  refine J.alloc (n := 40) (m := 7740) (c := 20) slay_ok (by decide) h1' h2' (by decide) (by decide) rfl (by decide) (by decide +kernel) fun g J => ?_
  refine J.alloc (n := 40) (m := 7740) (c := 20) slay_ok (by decide) h1' h2' (by decide) (by decide) rfl (by decide) (by decide +kernel) fun g J => ?_
  refine J.alloc (n := 40) (m := 7740) (c := 20) slay_ok (by decide) h1' h2' (by decide) (by decide) rfl (by decide) (by decide +kernel) fun g J => ?_
  refine J.alloc (n := 360) (m := 7740) (c := 20) slay_ok (by decide) h1' h2' (by decide) (by decide) rfl (by decide) (by decide +kernel) fun g J => ?_
  refine J.alloc (n := 360) (m := 7740) (c := 20) slay_ok (by decide) h1' h2' (by decide) (by decide) rfl (by decide) (by decide +kernel) fun g J => ?_
  refine J.alloc (n := 360) (m := 7740) (c := 20) slay_ok (by decide) h1' h2' (by decide) (by decide) rfl (by decide) (by decide +kernel) fun g J => ?_
  refine J.alloc (n := 500) (m := 7740) (c := 20) slay_ok (by decide) h1' h2' (by decide) (by decide) rfl (by decide) (by decide +kernel) fun g J => ?_
  refine J.alloc (n := 500) (m := 7740) (c := 20) slay_ok (by decide) h1' h2' (by decide) (by decide) rfl (by decide) (by decide +kernel) fun g J => ?_
  refine J.alloc (n := 500) (m := 7740) (c := 20) slay_ok (by decide) h1' h2' (by decide) (by decide) rfl (by decide) (by decide +kernel) fun g J => ?_
  refine J.alloc (n := 500) (m := 7740) (c := 20) slay_ok (by decide) h1' h2' (by decide) (by decide) rfl (by decide) (by decide +kernel) fun g J => ?_
  refine J.alloc (n := 500) (m := 7740) (c := 20) slay_ok (by decide) h1' h2' (by decide) (by decide) rfl (by decide) (by decide +kernel) fun g J => ?_
  refine J.alloc (n := 500) (m := 7740) (c := 20) slay_ok (by decide) h1' h2' (by decide) (by decide) rfl (by decide) (by decide +kernel) fun g J => ?_
  refine J.alloc (n := 500) (m := 7740) (c := 20) slay_ok (by decide) h1' h2' (by decide) (by decide) rfl (by decide) (by decide +kernel) fun g J => ?_
  refine J.alloc (n := 500) (m := 7740) (c := 20) slay_ok (by decide) h1' h2' (by decide) (by decide) rfl (by decide) (by decide +kernel) fun g J => ?_
  refine J.alloc (n := 500) (m := 7740) (c := 20) slay_ok (by decide) h1' h2' (by decide) (by decide) rfl (by decide) (by decide +kernel) fun g J => ?_
  refine J.alloc (n := 500) (m := 7740) (c := 20) slay_ok (by decide) h1' h2' (by decide) (by decide) rfl (by decide) (by decide +kernel) fun g J => ?_
  refine J.alloc (n := 500) (m := 7740) (c := 20) slay_ok (by decide) h1' h2' (by decide) (by decide) rfl (by decide) (by decide +kernel) fun g J => ?_
  refine J.alloc (n := 500) (m := 7740) (c := 20) slay_ok (by decide) h1' h2' (by decide) (by decide) rfl (by decide) (by decide +kernel) fun g J => ?_
  refine J.alloc (n := 500) (m := 7740) (c := 20) slay_ok (by decide) h1' h2' (by decide) (by decide) rfl (by decide) (by decide +kernel) fun g3 J => ?_
  rw [wpo_bind, wpo_pi]
  refine ⟨by rw [J.1]; decide, ?_⟩
  rw [wpo_bind, wpo_pi]
  refine ⟨by rw [kd_I, J.1]; decide, ?_⟩
  exact wpo_some.mpr ⟨g1, g2, g3, J1, hg2, J, rfl⟩
