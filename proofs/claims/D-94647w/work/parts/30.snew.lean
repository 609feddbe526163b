/-! PL 5: a State, a Law: their layouts, and as they are made -/
set_option maxRecDepth 100000
/-- a State's own cells: the object at v, its arrays from v + 4 -/
def LSt (v : Nat) (g : AH) : Prop := hkd g v = 3 ∧ ∀ j, j < 20 → hrv g v (slay.getD j (0, 0, 0)).1 = v + 4 + j ∧ hkd g (v + 4 + j) = (slay.getD j (0, 0, 0)).2.1 ∧ hln g (v + 4 + j) = (slay.getD j (0, 0, 0)).2.2
/-- a Law's own cells: the object at L, people at L + 1, mints at L + 2 -/
def LL (L : Nat) (g : AH) : Prop := hkd g L = 4 ∧ (hrv g L 0 = L + 1 ∧ hkd g (L + 1) = 105 ∧ hln g (L + 1) = 8) ∧ hrv g L 1 = L + 2 ∧ hkd g (L + 2) = 106 ∧ hln g (L + 2) = 4
/-- a Law as it is made: no people, no mints -/
def NewL (L : Nat) (g : AH) : Prop := LL L g ∧ (∀ k, k < 6 → hiv g L k = 0) ∧ hiv g L 6 = 50 ∧ hiv g L 7 = 50 ∧ hiv g L 8 = 5
def NewS (v : Nat) (g : AH) : Prop := LSt v g ∧ hrv g v 0 = v + 1 ∧ NewL (v + 1) g ∧ (∀ k, k ≠ 27 → k ≠ 28 → hiv g v k = 0) ∧ hiv g v 27 = -1 ∧ hiv g v 28 = -1
theorem w_new {h : AH} {v : Nat} (hv : v ≠ 0) (hk : hkd h v = 4) (hz : hsz h = v) (hi : ∀ k, hiv h v k = 0) (h1 : v + 2 ≤ hcap h) (h2 : hsl h + 12 ≤ hscap h) : wpo (fW_init v h) fun z => NewL v z.2 ∧ hsz z.2 = v + 2 ∧ hsl z.2 = hsl h + 12 ∧ Caps h z.2 ∧ Old v h z.2 := by
  refine wpo_mono (w_init hv hk hz h1 h2) ?_
  rintro ⟨u, z⟩ ⟨g, ⟨a1, a2, a3, a4, a5, a6⟩, rfl⟩
  obtain ⟨b1, b2, b3, b4⟩ := a5 0 (by decide)
  obtain ⟨c1, c2, c3, c4⟩ := a5 1 (by decide)
  have a7 := (a6 v (by omega)).2.2
  refine ⟨⟨⟨?_, ⟨?_, ?_, ?_⟩, ?_, ?_, ?_⟩, fun k hk => ?_, ?_, ?_, ?_⟩, ?_, ?_, a4, fun r hr => ⟨?_, ?_, fun j => ⟨?_, ?_, ?_⟩⟩⟩
  · rw [kd_I, kd_I, kd_I]; exact a1
  · rw [rv_I, rv_I, rv_I]; exact b1
  · rw [kd_I, kd_I, kd_I]; exact b2
  · rw [ln_I, ln_I, ln_I]; exact b3
  · rw [rv_I, rv_I, rv_I]; exact c1
  · rw [kd_I, kd_I, kd_I]; exact c2
  · rw [ln_I, ln_I, ln_I]; exact c3
  · rw [iv_I, if_neg (by omega), iv_I, if_neg (by omega), iv_I, if_neg (by omega), (a7 k).1]; exact hi k
  · rw [iv_I, if_neg (by omega), iv_I, if_neg (by omega), iv_I, if_pos ⟨rfl, rfl⟩]
  · rw [iv_I, if_neg (by omega), iv_I, if_pos ⟨rfl, rfl⟩]
  · rw [iv_I, if_pos ⟨rfl, rfl⟩]
  · rw [sz_I, sz_I, sz_I]; omega
  · rw [sl_I, sl_I, sl_I, a3]; rfl
  · rw [kd_I, kd_I, kd_I]; exact (a6 r (by omega)).1
  · rw [ln_I, ln_I, ln_I]; exact (a6 r (by omega)).2.1
  · rw [iv_I, if_neg (by omega), iv_I, if_neg (by omega), iv_I, if_neg (by omega)]; exact ((a6 r (by omega)).2.2 j).1
  · rw [jv_I, jv_I, jv_I]; exact ((a6 r (by omega)).2.2 j).2.1
  · rw [rv_I, rv_I, rv_I]; exact ((a6 r (by omega)).2.2 j).2.2 (Or.inl (by omega))
theorem slay_f0 : ∀ i, i < 20 → 0 ≠ (slay.getD i (0, 0, 0)).1 := by decide
theorem s_new {h : AH} {v : Nat} (hv : v ≠ 0) (hk : hkd h v = 3) (hz : hsz h = v) (hi : ∀ k, hiv h v k = 0) (h1 : v + 23 ≤ hcap h) (h2 : hsl h + 7761 ≤ hscap h) : wpo (fS_init v h) fun z => NewS v z.2 ∧ hsz z.2 = v + 23 ∧ hsl z.2 = hsl h + 7761 ∧ Caps h z.2 ∧ Old v h z.2 := by
  refine wpo_mono (s_init hv hk hz h1 h2) ?_
  rintro ⟨u, z⟩ ⟨g1, g2, g3, ⟨a1, a2, a3, a4, a5, a6⟩, e2, ⟨c1, c2, c3, c4, c5, c6⟩, rfl⟩
  have b0 := a5 0 (by decide)
  have b1 := a5 1 (by decide)
  have a7 := a6 (v + 1) (by omega)
  have a8 := a6 v (by omega)
  have c7 := c6 v (by omega)
  have d1 := c6 (v + 1) (by omega)
  have d2 := c6 (v + 2) (by omega)
  have d3 := c6 (v + 3) (by omega)
  have hz1 : hsz h + 1 = v + 1 := by omega
  -- ints of the Law, in g2
  have q : ∀ k, hiv g2 (v + 1) k = if k = 8 then 5 else if k = 7 then 50 else if k = 6 then 50 else 0 := by
    intro k
    rw [e2, iv_R, iv_I, iv_I, iv_I, (a7.2.2 k).1, iv_N, if_pos hz1.symm]
    simp
  have r2 : ∀ r j, r ≠ v → hrv g2 r j = hrv g1 r j := fun r j hr => by rw [e2, rv_R, if_neg (fun h => hr h.1), rv_I, rv_I, rv_I]
  have k2 : hkd g2 = hkd g1 := by rw [e2, kd_R, kd_I, kd_I, kd_I]
  have l2 : hln g2 = hln g1 := by rw [e2, ln_R, ln_I, ln_I, ln_I]
  refine ⟨⟨⟨?_, fun j hj => ⟨?_, ?_, ?_⟩⟩, ?_, ⟨⟨?_, ⟨?_, ?_, ?_⟩, ?_, ?_, ?_⟩, fun k hk => ?_, ?_, ?_, ?_⟩, fun k k1 k2 => ?_, ?_, ?_⟩, ?_, ?_, ?_, fun r hr => ⟨?_, ?_, fun j => ⟨?_, ?_, ?_⟩⟩⟩
  · rw [kd_I, kd_I]; exact c1
  · rw [rv_I, rv_I]; exact (c5 j hj).1
  · rw [kd_I, kd_I]; exact (c5 j hj).2.1
  · rw [ln_I, ln_I]; exact (c5 j hj).2.2.1
  · rw [rv_I, rv_I, (c7.2.2 0).2.2 (Or.inr slay_f0), e2, rv_R, if_pos ⟨rfl, rfl⟩]
  · rw [kd_I, kd_I, d1.1, k2]; exact a1
  · rw [rv_I, rv_I, (d1.2.2 0).2.2 (Or.inl (by omega)), r2 _ _ (by omega)]; exact b0.1
  · rw [kd_I, kd_I, d2.1, k2]; exact b0.2.1
  · rw [ln_I, ln_I, d2.2.1, l2]; exact b0.2.2.1
  · rw [rv_I, rv_I, (d1.2.2 1).2.2 (Or.inl (by omega)), r2 _ _ (by omega)]; exact b1.1
  · rw [kd_I, kd_I, d3.1, k2]; exact b1.2.1
  · rw [ln_I, ln_I, d3.2.1, l2]; exact b1.2.2.1
  · rw [iv_I, if_neg (by omega), iv_I, if_neg (by omega), (d1.2.2 k).1, q, if_neg (by omega), if_neg (by omega), if_neg (by omega)]
  · rw [iv_I, if_neg (by omega), iv_I, if_neg (by omega), (d1.2.2 6).1, q]; rfl
  · rw [iv_I, if_neg (by omega), iv_I, if_neg (by omega), (d1.2.2 7).1, q]; rfl
  · rw [iv_I, if_neg (by omega), iv_I, if_neg (by omega), (d1.2.2 8).1, q]; rfl
  · rw [iv_I, if_neg (by omega), iv_I, if_neg (by omega), (c7.2.2 k).1, e2, iv_R, iv_I, if_neg (by omega), iv_I, if_neg (by omega), iv_I, if_neg (by omega), (a8.2.2 k).1, iv_N, if_neg (by omega)]
    exact hi k
  · rw [iv_I, if_neg (by omega), iv_I, if_pos ⟨rfl, rfl⟩]
  · rw [iv_I, if_pos ⟨rfl, rfl⟩]
  · rw [sz_I, sz_I]; omega
  · rw [sl_I, sl_I, c3, e2, sl_R, sl_I, sl_I, sl_I, a3, sl_N]
    show hsl h + 9 + 12 + 7740 = _
    omega
  · refine ⟨?_, ?_, ?_⟩
    · rw [cap_I, cap_I, c4.1, e2, cap_R, cap_I, cap_I, cap_I, a4.1, cap_N]
    · rw [scap_I, scap_I, c4.2.1, e2, scap_R, scap_I, scap_I, scap_I, a4.2.1, scap_N]
    · rw [cs_I, cs_I, c4.2.2, e2, cs_R, cs_I, cs_I, cs_I, a4.2.2, cs_N]
  · rw [kd_I, kd_I, (c6 r (by omega)).1, k2, (a6 r (by omega)).1, kd_N, if_neg (by omega)]
  · rw [ln_I, ln_I, (c6 r (by omega)).2.1, l2, (a6 r (by omega)).2.1, ln_N, if_neg (by omega)]
  · rw [iv_I, if_neg (by omega), iv_I, if_neg (by omega), ((c6 r (by omega)).2.2 j).1, e2, iv_R, iv_I, if_neg (by omega), iv_I, if_neg (by omega), iv_I, if_neg (by omega), ((a6 r (by omega)).2.2 j).1, iv_N, if_neg (by omega)]
  · rw [jv_I, jv_I, ((c6 r (by omega)).2.2 j).2.1, e2, jv_R, jv_I, jv_I, jv_I, ((a6 r (by omega)).2.2 j).2.1, jv_N, if_neg (by omega)]
  · rw [rv_I, rv_I, ((c6 r (by omega)).2.2 j).2.2 (Or.inl (by omega)), r2 _ _ (by omega), ((a6 r (by omega)).2.2 j).2.2 (Or.inl (by omega)), rv_N, if_neg (by omega)]
