/-! PL 8: the law's loop, where it begins -/
set_option maxRecDepth 100000
theorem Old.K {v : Nat} {h g : AH} (o : Old v h g) : Keep (fun r => r < v) h g := o
/-- the memory at the head of the law's loop, the first time -/
def Begin (sz : Nat) (cs : Nat → Nat) (g : AH) : Prop := (∃ h g1, hcs h = cs ∧ CInit h (sz + 1) g1 ∧ Keep (fun r => r ≤ sz + 45) g1 g) ∧ (∃ h g2, MI h (sz + 46) (-1) 22 g2 ∧ Keep (fun r => r ≤ sz + 68) g2 g) ∧ hkd g (sz + 69) = 103 ∧ hln g (sz + 69) = 1 ∧ hsz g = sz + 69 ∧ hsl g ≤ 160000 ∧ hcap g = sz + 208280 ∧ hscap g = 8471264 ∧ hcs g = cs
theorem law_begin {sz : Nat} {cs : Nat → Nat} (k : ∀ g, Begin sz cs g → wpo (xloop (fun s9 : (Nat × Nat × Nat × Nat × Int32 × AH) => fL_law_l23 s9.1 s9.2.1 s9.2.2.1 s9.2.2.2.1 s9.2.2.2.2.1 s9.2.2.2.2.2) (cs 90, sz + 1, sz + 46, sz + 69, (0 : Int32), g)) fun r => Sum.elim (fun _ => True) (fun z => z.1 = 1) r) : ∃ h1 : AH, fL_law (cs 90) (xh0 sz cs) = some (1, h1) := by
  have main : wpo (fL_law (cs 90) (xh0 sz cs)) fun z => z.1 = 1 := by
    unfold fL_law
    rw [wpo_b2, wpo_new]
    refine ⟨⟨Nat.add_le_add_left (by decide) sz, (show 0 + 29 ≤ 8471264 by decide)⟩, ?_⟩
    show wpo (xb2 (xck (hnew (xh0 sz cs) 1 0 29) (sz + 1) 1 (fC_init (sz + 1) (hnew (xh0 sz cs) 1 0 29))) _) _
    have s0 : hsz (xh0 sz cs) + 1 = sz + 1 := rfl
    obtain ⟨h2, e2⟩ : ∃ h2, h2 = hnew (xh0 sz cs) 1 0 29 := ⟨_, rfl⟩
    have a1 : hkd h2 (sz + 1) = 1 := by rw [e2, kd_N, if_pos s0.symm]
    have a2 : hsz h2 = sz + 1 := by rw [e2, sz_N]; exact s0
    have a3 : hsl h2 = 29 := by rw [e2, sl_N]; rfl
    have a4 : hcap h2 = sz + 208280 := by rw [e2, cap_N]; rfl
    have a5 : hscap h2 = 8471264 := by rw [e2, scap_N]; rfl
    have a6 : hcs h2 = cs := by rw [e2, cs_N]; rfl
    have a7 : ∀ j, hiv h2 (sz + 1) j = 0 := fun j => by rw [e2, iv_N, if_pos s0.symm]
    have a8 : ∀ j, hrv h2 (sz + 1) j = 0 := fun j => by rw [e2, rv_N, if_pos s0.symm]
    rw [← e2]
    clear e2
    rw [wpo_b2, wpo_ck]
    refine ⟨a1, wpo_mono (c_init (Nat.succ_ne_zero sz) a1 a2 a7 a8 (by omega) (by omega)) ?_⟩
    rintro ⟨u, g3⟩ C
    have C : CInit h2 (sz + 1) g3 := C
    have b1 := C.1
    have b2 := C.2.1
    have b3 := C.2.2.1
    show wpo (xb2 (xnew g3 14 47) _) _
    rw [wpo_b2, wpo_new]
    refine ⟨⟨by rw [b1, b3.1, a4]; omega, by rw [b2, b3.2.1, a3, a5]; decide⟩, ?_⟩
    have s1 : hsz g3 + 1 = sz + 46 := by rw [b1]
    rw [s1]
    obtain ⟨h5, e5⟩ : ∃ h5, h5 = hnew g3 14 0 47 := ⟨_, rfl⟩
    have K5 : Keep (fun r => r ≤ sz + 45) g3 h5 := by rw [e5]; exact Keep.N _ _ _ fun r hr => by have hr : r ≤ sz + 45 := hr; omega
    have c1 : hkd h5 (sz + 46) = 14 := by rw [e5, kd_N, if_pos s1.symm]
    have c2 : hsz h5 = sz + 46 := by rw [e5, sz_N]; exact s1
    have c3 : hsl h5 = 34888 := by rw [e5, sl_N, b2, a3]
    have c4 : hcap h5 = sz + 208280 := by rw [e5, cap_N, b3.1, a4]
    have c5 : hscap h5 = 8471264 := by rw [e5, scap_N, b3.2.1, a5]
    have c6 : hcs h5 = cs := by rw [e5, cs_N, b3.2.2, a6]
    have J : MI h5 (sz + 46) 0 0 h5 := by
      refine ⟨c1, c2, by rw [List.take_zero]; rfl, ⟨rfl, rfl, rfl⟩, fun j hj => absurd hj (Nat.not_lt_zero j), fun r j h1 h2 h3 => ?_, fun r j h1 h2 => ?_, ?_, fun r hr => ⟨rfl, rfl, fun j => ⟨rfl, rfl, rfl⟩⟩⟩
      · rw [e5, iv_N, if_pos (by omega)]
      · rw [e5, jv_N, if_pos (by omega)]
      · rw [e5, iv_N, if_pos s1.symm]
    show wpo (xb2 (xck (hnew g3 14 0 47) (sz + 46) 14 (fM_init (sz + 46) (hnew g3 14 0 47))) _) _
    rw [← e5, wpo_b2, wpo_ck]
    refine ⟨c1, wpo_mono (m_init (Nat.succ_ne_zero _) J (by omega) (by rw [c3, c5]; decide)) ?_⟩
    rintro ⟨u2, g6⟩ M
    have M : MI h5 (sz + 46) (-1) 22 g6 := M
    have d1 := M.2.1
    have d2 := M.2.2.1
    have d3 := M.2.2.2.1
    have d2 : hsl g6 = 34888 + 99201 := by rw [d2, c3]; rfl
    show wpo (xb2 (xnewa g6 103 (I 1)) _) _
    rw [wpo_b2, wpo_newa (by decide)]
    refine ⟨⟨by rw [d1, d3.1, c4]; omega, by rw [d2, d3.2.1, c5]; decide⟩, ?_⟩
    have s2 : hsz g6 + 1 = sz + 69 := by rw [d1]
    rw [s2]
    obtain ⟨g8, e8⟩ : ∃ g8, g8 = hnew g6 103 1 1 := ⟨_, rfl⟩
    have K8 : Keep (fun r => r ≤ sz + 68) g6 g8 := by rw [e8]; exact Keep.N _ _ _ fun r hr => by have hr : r ≤ sz + 68 := hr; omega
    have K6 : Keep (fun r => r ≤ sz + 45) h5 g6 := fun r hr => M.2.2.2.2.2.2.2.2 r (by have hr : r ≤ sz + 45 := hr; omega)
    have B : Begin sz cs g8 := by
      refine ⟨⟨h2, g3, a6, C, (K5.tr K6).tr (K8.sub fun r hr => by have hr : r ≤ sz + 45 := hr; show r ≤ sz + 68; omega)⟩, ⟨h5, g6, M, K8⟩, ?_, ?_, ?_, ?_, ?_, ?_, ?_⟩
      · rw [e8, kd_N, if_pos s2.symm]
      · rw [e8, ln_N, if_pos s2.symm]
      · rw [e8, sz_N]; exact s2
      · rw [e8, sl_N, d2]; decide
      · rw [e8, cap_N, d3.1, c4]
      · rw [e8, scap_N, d3.2.1, c5]
      · rw [e8, cs_N, d3.2.2, c6]
    show wpo ((xloop _ (cs 90, sz + 1, sz + 46, sz + 69, (0 : Int32), hnew g6 103 1 1)).bind _) _
    rw [← e8, wpo_bind]
    refine wpo_mono (k g8 B) ?_
    rintro (r | ⟨v, g⟩) hr
    · exact wpo_some.mpr rfl
    · exact wpo_some.mpr hr
  obtain ⟨⟨v, h1⟩, e, hv⟩ := main
  have hv : v = 1 := hv
  subst hv
  exact ⟨h1, e⟩
