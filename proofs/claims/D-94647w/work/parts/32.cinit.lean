/-! PL 7: what the component's constructor leaves -/
set_option maxRecDepth 100000
theorem Cell.kN {a kd len b : Nat} {ι : Nat → Int32} {ρ : Nat → Nat} {g g' : AH} (T : Cell a kd len ι ρ g) (K : Keep (fun r => r ≤ b) g g') (h : a ≤ b) : Cell a kd len ι ρ g' := T.keep K h
theorem Cell.kE {a kd len b : Nat} {ι : Nat → Int32} {ρ : Nat → Nat} {g g' : AH} (T : Cell a kd len ι ρ g) (K : Keep (fun r => r ≠ b) g g') (h : a ≠ b) : Cell a kd len ι ρ g' := T.keep K h
theorem NewS.kN {a b : Nat} {g g' : AH} (T : NewS a g) (K : Keep (fun r => r ≤ b) g g') (h : a + 23 ≤ b) : NewS a g' := T.keep K fun r _ h2 => Nat.le_trans h2 h
theorem NewS.kE {a b : Nat} {g g' : AH} (T : NewS a g) (K : Keep (fun r => r ≠ b) g g') (h : b < a ∨ a + 23 < b) : NewS a g' := T.keep K fun r h1 h2 => by show r ≠ b; omega
theorem CJ.fa {h g : AH} {v n s R len : Nat} {φ ρ : Nat → Nat} {ι : Nat → Int32} {z : Int32} {β : Type} {k : Unit → AH → Option β} {Q : β → Prop} (J : CJ h v n s φ z g) (T : Cell R 2 len ι ρ g) (hR : v < R) (kk : ∀ g' ρ', CJ h v n s φ z g' → Keep (fun r => r ≠ R) g g' → Cell R 2 len ι ρ' g' → wpo (k () g') Q) : wpo (xb2 (xck g R 2 (fFa_init R g)) k) Q := by
  have hR0 : R ≠ 0 := by omega
  rw [wpo_b2, wpo_ck]
  refine ⟨T.1, ?_⟩
  unfold fFa_init
  rw [wpo_b2, wpo_ck]
  refine ⟨T.1, ?_⟩
  unfold fJ1_init
  rw [wpo_b2, wpo_ck]
  refine ⟨T.1, ?_⟩
  unfold fJ0_init_2
  rw [if_neg hR0, wpo_bind, wpo_pr]
  obtain ⟨J1, K1, T1⟩ := J.oR (f := 0) (x := R) T hR
  refine ⟨by rw [T.1]; decide, ?_⟩
  rw [wpo_bind, wpo_pr]
  obtain ⟨J2, K2, T2⟩ := J1.oR (f := 1) (x := hcs (hsR g R 0 R) 0) T1 hR
  refine ⟨by rw [T1.1]; decide, ?_⟩
  rw [wpo_bind, wpo_pr]
  refine ⟨by rw [T2.1]; decide, ?_⟩
  obtain ⟨J3, K3, T3⟩ := J2.oR (f := 2) (x := hcs (hsR (hsR g R 0 R) R 1 (hcs (hsR g R 0 R) 0)) 1) T2 hR
  rw [if_pos rfl, wpo_bind, wpo_pr]
  refine ⟨by rw [T3.1]; decide, ?_⟩
  obtain ⟨J4, K4, T4⟩ := J3.oR (f := 1) (x := 0) T3 hR
  unfold fJ0_init_2_b41
  rw [wpo_bind, wpo_pr]
  refine ⟨by rw [T4.1]; decide, ?_⟩
  obtain ⟨J5, K5, T5⟩ := J4.oR (f := 3) (x := 0) T4 hR
  rw [wpo_bind, wpo_pr]
  refine ⟨by rw [T5.1]; decide, ?_⟩
  obtain ⟨J6, K6, T6⟩ := J5.oR (f := 0) (x := 0) T5 hR
  rw [if_pos rfl, wpo_bind, wpo_pr]
  refine ⟨by rw [T6.1]; decide, ?_⟩
  obtain ⟨J7, K7, T7⟩ := J6.oR (f := 2) (x := 0) T6 hR
  rw [wpo_some, wpo_some, wpo_some]
  exact kk _ _ J7 ((((((K1.tr K2).tr K3).tr K4).tr K5).tr K6).tr K7) T7
theorem CJ.si {h g : AH} {v n s m : Nat} {φ : Nat → Nat} {z : Int32} {β : Type} {k : Unit → AH → Option β} {Q : β → Prop} (J : CJ h v (n + 1) s φ z g) (T : Cell (v + (n + 1)) 3 0 (fun _ => 0) (fun _ => 0) g) (h1 : v + 44 ≤ hcap h) (h2 : hsl h + m ≤ hscap h) (hn : n + 24 < 45) (hm : s + 7761 ≤ m) (kk : ∀ g', CJ h v (n + 24) (s + 7761) φ z g' → Keep (fun r => r ≤ v + n) g g' → NewS (v + (n + 1)) g' → wpo (k () g') Q) : wpo (xb2 (xck g (v + (n + 1)) 3 (fS_init (v + (n + 1)) g)) k) Q := by
  rw [wpo_b2, wpo_ck]
  refine ⟨T.1, ?_⟩
  refine wpo_mono (s_new (by omega) T.1 J.2.1 T.2.2.1 (by rw [J.2.2.2.1.1]; omega) (by rw [J.2.2.2.1.2.1, J.2.2.1]; omega)) ?_
  rintro ⟨u, g'⟩ ⟨a1, a2, a3, a4, a5⟩
  have K : Keep (fun r => r ≤ v + n) g g' := fun r hr => a5 r (by have hr : r ≤ v + n := hr; omega)
  exact kk g' (J.ext (K.sub fun r hr => Nat.le_trans hr (Nat.le_add_right _ _)) (by rw [show hsz g' = _ from a2]; omega) (by rw [show hsl g' = _ from a3, J.2.2.1]; omega) a4) K a1
/-- a reader's own constructor: Reader(most), this$0 -/
theorem CJ.ri {h g : AH} {v n s R kd len : Nat} {φ ρ : Nat → Nat} {ι : Nat → Int32} {z x : Int32} {β : Type} {k : Unit → AH → Option β} {Q : β → Prop} (hk : kd ∈ [5, 6]) (J : CJ h v n s φ z g) (T : Cell R kd len ι ρ g) (hR : v < R) (kk : ∀ g', CJ h v n s φ z g' → Keep (fun r => r ≠ R) g g' → Cell R kd len (va_up ι 0 x) (va_up ρ 7 v) g' → wpo (k () g') Q) : wpo (xb2 (xck g R kd (fR_init R v x g)) k) Q := by
  have hR0 : R ≠ 0 := by omega
  rw [wpo_b2, wpo_ck]
  refine ⟨T.1, ?_⟩
  unfold fR_init
  obtain ⟨J1, K1, T1⟩ := J.oR (f := 7) (x := v) T hR
  obtain ⟨J2, K2, T2⟩ := J1.oI (f := 0) (x := x) T1 hR
  rw [wpo_bind, wpo_pr]
  refine ⟨by rw [T.1]; exact hk, ?_⟩
  rw [if_neg hR0, wpo_bind, wpo_pi]
  refine ⟨by rw [T1.1]; exact hk, ?_⟩
  rw [wpo_some]
  exact kk _ J2 (K1.tr K2) T2
def FA (c0 n : Nat) (cs : Nat → Nat) (j : Nat) : Nat := if j < n then cs (10 + c0 + j) else 0
/-- what the constructor leaves: v the component's object -/
def CInit (h : AH) (v : Nat) (g : AH) : Prop := hsz g = v + 44 ∧ hsl g = hsl h + 34812 ∧ Caps h g ∧ Keep (fun r => r < v) h g ∧ LC v g ∧ NewS (v + 5) g ∧ (∀ j, hiv g v j = if j = 23 then -1 else 0) ∧ hrv g v 26 = 0 ∧ Cell (v + 1) 102 740 (fun _ => 0) (fun _ => 0) g ∧
  (∀ j, j < 7 → hrv g (v + 3) j = hcs h (10 + j)) ∧ (∀ j, j < 12 → hrv g (v + 4) j = hcs h (17 + j)) ∧ Cell (v + 29) 107 6 (fun _ => 0) (fun _ => 0) g ∧
  (hiv g (v + 30) 0 = 700 ∧ hrv g (v + 30) 7 = v ∧ hrv g (v + 30) 10 = v) ∧ (hiv g (v + 40) 0 = 200 ∧ hrv g (v + 40) 7 = v ∧ hrv g (v + 40) 11 = v ∧ hrv g (v + 40) 8 = v + 41 ∧ hrv g (v + 40) 9 = v + 42) ∧
  (hkd g (v + 41) = 104 ∧ hln g (v + 41) = 4 ∧ ∀ j, j < 4 → hrv g (v + 41) j = hcs h (22 + j)) ∧ (hkd g (v + 42) = 104 ∧ hln g (v + 42) = 3 ∧ ∀ j, j < 3 → hrv g (v + 42) j = hcs h (26 + j)) ∧ Cell (v + 43) 107 2 (fun _ => 0) (fun _ => 0) g ∧ Cell (v + 44) 108 2 (fun _ => 0) (fun _ => 0) g
set_option maxHeartbeats 8000000 in
theorem c_init {h : AH} {v : Nat} (hv : v ≠ 0) (hk : hkd h v = 1) (hz : hsz h = v) (hi : ∀ j, hiv h v j = 0) (hr : ∀ j, hrv h v j = 0) (h1 : v + 44 ≤ hcap h) (h2 : hsl h + 34812 ≤ hscap h) : wpo (fC_init v h) fun z => CInit h v z.2 := by
  have J0 : CJ h v 0 0 (fun _ => 0) 0 h := ⟨hk, hz, rfl, ⟨rfl, rfl, rfl⟩, hr, fun j => by rw [hi]; simp, Keep.rf⟩
  unfold fC_init
  rw [if_neg hv]
  refine J0.alloc (len := 740) h1 h2 (by decide) (Nat.le_of_ble_eq_true rfl) (Nat.le_of_ble_eq_true rfl) fun g1 (J1 : CJ h v 1 740 _ _ g1) K (T1 : Cell (v + 1) 102 740 (fun _ => 0) (fun _ => 0) g1) => ?_
  clear K J0
  refine J1.put fun g2 J2 K => ?_
  replace T1 := T1.kE K (by omega)
  clear K J1
  refine J2.anew (len := 8) h1 h2 (by decide) (Nat.le_of_ble_eq_true rfl) fun g3 (J3 : CJ h v 2 748 _ _ g3) K (T2 : Cell (v + 2) 2 0 (fun _ => 0) (fun _ => 0) g3) => ?_
  replace T1 := T1.kN K (by omega)
  clear K J2
  refine J3.fa T2 (by omega) fun g4 ρ2 J4 K TX => ?_
  replace T1 := T1.kE K (by omega)
  replace T2 := TX
  clear TX
  clear K J3
  refine J4.put fun g5 J5 K => ?_
  replace T1 := T1.kE K (by omega)
  replace T2 := T2.kE K (by omega)
  clear K J4
  refine J5.alloc (len := 7) h1 h2 (by decide) (Nat.le_of_ble_eq_true rfl) (Nat.le_of_ble_eq_true rfl) fun g6 (J6 : CJ h v 3 755 _ _ g6) K (T3 : Cell (v + 3) 104 7 (fun _ => 0) (fun _ => 0) g6) => ?_
  replace T1 := T1.kN K (by omega)
  replace T2 := T2.kN K (by omega)
  clear K J5
  refine J6.st (R := v + 3) (i := 0) (len := 7) (c := 0) T3 (by omega) (by decide) (by decide) (by decide) fun g7 J7 K TX => ?_
  replace T1 := T1.kE K (by omega)
  replace T2 := T2.kE K (by omega)
  replace T3 := TX
  clear TX
  clear K J6
  refine J7.st (R := v + 3) (i := 1) (len := 7) (c := 1) T3 (by omega) (by decide) (by decide) (by decide) fun g8 J8 K TX => ?_
  replace T1 := T1.kE K (by omega)
  replace T2 := T2.kE K (by omega)
  replace T3 := TX
  clear TX
  clear K J7
  refine J8.st (R := v + 3) (i := 2) (len := 7) (c := 2) T3 (by omega) (by decide) (by decide) (by decide) fun g9 J9 K TX => ?_
  replace T1 := T1.kE K (by omega)
  replace T2 := T2.kE K (by omega)
  replace T3 := TX
  clear TX
  clear K J8
  refine J9.st (R := v + 3) (i := 3) (len := 7) (c := 3) T3 (by omega) (by decide) (by decide) (by decide) fun g10 J10 K TX => ?_
  replace T1 := T1.kE K (by omega)
  replace T2 := T2.kE K (by omega)
  replace T3 := TX
  clear TX
  clear K J9
  refine J10.st (R := v + 3) (i := 4) (len := 7) (c := 4) T3 (by omega) (by decide) (by decide) (by decide) fun g11 J11 K TX => ?_
  replace T1 := T1.kE K (by omega)
  replace T2 := T2.kE K (by omega)
  replace T3 := TX
  clear TX
  clear K J10
  refine J11.st (R := v + 3) (i := 5) (len := 7) (c := 5) T3 (by omega) (by decide) (by decide) (by decide) fun g12 J12 K TX => ?_
  replace T1 := T1.kE K (by omega)
  replace T2 := T2.kE K (by omega)
  replace T3 := TX
  clear TX
  clear K J11
  refine J12.st (R := v + 3) (i := 6) (len := 7) (c := 6) T3 (by omega) (by decide) (by decide) (by decide) fun g13 J13 K TX => ?_
  replace T1 := T1.kE K (by omega)
  replace T2 := T2.kE K (by omega)
  replace T3 := TX
  clear TX
  clear K J12
  refine J13.put fun g14 J14 K => ?_
  replace T1 := T1.kE K (by omega)
  replace T2 := T2.kE K (by omega)
  replace T3 := T3.kE K (by omega)
  clear K J13
  refine J14.alloc (len := 12) h1 h2 (by decide) (Nat.le_of_ble_eq_true rfl) (Nat.le_of_ble_eq_true rfl) fun g15 (J15 : CJ h v 4 767 _ _ g15) K (T4 : Cell (v + 4) 104 12 (fun _ => 0) (fun _ => 0) g15) => ?_
  replace T1 := T1.kN K (by omega)
  replace T2 := T2.kN K (by omega)
  replace T3 := T3.kN K (by omega)
  clear K J14
  refine J15.st (R := v + 4) (i := 0) (len := 12) (c := 7) T4 (by omega) (by decide) (by decide) (by decide) fun g16 J16 K TX => ?_
  replace T1 := T1.kE K (by omega)
  replace T2 := T2.kE K (by omega)
  replace T3 := T3.kE K (by omega)
  replace T4 := TX
  clear TX
  clear K J15
  refine J16.st (R := v + 4) (i := 1) (len := 12) (c := 8) T4 (by omega) (by decide) (by decide) (by decide) fun g17 J17 K TX => ?_
  replace T1 := T1.kE K (by omega)
  replace T2 := T2.kE K (by omega)
  replace T3 := T3.kE K (by omega)
  replace T4 := TX
  clear TX
  clear K J16
  refine J17.st (R := v + 4) (i := 2) (len := 12) (c := 9) T4 (by omega) (by decide) (by decide) (by decide) fun g18 J18 K TX => ?_
  replace T1 := T1.kE K (by omega)
  replace T2 := T2.kE K (by omega)
  replace T3 := T3.kE K (by omega)
  replace T4 := TX
  clear TX
  clear K J17
  refine J18.st (R := v + 4) (i := 3) (len := 12) (c := 10) T4 (by omega) (by decide) (by decide) (by decide) fun g19 J19 K TX => ?_
  replace T1 := T1.kE K (by omega)
  replace T2 := T2.kE K (by omega)
  replace T3 := T3.kE K (by omega)
  replace T4 := TX
  clear TX
  clear K J18
  refine J19.st (R := v + 4) (i := 4) (len := 12) (c := 11) T4 (by omega) (by decide) (by decide) (by decide) fun g20 J20 K TX => ?_
  replace T1 := T1.kE K (by omega)
  replace T2 := T2.kE K (by omega)
  replace T3 := T3.kE K (by omega)
  replace T4 := TX
  clear TX
  clear K J19
  refine J20.st (R := v + 4) (i := 5) (len := 12) (c := 12) T4 (by omega) (by decide) (by decide) (by decide) fun g21 J21 K TX => ?_
  replace T1 := T1.kE K (by omega)
  replace T2 := T2.kE K (by omega)
  replace T3 := T3.kE K (by omega)
  replace T4 := TX
  clear TX
  clear K J20
  refine J21.st (R := v + 4) (i := 6) (len := 12) (c := 13) T4 (by omega) (by decide) (by decide) (by decide) fun g22 J22 K TX => ?_
  replace T1 := T1.kE K (by omega)
  replace T2 := T2.kE K (by omega)
  replace T3 := T3.kE K (by omega)
  replace T4 := TX
  clear TX
  clear K J21
  refine J22.st (R := v + 4) (i := 7) (len := 12) (c := 14) T4 (by omega) (by decide) (by decide) (by decide) fun g23 J23 K TX => ?_
  replace T1 := T1.kE K (by omega)
  replace T2 := T2.kE K (by omega)
  replace T3 := T3.kE K (by omega)
  replace T4 := TX
  clear TX
  clear K J22
  refine J23.st (R := v + 4) (i := 8) (len := 12) (c := 15) T4 (by omega) (by decide) (by decide) (by decide) fun g24 J24 K TX => ?_
  replace T1 := T1.kE K (by omega)
  replace T2 := T2.kE K (by omega)
  replace T3 := T3.kE K (by omega)
  replace T4 := TX
  clear TX
  clear K J23
  refine J24.st (R := v + 4) (i := 9) (len := 12) (c := 16) T4 (by omega) (by decide) (by decide) (by decide) fun g25 J25 K TX => ?_
  replace T1 := T1.kE K (by omega)
  replace T2 := T2.kE K (by omega)
  replace T3 := T3.kE K (by omega)
  replace T4 := TX
  clear TX
  clear K J24
  refine J25.st (R := v + 4) (i := 10) (len := 12) (c := 17) T4 (by omega) (by decide) (by decide) (by decide) fun g26 J26 K TX => ?_
  replace T1 := T1.kE K (by omega)
  replace T2 := T2.kE K (by omega)
  replace T3 := T3.kE K (by omega)
  replace T4 := TX
  clear TX
  clear K J25
  refine J26.st (R := v + 4) (i := 11) (len := 12) (c := 18) T4 (by omega) (by decide) (by decide) (by decide) fun g27 J27 K TX => ?_
  replace T1 := T1.kE K (by omega)
  replace T2 := T2.kE K (by omega)
  replace T3 := T3.kE K (by omega)
  replace T4 := TX
  clear TX
  clear K J26
  refine J27.put fun g28 J28 K => ?_
  replace T1 := T1.kE K (by omega)
  replace T2 := T2.kE K (by omega)
  replace T3 := T3.kE K (by omega)
  replace T4 := T4.kE K (by omega)
  clear K J27
  refine J28.anew (len := 31) h1 h2 (by decide) (Nat.le_of_ble_eq_true rfl) fun g29 (J29 : CJ h v 5 798 _ _ g29) K (T5 : Cell (v + 5) 3 0 (fun _ => 0) (fun _ => 0) g29) => ?_
  replace T1 := T1.kN K (by omega)
  replace T2 := T2.kN K (by omega)
  replace T3 := T3.kN K (by omega)
  replace T4 := T4.kN K (by omega)
  clear K J28
  refine J29.si (n := 4) T5 h1 h2 (by decide) (Nat.le_of_ble_eq_true rfl) fun g30 (J30 : CJ h v 28 8559 _ _ g30) K (NS : NewS (v + 5) g30) => ?_
  clear T5
  replace T1 := T1.kN K (by omega)
  replace T2 := T2.kN K (by omega)
  replace T3 := T3.kN K (by omega)
  replace T4 := T4.kN K (by omega)
  clear K J29
  refine J30.put fun g31 J31 K => ?_
  replace T1 := T1.kE K (by omega)
  replace T2 := T2.kE K (by omega)
  replace T3 := T3.kE K (by omega)
  replace T4 := T4.kE K (by omega)
  replace NS := NS.kE K (by omega)
  clear K J30
  refine J31.alloc (len := 6) h1 h2 (by decide) (Nat.le_of_ble_eq_true rfl) (Nat.le_of_ble_eq_true rfl) fun g32 (J32 : CJ h v 29 8565 _ _ g32) K (T29 : Cell (v + 29) 107 6 (fun _ => 0) (fun _ => 0) g32) => ?_
  replace T1 := T1.kN K (by omega)
  replace T2 := T2.kN K (by omega)
  replace T3 := T3.kN K (by omega)
  replace T4 := T4.kN K (by omega)
  replace NS := NS.kN K (by omega)
  clear K J31
  refine J32.put fun g33 J33 K => ?_
  replace T1 := T1.kE K (by omega)
  replace T2 := T2.kE K (by omega)
  replace T3 := T3.kE K (by omega)
  replace T4 := T4.kE K (by omega)
  replace NS := NS.kE K (by omega)
  replace T29 := T29.kE K (by omega)
  clear K J32
  refine J33.anew (len := 11) h1 h2 (by decide) (Nat.le_of_ble_eq_true rfl) fun g34 (J34 : CJ h v 30 8576 _ _ g34) K (T30 : Cell (v + 30) 5 0 (fun _ => 0) (fun _ => 0) g34) => ?_
  replace T1 := T1.kN K (by omega)
  replace T2 := T2.kN K (by omega)
  replace T3 := T3.kN K (by omega)
  replace T4 := T4.kN K (by omega)
  replace NS := NS.kN K (by omega)
  replace T29 := T29.kN K (by omega)
  clear K J33
  rw [wpo_b2, wpo_ck]; refine ⟨T30.1, ?_⟩; unfold fLR_init; rw [wpo_bind, wpo_pr]; refine ⟨by rw [T30.1]; decide, ?_⟩
  obtain ⟨J35, K, TX⟩ := J34.oR (f := 10) (x := v) T30 (by omega)
  replace T1 := T1.kE K (by omega)
  replace T2 := T2.kE K (by omega)
  replace T3 := T3.kE K (by omega)
  replace T4 := T4.kE K (by omega)
  replace NS := NS.kE K (by omega)
  replace T29 := T29.kE K (by omega)
  replace T30 := TX
  clear TX
  clear K J34
  refine J35.ri (by decide) T30 (by omega) fun g36 J36 K TX => ?_
  replace T1 := T1.kE K (by omega)
  replace T2 := T2.kE K (by omega)
  replace T3 := T3.kE K (by omega)
  replace T4 := T4.kE K (by omega)
  replace NS := NS.kE K (by omega)
  replace T29 := T29.kE K (by omega)
  replace T30 := TX
  clear TX
  clear K J35
  rw [wpo_some]
  show wpo ((xpr _ v [1] 10 (v + (29 + 1))).bind _) _
  refine J36.put fun g37 J37 K => ?_
  replace T1 := T1.kE K (by omega)
  replace T2 := T2.kE K (by omega)
  replace T3 := T3.kE K (by omega)
  replace T4 := T4.kE K (by omega)
  replace NS := NS.kE K (by omega)
  replace T29 := T29.kE K (by omega)
  replace T30 := T30.kE K (by omega)
  clear K J36
  refine J37.alloc (len := 12) h1 h2 (by decide) (Nat.le_of_ble_eq_true rfl) (Nat.le_of_ble_eq_true rfl) fun g38 (J38 : CJ h v 31 8588 _ _ g38) K (T31 : Cell (v + 31) 100 12 (fun _ => 0) (fun _ => 0) g38) => ?_
  replace T1 := T1.kN K (by omega)
  replace T2 := T2.kN K (by omega)
  replace T3 := T3.kN K (by omega)
  replace T4 := T4.kN K (by omega)
  replace NS := NS.kN K (by omega)
  replace T29 := T29.kN K (by omega)
  replace T30 := T30.kN K (by omega)
  clear K J37
  refine J38.put fun g39 J39 K => ?_
  replace T1 := T1.kE K (by omega)
  replace T2 := T2.kE K (by omega)
  replace T3 := T3.kE K (by omega)
  replace T4 := T4.kE K (by omega)
  replace NS := NS.kE K (by omega)
  replace T29 := T29.kE K (by omega)
  replace T30 := T30.kE K (by omega)
  replace T31 := T31.kE K (by omega)
  clear K J38
  refine J39.alloc (len := 72) h1 h2 (by decide) (Nat.le_of_ble_eq_true rfl) (Nat.le_of_ble_eq_true rfl) fun g40 (J40 : CJ h v 32 8660 _ _ g40) K (T32 : Cell (v + 32) 100 72 (fun _ => 0) (fun _ => 0) g40) => ?_
  replace T1 := T1.kN K (by omega)
  replace T2 := T2.kN K (by omega)
  replace T3 := T3.kN K (by omega)
  replace T4 := T4.kN K (by omega)
  replace NS := NS.kN K (by omega)
  replace T29 := T29.kN K (by omega)
  replace T30 := T30.kN K (by omega)
  replace T31 := T31.kN K (by omega)
  clear K J39
  refine J40.put fun g41 J41 K => ?_
  replace T1 := T1.kE K (by omega)
  replace T2 := T2.kE K (by omega)
  replace T3 := T3.kE K (by omega)
  replace T4 := T4.kE K (by omega)
  replace NS := NS.kE K (by omega)
  replace T29 := T29.kE K (by omega)
  replace T30 := T30.kE K (by omega)
  replace T31 := T31.kE K (by omega)
  replace T32 := T32.kE K (by omega)
  clear K J40
  refine J41.alloc (len := 26013) h1 h2 (by decide) (Nat.le_of_ble_eq_true rfl) (Nat.le_of_ble_eq_true rfl) fun g42 (J42 : CJ h v 33 34673 _ _ g42) K (T33 : Cell (v + 33) 100 26013 (fun _ => 0) (fun _ => 0) g42) => ?_
  replace T1 := T1.kN K (by omega)
  replace T2 := T2.kN K (by omega)
  replace T3 := T3.kN K (by omega)
  replace T4 := T4.kN K (by omega)
  replace NS := NS.kN K (by omega)
  replace T29 := T29.kN K (by omega)
  replace T30 := T30.kN K (by omega)
  replace T31 := T31.kN K (by omega)
  replace T32 := T32.kN K (by omega)
  clear K J41
  refine J42.put fun g43 J43 K => ?_
  replace T1 := T1.kE K (by omega)
  replace T2 := T2.kE K (by omega)
  replace T3 := T3.kE K (by omega)
  replace T4 := T4.kE K (by omega)
  replace NS := NS.kE K (by omega)
  replace T29 := T29.kE K (by omega)
  replace T30 := T30.kE K (by omega)
  replace T31 := T31.kE K (by omega)
  replace T32 := T32.kE K (by omega)
  replace T33 := T33.kE K (by omega)
  clear K J42
  refine J43.alloc (len := 40) h1 h2 (by decide) (Nat.le_of_ble_eq_true rfl) (Nat.le_of_ble_eq_true rfl) fun g44 (J44 : CJ h v 34 34713 _ _ g44) K (T34 : Cell (v + 34) 100 40 (fun _ => 0) (fun _ => 0) g44) => ?_
  replace T1 := T1.kN K (by omega)
  replace T2 := T2.kN K (by omega)
  replace T3 := T3.kN K (by omega)
  replace T4 := T4.kN K (by omega)
  replace NS := NS.kN K (by omega)
  replace T29 := T29.kN K (by omega)
  replace T30 := T30.kN K (by omega)
  replace T31 := T31.kN K (by omega)
  replace T32 := T32.kN K (by omega)
  replace T33 := T33.kN K (by omega)
  clear K J43
  refine J44.put fun g45 J45 K => ?_
  replace T1 := T1.kE K (by omega)
  replace T2 := T2.kE K (by omega)
  replace T3 := T3.kE K (by omega)
  replace T4 := T4.kE K (by omega)
  replace NS := NS.kE K (by omega)
  replace T29 := T29.kE K (by omega)
  replace T30 := T30.kE K (by omega)
  replace T31 := T31.kE K (by omega)
  replace T32 := T32.kE K (by omega)
  replace T33 := T33.kE K (by omega)
  replace T34 := T34.kE K (by omega)
  clear K J44
  refine J45.alloc (len := 40) h1 h2 (by decide) (Nat.le_of_ble_eq_true rfl) (Nat.le_of_ble_eq_true rfl) fun g46 (J46 : CJ h v 35 34753 _ _ g46) K (T35 : Cell (v + 35) 100 40 (fun _ => 0) (fun _ => 0) g46) => ?_
  replace T1 := T1.kN K (by omega)
  replace T2 := T2.kN K (by omega)
  replace T3 := T3.kN K (by omega)
  replace T4 := T4.kN K (by omega)
  replace NS := NS.kN K (by omega)
  replace T29 := T29.kN K (by omega)
  replace T30 := T30.kN K (by omega)
  replace T31 := T31.kN K (by omega)
  replace T32 := T32.kN K (by omega)
  replace T33 := T33.kN K (by omega)
  replace T34 := T34.kN K (by omega)
  clear K J45
  refine J46.put fun g47 J47 K => ?_
  replace T1 := T1.kE K (by omega)
  replace T2 := T2.kE K (by omega)
  replace T3 := T3.kE K (by omega)
  replace T4 := T4.kE K (by omega)
  replace NS := NS.kE K (by omega)
  replace T29 := T29.kE K (by omega)
  replace T30 := T30.kE K (by omega)
  replace T31 := T31.kE K (by omega)
  replace T32 := T32.kE K (by omega)
  replace T33 := T33.kE K (by omega)
  replace T34 := T34.kE K (by omega)
  replace T35 := T35.kE K (by omega)
  clear K J46
  refine J47.alloc (len := 9) h1 h2 (by decide) (Nat.le_of_ble_eq_true rfl) (Nat.le_of_ble_eq_true rfl) fun g48 (J48 : CJ h v 36 34762 _ _ g48) K (T36 : Cell (v + 36) 100 9 (fun _ => 0) (fun _ => 0) g48) => ?_
  replace T1 := T1.kN K (by omega)
  replace T2 := T2.kN K (by omega)
  replace T3 := T3.kN K (by omega)
  replace T4 := T4.kN K (by omega)
  replace NS := NS.kN K (by omega)
  replace T29 := T29.kN K (by omega)
  replace T30 := T30.kN K (by omega)
  replace T31 := T31.kN K (by omega)
  replace T32 := T32.kN K (by omega)
  replace T33 := T33.kN K (by omega)
  replace T34 := T34.kN K (by omega)
  replace T35 := T35.kN K (by omega)
  clear K J47
  refine J48.put fun g49 J49 K => ?_
  replace T1 := T1.kE K (by omega)
  replace T2 := T2.kE K (by omega)
  replace T3 := T3.kE K (by omega)
  replace T4 := T4.kE K (by omega)
  replace NS := NS.kE K (by omega)
  replace T29 := T29.kE K (by omega)
  replace T30 := T30.kE K (by omega)
  replace T31 := T31.kE K (by omega)
  replace T32 := T32.kE K (by omega)
  replace T33 := T33.kE K (by omega)
  replace T34 := T34.kE K (by omega)
  replace T35 := T35.kE K (by omega)
  replace T36 := T36.kE K (by omega)
  clear K J48
  refine J49.alloc (len := 9) h1 h2 (by decide) (Nat.le_of_ble_eq_true rfl) (Nat.le_of_ble_eq_true rfl) fun g50 (J50 : CJ h v 37 34771 _ _ g50) K (T37 : Cell (v + 37) 100 9 (fun _ => 0) (fun _ => 0) g50) => ?_
  replace T1 := T1.kN K (by omega)
  replace T2 := T2.kN K (by omega)
  replace T3 := T3.kN K (by omega)
  replace T4 := T4.kN K (by omega)
  replace NS := NS.kN K (by omega)
  replace T29 := T29.kN K (by omega)
  replace T30 := T30.kN K (by omega)
  replace T31 := T31.kN K (by omega)
  replace T32 := T32.kN K (by omega)
  replace T33 := T33.kN K (by omega)
  replace T34 := T34.kN K (by omega)
  replace T35 := T35.kN K (by omega)
  replace T36 := T36.kN K (by omega)
  clear K J49
  refine J50.put fun g51 J51 K => ?_
  replace T1 := T1.kE K (by omega)
  replace T2 := T2.kE K (by omega)
  replace T3 := T3.kE K (by omega)
  replace T4 := T4.kE K (by omega)
  replace NS := NS.kE K (by omega)
  replace T29 := T29.kE K (by omega)
  replace T30 := T30.kE K (by omega)
  replace T31 := T31.kE K (by omega)
  replace T32 := T32.kE K (by omega)
  replace T33 := T33.kE K (by omega)
  replace T34 := T34.kE K (by omega)
  replace T35 := T35.kE K (by omega)
  replace T36 := T36.kE K (by omega)
  replace T37 := T37.kE K (by omega)
  clear K J50
  refine J51.alloc (len := 9) h1 h2 (by decide) (Nat.le_of_ble_eq_true rfl) (Nat.le_of_ble_eq_true rfl) fun g52 (J52 : CJ h v 38 34780 _ _ g52) K (T38 : Cell (v + 38) 100 9 (fun _ => 0) (fun _ => 0) g52) => ?_
  replace T1 := T1.kN K (by omega)
  replace T2 := T2.kN K (by omega)
  replace T3 := T3.kN K (by omega)
  replace T4 := T4.kN K (by omega)
  replace NS := NS.kN K (by omega)
  replace T29 := T29.kN K (by omega)
  replace T30 := T30.kN K (by omega)
  replace T31 := T31.kN K (by omega)
  replace T32 := T32.kN K (by omega)
  replace T33 := T33.kN K (by omega)
  replace T34 := T34.kN K (by omega)
  replace T35 := T35.kN K (by omega)
  replace T36 := T36.kN K (by omega)
  replace T37 := T37.kN K (by omega)
  clear K J51
  refine J52.put fun g53 J53 K => ?_
  replace T1 := T1.kE K (by omega)
  replace T2 := T2.kE K (by omega)
  replace T3 := T3.kE K (by omega)
  replace T4 := T4.kE K (by omega)
  replace NS := NS.kE K (by omega)
  replace T29 := T29.kE K (by omega)
  replace T30 := T30.kE K (by omega)
  replace T31 := T31.kE K (by omega)
  replace T32 := T32.kE K (by omega)
  replace T33 := T33.kE K (by omega)
  replace T34 := T34.kE K (by omega)
  replace T35 := T35.kE K (by omega)
  replace T36 := T36.kE K (by omega)
  replace T37 := T37.kE K (by omega)
  replace T38 := T38.kE K (by omega)
  clear K J52
  refine J53.alloc (len := 9) h1 h2 (by decide) (Nat.le_of_ble_eq_true rfl) (Nat.le_of_ble_eq_true rfl) fun g54 (J54 : CJ h v 39 34789 _ _ g54) K (T39 : Cell (v + 39) 100 9 (fun _ => 0) (fun _ => 0) g54) => ?_
  replace T1 := T1.kN K (by omega)
  replace T2 := T2.kN K (by omega)
  replace T3 := T3.kN K (by omega)
  replace T4 := T4.kN K (by omega)
  replace NS := NS.kN K (by omega)
  replace T29 := T29.kN K (by omega)
  replace T30 := T30.kN K (by omega)
  replace T31 := T31.kN K (by omega)
  replace T32 := T32.kN K (by omega)
  replace T33 := T33.kN K (by omega)
  replace T34 := T34.kN K (by omega)
  replace T35 := T35.kN K (by omega)
  replace T36 := T36.kN K (by omega)
  replace T37 := T37.kN K (by omega)
  replace T38 := T38.kN K (by omega)
  clear K J53
  refine J54.put fun g55 J55 K => ?_
  replace T1 := T1.kE K (by omega)
  replace T2 := T2.kE K (by omega)
  replace T3 := T3.kE K (by omega)
  replace T4 := T4.kE K (by omega)
  replace NS := NS.kE K (by omega)
  replace T29 := T29.kE K (by omega)
  replace T30 := T30.kE K (by omega)
  replace T31 := T31.kE K (by omega)
  replace T32 := T32.kE K (by omega)
  replace T33 := T33.kE K (by omega)
  replace T34 := T34.kE K (by omega)
  replace T35 := T35.kE K (by omega)
  replace T36 := T36.kE K (by omega)
  replace T37 := T37.kE K (by omega)
  replace T38 := T38.kE K (by omega)
  replace T39 := T39.kE K (by omega)
  clear K J54
  refine J55.put23 fun g56 J56 K => ?_
  replace T1 := T1.kE K (by omega)
  replace T2 := T2.kE K (by omega)
  replace T3 := T3.kE K (by omega)
  replace T4 := T4.kE K (by omega)
  replace NS := NS.kE K (by omega)
  replace T29 := T29.kE K (by omega)
  replace T30 := T30.kE K (by omega)
  replace T31 := T31.kE K (by omega)
  replace T32 := T32.kE K (by omega)
  replace T33 := T33.kE K (by omega)
  replace T34 := T34.kE K (by omega)
  replace T35 := T35.kE K (by omega)
  replace T36 := T36.kE K (by omega)
  replace T37 := T37.kE K (by omega)
  replace T38 := T38.kE K (by omega)
  replace T39 := T39.kE K (by omega)
  clear K J55
  refine J56.anew (len := 12) h1 h2 (by decide) (Nat.le_of_ble_eq_true rfl) fun g57 (J57 : CJ h v 40 34801 _ _ g57) K (T40 : Cell (v + 40) 6 0 (fun _ => 0) (fun _ => 0) g57) => ?_
  replace T1 := T1.kN K (by omega)
  replace T2 := T2.kN K (by omega)
  replace T3 := T3.kN K (by omega)
  replace T4 := T4.kN K (by omega)
  replace NS := NS.kN K (by omega)
  replace T29 := T29.kN K (by omega)
  replace T30 := T30.kN K (by omega)
  replace T31 := T31.kN K (by omega)
  replace T32 := T32.kN K (by omega)
  replace T33 := T33.kN K (by omega)
  replace T34 := T34.kN K (by omega)
  replace T35 := T35.kN K (by omega)
  replace T36 := T36.kN K (by omega)
  replace T37 := T37.kN K (by omega)
  replace T38 := T38.kN K (by omega)
  replace T39 := T39.kN K (by omega)
  clear K J56
  rw [wpo_b2, wpo_ck]; refine ⟨T40.1, ?_⟩; unfold fSR_init; rw [wpo_bind, wpo_pr]; refine ⟨by rw [T40.1]; decide, ?_⟩
  obtain ⟨J58, K, TX⟩ := J57.oR (f := 11) (x := v) T40 (by omega)
  replace T1 := T1.kE K (by omega)
  replace T2 := T2.kE K (by omega)
  replace T3 := T3.kE K (by omega)
  replace T4 := T4.kE K (by omega)
  replace NS := NS.kE K (by omega)
  replace T29 := T29.kE K (by omega)
  replace T30 := T30.kE K (by omega)
  replace T31 := T31.kE K (by omega)
  replace T32 := T32.kE K (by omega)
  replace T33 := T33.kE K (by omega)
  replace T34 := T34.kE K (by omega)
  replace T35 := T35.kE K (by omega)
  replace T36 := T36.kE K (by omega)
  replace T37 := T37.kE K (by omega)
  replace T38 := T38.kE K (by omega)
  replace T39 := T39.kE K (by omega)
  replace T40 := TX
  clear TX
  clear K J57
  refine J58.ri (by decide) T40 (by omega) fun g59 J59 K TX => ?_
  replace T1 := T1.kE K (by omega)
  replace T2 := T2.kE K (by omega)
  replace T3 := T3.kE K (by omega)
  replace T4 := T4.kE K (by omega)
  replace NS := NS.kE K (by omega)
  replace T29 := T29.kE K (by omega)
  replace T30 := T30.kE K (by omega)
  replace T31 := T31.kE K (by omega)
  replace T32 := T32.kE K (by omega)
  replace T33 := T33.kE K (by omega)
  replace T34 := T34.kE K (by omega)
  replace T35 := T35.kE K (by omega)
  replace T36 := T36.kE K (by omega)
  replace T37 := T37.kE K (by omega)
  replace T38 := T38.kE K (by omega)
  replace T39 := T39.kE K (by omega)
  replace T40 := TX
  clear TX
  clear K J58
  refine J59.alloc (len := 4) h1 h2 (by decide) (Nat.le_of_ble_eq_true rfl) (Nat.le_of_ble_eq_true rfl) fun g60 (J60 : CJ h v 41 34805 _ _ g60) K (T41 : Cell (v + 41) 104 4 (fun _ => 0) (fun _ => 0) g60) => ?_
  replace T1 := T1.kN K (by omega)
  replace T2 := T2.kN K (by omega)
  replace T3 := T3.kN K (by omega)
  replace T4 := T4.kN K (by omega)
  replace NS := NS.kN K (by omega)
  replace T29 := T29.kN K (by omega)
  replace T30 := T30.kN K (by omega)
  replace T31 := T31.kN K (by omega)
  replace T32 := T32.kN K (by omega)
  replace T33 := T33.kN K (by omega)
  replace T34 := T34.kN K (by omega)
  replace T35 := T35.kN K (by omega)
  replace T36 := T36.kN K (by omega)
  replace T37 := T37.kN K (by omega)
  replace T38 := T38.kN K (by omega)
  replace T39 := T39.kN K (by omega)
  replace T40 := T40.kN K (by omega)
  clear K J59
  refine J60.st (R := v + 41) (i := 0) (len := 4) (c := 12) T41 (by omega) (by decide) (by decide) (by decide) fun g61 J61 K TX => ?_
  replace T1 := T1.kE K (by omega)
  replace T2 := T2.kE K (by omega)
  replace T3 := T3.kE K (by omega)
  replace T4 := T4.kE K (by omega)
  replace NS := NS.kE K (by omega)
  replace T29 := T29.kE K (by omega)
  replace T30 := T30.kE K (by omega)
  replace T31 := T31.kE K (by omega)
  replace T32 := T32.kE K (by omega)
  replace T33 := T33.kE K (by omega)
  replace T34 := T34.kE K (by omega)
  replace T35 := T35.kE K (by omega)
  replace T36 := T36.kE K (by omega)
  replace T37 := T37.kE K (by omega)
  replace T38 := T38.kE K (by omega)
  replace T39 := T39.kE K (by omega)
  replace T40 := T40.kE K (by omega)
  replace T41 := TX
  clear TX
  clear K J60
  refine J61.st (R := v + 41) (i := 1) (len := 4) (c := 13) T41 (by omega) (by decide) (by decide) (by decide) fun g62 J62 K TX => ?_
  replace T1 := T1.kE K (by omega)
  replace T2 := T2.kE K (by omega)
  replace T3 := T3.kE K (by omega)
  replace T4 := T4.kE K (by omega)
  replace NS := NS.kE K (by omega)
  replace T29 := T29.kE K (by omega)
  replace T30 := T30.kE K (by omega)
  replace T31 := T31.kE K (by omega)
  replace T32 := T32.kE K (by omega)
  replace T33 := T33.kE K (by omega)
  replace T34 := T34.kE K (by omega)
  replace T35 := T35.kE K (by omega)
  replace T36 := T36.kE K (by omega)
  replace T37 := T37.kE K (by omega)
  replace T38 := T38.kE K (by omega)
  replace T39 := T39.kE K (by omega)
  replace T40 := T40.kE K (by omega)
  replace T41 := TX
  clear TX
  clear K J61
  refine J62.st (R := v + 41) (i := 2) (len := 4) (c := 14) T41 (by omega) (by decide) (by decide) (by decide) fun g63 J63 K TX => ?_
  replace T1 := T1.kE K (by omega)
  replace T2 := T2.kE K (by omega)
  replace T3 := T3.kE K (by omega)
  replace T4 := T4.kE K (by omega)
  replace NS := NS.kE K (by omega)
  replace T29 := T29.kE K (by omega)
  replace T30 := T30.kE K (by omega)
  replace T31 := T31.kE K (by omega)
  replace T32 := T32.kE K (by omega)
  replace T33 := T33.kE K (by omega)
  replace T34 := T34.kE K (by omega)
  replace T35 := T35.kE K (by omega)
  replace T36 := T36.kE K (by omega)
  replace T37 := T37.kE K (by omega)
  replace T38 := T38.kE K (by omega)
  replace T39 := T39.kE K (by omega)
  replace T40 := T40.kE K (by omega)
  replace T41 := TX
  clear TX
  clear K J62
  refine J63.st (R := v + 41) (i := 3) (len := 4) (c := 15) T41 (by omega) (by decide) (by decide) (by decide) fun g64 J64 K TX => ?_
  replace T1 := T1.kE K (by omega)
  replace T2 := T2.kE K (by omega)
  replace T3 := T3.kE K (by omega)
  replace T4 := T4.kE K (by omega)
  replace NS := NS.kE K (by omega)
  replace T29 := T29.kE K (by omega)
  replace T30 := T30.kE K (by omega)
  replace T31 := T31.kE K (by omega)
  replace T32 := T32.kE K (by omega)
  replace T33 := T33.kE K (by omega)
  replace T34 := T34.kE K (by omega)
  replace T35 := T35.kE K (by omega)
  replace T36 := T36.kE K (by omega)
  replace T37 := T37.kE K (by omega)
  replace T38 := T38.kE K (by omega)
  replace T39 := T39.kE K (by omega)
  replace T40 := T40.kE K (by omega)
  replace T41 := TX
  clear TX
  clear K J63
  rw [wpo_bind, wpo_pr]; refine ⟨by rw [T40.1]; decide, ?_⟩
  obtain ⟨J65, K, TX⟩ := J64.oR (f := 8) (x := v + 41) T40 (by omega)
  replace T1 := T1.kE K (by omega)
  replace T2 := T2.kE K (by omega)
  replace T3 := T3.kE K (by omega)
  replace T4 := T4.kE K (by omega)
  replace NS := NS.kE K (by omega)
  replace T29 := T29.kE K (by omega)
  replace T30 := T30.kE K (by omega)
  replace T31 := T31.kE K (by omega)
  replace T32 := T32.kE K (by omega)
  replace T33 := T33.kE K (by omega)
  replace T34 := T34.kE K (by omega)
  replace T35 := T35.kE K (by omega)
  replace T36 := T36.kE K (by omega)
  replace T37 := T37.kE K (by omega)
  replace T38 := T38.kE K (by omega)
  replace T39 := T39.kE K (by omega)
  replace T40 := TX
  clear TX
  replace T41 := T41.kE K (by omega)
  clear K J64
  refine J65.alloc (len := 3) h1 h2 (by decide) (Nat.le_of_ble_eq_true rfl) (Nat.le_of_ble_eq_true rfl) fun g66 (J66 : CJ h v 42 34808 _ _ g66) K (T42 : Cell (v + 42) 104 3 (fun _ => 0) (fun _ => 0) g66) => ?_
  replace T1 := T1.kN K (by omega)
  replace T2 := T2.kN K (by omega)
  replace T3 := T3.kN K (by omega)
  replace T4 := T4.kN K (by omega)
  replace NS := NS.kN K (by omega)
  replace T29 := T29.kN K (by omega)
  replace T30 := T30.kN K (by omega)
  replace T31 := T31.kN K (by omega)
  replace T32 := T32.kN K (by omega)
  replace T33 := T33.kN K (by omega)
  replace T34 := T34.kN K (by omega)
  replace T35 := T35.kN K (by omega)
  replace T36 := T36.kN K (by omega)
  replace T37 := T37.kN K (by omega)
  replace T38 := T38.kN K (by omega)
  replace T39 := T39.kN K (by omega)
  replace T40 := T40.kN K (by omega)
  replace T41 := T41.kN K (by omega)
  clear K J65
  refine J66.st (R := v + 42) (i := 0) (len := 3) (c := 16) T42 (by omega) (by decide) (by decide) (by decide) fun g67 J67 K TX => ?_
  replace T1 := T1.kE K (by omega)
  replace T2 := T2.kE K (by omega)
  replace T3 := T3.kE K (by omega)
  replace T4 := T4.kE K (by omega)
  replace NS := NS.kE K (by omega)
  replace T29 := T29.kE K (by omega)
  replace T30 := T30.kE K (by omega)
  replace T31 := T31.kE K (by omega)
  replace T32 := T32.kE K (by omega)
  replace T33 := T33.kE K (by omega)
  replace T34 := T34.kE K (by omega)
  replace T35 := T35.kE K (by omega)
  replace T36 := T36.kE K (by omega)
  replace T37 := T37.kE K (by omega)
  replace T38 := T38.kE K (by omega)
  replace T39 := T39.kE K (by omega)
  replace T40 := T40.kE K (by omega)
  replace T41 := T41.kE K (by omega)
  replace T42 := TX
  clear TX
  clear K J66
  refine J67.st (R := v + 42) (i := 1) (len := 3) (c := 17) T42 (by omega) (by decide) (by decide) (by decide) fun g68 J68 K TX => ?_
  replace T1 := T1.kE K (by omega)
  replace T2 := T2.kE K (by omega)
  replace T3 := T3.kE K (by omega)
  replace T4 := T4.kE K (by omega)
  replace NS := NS.kE K (by omega)
  replace T29 := T29.kE K (by omega)
  replace T30 := T30.kE K (by omega)
  replace T31 := T31.kE K (by omega)
  replace T32 := T32.kE K (by omega)
  replace T33 := T33.kE K (by omega)
  replace T34 := T34.kE K (by omega)
  replace T35 := T35.kE K (by omega)
  replace T36 := T36.kE K (by omega)
  replace T37 := T37.kE K (by omega)
  replace T38 := T38.kE K (by omega)
  replace T39 := T39.kE K (by omega)
  replace T40 := T40.kE K (by omega)
  replace T41 := T41.kE K (by omega)
  replace T42 := TX
  clear TX
  clear K J67
  refine J68.st (R := v + 42) (i := 2) (len := 3) (c := 18) T42 (by omega) (by decide) (by decide) (by decide) fun g69 J69 K TX => ?_
  replace T1 := T1.kE K (by omega)
  replace T2 := T2.kE K (by omega)
  replace T3 := T3.kE K (by omega)
  replace T4 := T4.kE K (by omega)
  replace NS := NS.kE K (by omega)
  replace T29 := T29.kE K (by omega)
  replace T30 := T30.kE K (by omega)
  replace T31 := T31.kE K (by omega)
  replace T32 := T32.kE K (by omega)
  replace T33 := T33.kE K (by omega)
  replace T34 := T34.kE K (by omega)
  replace T35 := T35.kE K (by omega)
  replace T36 := T36.kE K (by omega)
  replace T37 := T37.kE K (by omega)
  replace T38 := T38.kE K (by omega)
  replace T39 := T39.kE K (by omega)
  replace T40 := T40.kE K (by omega)
  replace T41 := T41.kE K (by omega)
  replace T42 := TX
  clear TX
  clear K J68
  rw [wpo_bind, wpo_pr]; refine ⟨by rw [T40.1]; decide, ?_⟩
  obtain ⟨J70, K, TX⟩ := J69.oR (f := 9) (x := v + 42) T40 (by omega)
  replace T1 := T1.kE K (by omega)
  replace T2 := T2.kE K (by omega)
  replace T3 := T3.kE K (by omega)
  replace T4 := T4.kE K (by omega)
  replace NS := NS.kE K (by omega)
  replace T29 := T29.kE K (by omega)
  replace T30 := T30.kE K (by omega)
  replace T31 := T31.kE K (by omega)
  replace T32 := T32.kE K (by omega)
  replace T33 := T33.kE K (by omega)
  replace T34 := T34.kE K (by omega)
  replace T35 := T35.kE K (by omega)
  replace T36 := T36.kE K (by omega)
  replace T37 := T37.kE K (by omega)
  replace T38 := T38.kE K (by omega)
  replace T39 := T39.kE K (by omega)
  replace T40 := TX
  clear TX
  replace T41 := T41.kE K (by omega)
  replace T42 := T42.kE K (by omega)
  clear K J69
  rw [wpo_some]
  show wpo ((xpr _ v [1] 25 (v + (39 + 1))).bind _) _
  refine J70.put fun g71 J71 K => ?_
  replace T1 := T1.kE K (by omega)
  replace T2 := T2.kE K (by omega)
  replace T3 := T3.kE K (by omega)
  replace T4 := T4.kE K (by omega)
  replace NS := NS.kE K (by omega)
  replace T29 := T29.kE K (by omega)
  replace T30 := T30.kE K (by omega)
  replace T31 := T31.kE K (by omega)
  replace T32 := T32.kE K (by omega)
  replace T33 := T33.kE K (by omega)
  replace T34 := T34.kE K (by omega)
  replace T35 := T35.kE K (by omega)
  replace T36 := T36.kE K (by omega)
  replace T37 := T37.kE K (by omega)
  replace T38 := T38.kE K (by omega)
  replace T39 := T39.kE K (by omega)
  replace T40 := T40.kE K (by omega)
  replace T41 := T41.kE K (by omega)
  replace T42 := T42.kE K (by omega)
  clear K J70
  refine J71.alloc (len := 2) h1 h2 (by decide) (Nat.le_of_ble_eq_true rfl) (Nat.le_of_ble_eq_true rfl) fun g72 (J72 : CJ h v 43 34810 _ _ g72) K (T43 : Cell (v + 43) 107 2 (fun _ => 0) (fun _ => 0) g72) => ?_
  replace T1 := T1.kN K (by omega)
  replace T2 := T2.kN K (by omega)
  replace T3 := T3.kN K (by omega)
  replace T4 := T4.kN K (by omega)
  replace NS := NS.kN K (by omega)
  replace T29 := T29.kN K (by omega)
  replace T30 := T30.kN K (by omega)
  replace T31 := T31.kN K (by omega)
  replace T32 := T32.kN K (by omega)
  replace T33 := T33.kN K (by omega)
  replace T34 := T34.kN K (by omega)
  replace T35 := T35.kN K (by omega)
  replace T36 := T36.kN K (by omega)
  replace T37 := T37.kN K (by omega)
  replace T38 := T38.kN K (by omega)
  replace T39 := T39.kN K (by omega)
  replace T40 := T40.kN K (by omega)
  replace T41 := T41.kN K (by omega)
  replace T42 := T42.kN K (by omega)
  clear K J71
  refine J72.put fun g73 J73 K => ?_
  replace T1 := T1.kE K (by omega)
  replace T2 := T2.kE K (by omega)
  replace T3 := T3.kE K (by omega)
  replace T4 := T4.kE K (by omega)
  replace NS := NS.kE K (by omega)
  replace T29 := T29.kE K (by omega)
  replace T30 := T30.kE K (by omega)
  replace T31 := T31.kE K (by omega)
  replace T32 := T32.kE K (by omega)
  replace T33 := T33.kE K (by omega)
  replace T34 := T34.kE K (by omega)
  replace T35 := T35.kE K (by omega)
  replace T36 := T36.kE K (by omega)
  replace T37 := T37.kE K (by omega)
  replace T38 := T38.kE K (by omega)
  replace T39 := T39.kE K (by omega)
  replace T40 := T40.kE K (by omega)
  replace T41 := T41.kE K (by omega)
  replace T42 := T42.kE K (by omega)
  replace T43 := T43.kE K (by omega)
  clear K J72
  refine J73.alloc (len := 2) h1 h2 (by decide) (Nat.le_of_ble_eq_true rfl) (Nat.le_of_ble_eq_true rfl) fun g74 (J74 : CJ h v 44 34812 _ _ g74) K (T44 : Cell (v + 44) 108 2 (fun _ => 0) (fun _ => 0) g74) => ?_
  replace T1 := T1.kN K (by omega)
  replace T2 := T2.kN K (by omega)
  replace T3 := T3.kN K (by omega)
  replace T4 := T4.kN K (by omega)
  replace NS := NS.kN K (by omega)
  replace T29 := T29.kN K (by omega)
  replace T30 := T30.kN K (by omega)
  replace T31 := T31.kN K (by omega)
  replace T32 := T32.kN K (by omega)
  replace T33 := T33.kN K (by omega)
  replace T34 := T34.kN K (by omega)
  replace T35 := T35.kN K (by omega)
  replace T36 := T36.kN K (by omega)
  replace T37 := T37.kN K (by omega)
  replace T38 := T38.kN K (by omega)
  replace T39 := T39.kN K (by omega)
  replace T40 := T40.kN K (by omega)
  replace T41 := T41.kN K (by omega)
  replace T42 := T42.kN K (by omega)
  replace T43 := T43.kN K (by omega)
  clear K J73
  refine J74.put fun g75 J75 K => ?_
  replace T1 := T1.kE K (by omega)
  replace T2 := T2.kE K (by omega)
  replace T3 := T3.kE K (by omega)
  replace T4 := T4.kE K (by omega)
  replace NS := NS.kE K (by omega)
  replace T29 := T29.kE K (by omega)
  replace T30 := T30.kE K (by omega)
  replace T31 := T31.kE K (by omega)
  replace T32 := T32.kE K (by omega)
  replace T33 := T33.kE K (by omega)
  replace T34 := T34.kE K (by omega)
  replace T35 := T35.kE K (by omega)
  replace T36 := T36.kE K (by omega)
  replace T37 := T37.kE K (by omega)
  replace T38 := T38.kE K (by omega)
  replace T39 := T39.kE K (by omega)
  replace T40 := T40.kE K (by omega)
  replace T41 := T41.kE K (by omega)
  replace T42 := T42.kE K (by omega)
  replace T43 := T43.kE K (by omega)
  replace T44 := T44.kE K (by omega)
  clear K J74
  have J := J75
  refine wpo_some.mpr ?_
  have F := J.2.2.2.2.1
  refine ⟨J.2.1, J.2.2.1, J.2.2.2.1, J.2.2.2.2.2.2, ⟨J.1, by rw [F]; simp [va_up], fun i hi9 => ?_⟩, NS, J.2.2.2.2.2.1, by rw [F]; simp [va_up], T1, fun j hj => ?_, fun j hj => ?_, T29, ⟨by rw [T30.2.2.1]; simp [va_up], by rw [T30.2.2.2]; simp [va_up], by rw [T30.2.2.2]; simp [va_up]⟩, ⟨by rw [T40.2.2.1]; simp [va_up], by rw [T40.2.2.2]; simp [va_up], by rw [T40.2.2.2]; simp [va_up], by rw [T40.2.2.2]; simp [va_up], by rw [T40.2.2.2]; simp [va_up]⟩, ⟨T41.1, T41.2.1, fun j hj => ?_⟩, ⟨T42.1, T42.2.1, fun j hj => ?_⟩, T43, T44⟩
  · rcases i with _ | _ | _ | _ | _ | _ | _ | _ | _ | _ | _ | _ | _ | _ | _ | _ | _ | _ | i
    · exact ⟨by show hrv _ v 0 = v + 1; rw [F]; simp [va_up], T1.1, T1.2.1⟩
    · exact ⟨by show hrv _ v 4 = v + 2; rw [F]; simp [va_up], T2.1, T2.2.1⟩
    · exact ⟨by show hrv _ v 5 = v + 3; rw [F]; simp [va_up], T3.1, T3.2.1⟩
    · exact ⟨by show hrv _ v 6 = v + 4; rw [F]; simp [va_up], T4.1, T4.2.1⟩
    · exact ⟨by show hrv _ v 8 = v + 29; rw [F]; simp [va_up], T29.1, T29.2.1⟩
    · exact ⟨by show hrv _ v 10 = v + 30; rw [F]; simp [va_up], T30.1, T30.2.1⟩
    · exact ⟨by show hrv _ v 12 = v + 31; rw [F]; simp [va_up], T31.1, T31.2.1⟩
    · exact ⟨by show hrv _ v 13 = v + 32; rw [F]; simp [va_up], T32.1, T32.2.1⟩
    · exact ⟨by show hrv _ v 14 = v + 33; rw [F]; simp [va_up], T33.1, T33.2.1⟩
    · exact ⟨by show hrv _ v 15 = v + 34; rw [F]; simp [va_up], T34.1, T34.2.1⟩
    · exact ⟨by show hrv _ v 16 = v + 35; rw [F]; simp [va_up], T35.1, T35.2.1⟩
    · exact ⟨by show hrv _ v 19 = v + 36; rw [F]; simp [va_up], T36.1, T36.2.1⟩
    · exact ⟨by show hrv _ v 20 = v + 37; rw [F]; simp [va_up], T37.1, T37.2.1⟩
    · exact ⟨by show hrv _ v 21 = v + 38; rw [F]; simp [va_up], T38.1, T38.2.1⟩
    · exact ⟨by show hrv _ v 22 = v + 39; rw [F]; simp [va_up], T39.1, T39.2.1⟩
    · exact ⟨by show hrv _ v 25 = v + 40; rw [F]; simp [va_up], T40.1, T40.2.1⟩
    · exact ⟨by show hrv _ v 27 = v + 43; rw [F]; simp [va_up], T43.1, T43.2.1⟩
    · exact ⟨by show hrv _ v 28 = v + 44; rw [F]; simp [va_up], T44.1, T44.2.1⟩
    · omega
  · rw [T3.2.2.2]; rcases j with _ | _ | _ | _ | _ | _ | _ | j <;> first | omega | (simp [va_up])
  · rw [T4.2.2.2]; rcases j with _ | _ | _ | _ | _ | _ | _ | _ | _ | _ | _ | _ | j <;> first | omega | (simp [va_up])
  · rw [T41.2.2.2]; rcases j with _ | _ | _ | _ | j <;> first | omega | (simp [va_up])
  · rw [T42.2.2.2]; rcases j with _ | _ | _ | j <;> first | omega | (simp [va_up])
