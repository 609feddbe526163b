/-! PL 6: the component's constructor -/
set_option maxRecDepth 100000
def Keep (P : Nat → Prop) (g g' : AH) : Prop := ∀ r, P r → hkd g' r = hkd g r ∧ hln g' r = hln g r ∧ ∀ j, hiv g' r j = hiv g r j ∧ hjv g' r j = hjv g r j ∧ hrv g' r j = hrv g r j
def Cell (a kd len : Nat) (ι : Nat → Int32) (ρ : Nat → Nat) (g : AH) : Prop := hkd g a = kd ∧ hln g a = len ∧ (∀ j, hiv g a j = ι j) ∧ ∀ j, hrv g a j = ρ j
theorem Cell.keep {a kd len : Nat} {ι : Nat → Int32} {ρ : Nat → Nat} {g g' : AH} {P : Nat → Prop} (T : Cell a kd len ι ρ g) (K : Keep P g g') (h : P a) : Cell a kd len ι ρ g' := by
  obtain ⟨k1, k2, k3⟩ := K a h
  exact ⟨k1.trans T.1, k2.trans T.2.1, fun j => (k3 j).1.trans (T.2.2.1 j), fun j => (k3 j).2.2.trans (T.2.2.2 j)⟩
theorem NewS.keep {v : Nat} {g g' : AH} {P : Nat → Prop} (T : NewS v g) (K : Keep P g g') (h : ∀ r, v ≤ r → r ≤ v + 23 → P r) : NewS v g' := by
  obtain ⟨⟨a1, a2⟩, a3, ⟨⟨b1, b2, b3, b4, b5⟩, b6, b7, b8, b9⟩, c1, c2, c3⟩ := T
  have K0 := K v (h v (by omega) (by omega))
  have K1 := K (v + 1) (h _ (by omega) (by omega))
  have K2 := K (v + 1 + 1) (h _ (by omega) (by omega))
  have K3 := K (v + 1 + 2) (h _ (by omega) (by omega))
  refine ⟨⟨K0.1.trans a1, fun j hj => ?_⟩, (K0.2.2 _).2.2.trans a3, ⟨⟨K1.1.trans b1, ⟨(K1.2.2 _).2.2.trans b2.1, K2.1.trans b2.2.1, K2.2.1.trans b2.2.2⟩, (K1.2.2 _).2.2.trans b3, K3.1.trans b4, K3.2.1.trans b5⟩, fun k hk => (K1.2.2 _).1.trans (b6 k hk), (K1.2.2 _).1.trans b7, (K1.2.2 _).1.trans b8, (K1.2.2 _).1.trans b9⟩, fun k k1 k2 => (K0.2.2 _).1.trans (c1 k k1 k2), (K0.2.2 _).1.trans c2, (K0.2.2 _).1.trans c3⟩
  have Kj := K (v + 4 + j) (h _ (by omega) (by omega))
  exact ⟨(K0.2.2 _).2.2.trans (a2 j hj).1, Kj.1.trans (a2 j hj).2.1, Kj.2.1.trans (a2 j hj).2.2⟩
theorem Keep.N {g : AH} (k n w : Nat) {P : Nat → Prop} (h : ∀ r, P r → r ≠ hsz g + 1) : Keep P g (hnew g k n w) := fun r hr => ⟨by rw [kd_N, if_neg (h r hr)], by rw [ln_N, if_neg (h r hr)], fun j => ⟨by rw [iv_N, if_neg (h r hr)], by rw [jv_N, if_neg (h r hr)], by rw [rv_N, if_neg (h r hr)]⟩⟩
theorem Keep.R {g : AH} (a k x : Nat) {P : Nat → Prop} (h : ∀ r, P r → r ≠ a) : Keep P g (hsR g a k x) := fun r hr => ⟨by rw [kd_R], by rw [ln_R], fun j => ⟨by rw [iv_R], by rw [jv_R], by rw [rv_R, if_neg (fun z => h r hr z.1)]⟩⟩
theorem Keep.I {g : AH} (a k : Nat) (x : Int32) {P : Nat → Prop} (h : ∀ r, P r → r ≠ a) : Keep P g (hsI g a k x) := fun r hr => ⟨by rw [kd_I], by rw [ln_I], fun j => ⟨by rw [iv_I, if_neg (fun z => h r hr z.1)], by rw [jv_I], by rw [rv_I]⟩⟩
theorem Keep.tr {P : Nat → Prop} {g1 g2 g3 : AH} (a : Keep P g1 g2) (b : Keep P g2 g3) : Keep P g1 g3 := fun r hr => ⟨(b r hr).1.trans (a r hr).1, (b r hr).2.1.trans (a r hr).2.1, fun j => ⟨((b r hr).2.2 j).1.trans ((a r hr).2.2 j).1, ((b r hr).2.2 j).2.1.trans ((a r hr).2.2 j).2.1, ((b r hr).2.2 j).2.2.trans ((a r hr).2.2 j).2.2⟩⟩
theorem Keep.sub {P Q : Nat → Prop} {g1 g2 : AH} (a : Keep P g1 g2) (h : ∀ r, Q r → P r) : Keep Q g1 g2 := fun r hr => a r (h r hr)
theorem Keep.rf {P : Nat → Prop} {g : AH} : Keep P g g := fun r _ => ⟨rfl, rfl, fun j => ⟨rfl, rfl, rfl⟩⟩
/-- on the way through the constructor of the object v: n cells made behind it, s slots, its references φ, its field 23 -/
def CJ (h : AH) (v n s : Nat) (φ : Nat → Nat) (z : Int32) (g : AH) : Prop := hkd g v = 1 ∧ hsz g = v + n ∧ hsl g = hsl h + s ∧ Caps h g ∧ (∀ j, hrv g v j = φ j) ∧ (∀ j, hiv g v j = if j = 23 then z else 0) ∧ Keep (fun r => r < v) h g
theorem Caps.tr {a b c : AH} (h1 : Caps a b) (h2 : Caps b c) : Caps a c := ⟨h2.1.trans h1.1, h2.2.1.trans h1.2.1, h2.2.2.trans h1.2.2⟩
theorem CJ.ext {h g g' : AH} {v n s n' s' : Nat} {φ : Nat → Nat} {z : Int32} (J : CJ h v n s φ z g) (K : Keep (fun r => r ≤ v) g g') (h1 : hsz g' = v + n') (h2 : hsl g' = hsl h + s') (h3 : Caps g g') : CJ h v n' s' φ z g' := by
  obtain ⟨a1, a2, a3, a4, a5, a6, a7⟩ := J
  have K0 := K v (Nat.le_refl v)
  exact ⟨K0.1.trans a1, h1, h2, a4.tr h3, fun j => (K0.2.2 j).2.2.trans (a5 j), fun j => (K0.2.2 j).1.trans (a6 j), a7.tr (K.sub fun r hr => Nat.le_of_lt hr)⟩
theorem CJ.alloc {h g : AH} {v n s kd len m : Nat} {φ : Nat → Nat} {z : Int32} {β : Type} {k : Nat → AH → Option β} {Q : β → Prop} (J : CJ h v n s φ z g) (h1 : v + 44 ≤ hcap h) (h2 : hsl h + m ≤ hscap h) (hn : n < 44) (hm : s + len ≤ m) (hl : len ≤ 60000) (kk : ∀ g', CJ h v (n + 1) (s + len) φ z g' → Keep (fun r => r ≤ v + n) g g' → Cell (v + (n + 1)) kd len (fun _ => 0) (fun _ => 0) g' → wpo (k (v + (n + 1)) g') Q) : wpo (xb2 (xnewa g kd (I len)) k) Q := by
  have J0 := J
  obtain ⟨a1, a2, a3, a4, a5, a6, a7⟩ := J
  rw [wpo_b2, wpo_newa hl]
  refine ⟨⟨by rw [a4.1]; omega, by rw [a4.2.1]; omega⟩, ?_⟩
  have e : hsz g + 1 = v + (n + 1) := by omega
  have K : Keep (fun r => r ≤ v + n) g (hnew g kd len len) := Keep.N _ _ _ fun r hr => by have hr : r ≤ v + n := hr; omega
  have := kk (hnew g kd len len) (J0.ext (K.sub fun r hr => Nat.le_trans hr (Nat.le_add_right _ _)) (by rw [sz_N]; omega) (by rw [sl_N, a3]; omega) ⟨cap_N _ _ _ _, scap_N _ _ _ _, cs_N _ _ _ _⟩) K ⟨by rw [kd_N, if_pos e.symm], by rw [ln_N, if_pos e.symm], fun j => by rw [iv_N, if_pos e.symm], fun j => by rw [rv_N, if_pos e.symm]⟩
  rw [← e] at this
  exact this
theorem CJ.anew {h g : AH} {v n s kd len m : Nat} {φ : Nat → Nat} {z : Int32} {β : Type} {k : Nat → AH → Option β} {Q : β → Prop} (J : CJ h v n s φ z g) (h1 : v + 44 ≤ hcap h) (h2 : hsl h + m ≤ hscap h) (hn : n < 44) (hm : s + len ≤ m) (kk : ∀ g', CJ h v (n + 1) (s + len) φ z g' → Keep (fun r => r ≤ v + n) g g' → Cell (v + (n + 1)) kd 0 (fun _ => 0) (fun _ => 0) g' → wpo (k (v + (n + 1)) g') Q) : wpo (xb2 (xnew g kd len) k) Q := by
  have J0 := J
  obtain ⟨a1, a2, a3, a4, a5, a6, a7⟩ := J
  rw [wpo_b2, wpo_new]
  refine ⟨⟨by rw [a4.1]; omega, by rw [a4.2.1]; omega⟩, ?_⟩
  have e : hsz g + 1 = v + (n + 1) := by omega
  have K : Keep (fun r => r ≤ v + n) g (hnew g kd 0 len) := Keep.N _ _ _ fun r hr => by have hr : r ≤ v + n := hr; omega
  have := kk (hnew g kd 0 len) (J0.ext (K.sub fun r hr => Nat.le_trans hr (Nat.le_add_right _ _)) (by rw [sz_N]; omega) (by rw [sl_N, a3]; omega) ⟨cap_N _ _ _ _, scap_N _ _ _ _, cs_N _ _ _ _⟩) K ⟨by rw [kd_N, if_pos e.symm], by rw [ln_N, if_pos e.symm], fun j => by rw [iv_N, if_pos e.symm], fun j => by rw [rv_N, if_pos e.symm]⟩
  rw [← e] at this
  exact this
theorem CJ.put {h g : AH} {v n s f x : Nat} {φ : Nat → Nat} {z : Int32} {β : Type} {k : AH → Option β} {Q : β → Prop} (J : CJ h v n s φ z g) (kk : ∀ g', CJ h v n s (va_up φ f x) z g' → Keep (fun r => r ≠ v) g g' → wpo (k g') Q) : wpo ((xpr g v [1] f x).bind k) Q := by
  obtain ⟨a1, a2, a3, a4, a5, a6, a7⟩ := J
  rw [wpo_bind, wpo_pr]
  refine ⟨by rw [a1]; decide, ?_⟩
  have K : Keep (fun r => r ≠ v) g (hsR g v f x) := Keep.R _ _ _ fun r hr => hr
  refine kk _ ⟨by rw [kd_R]; exact a1, by rw [sz_R]; exact a2, by rw [sl_R]; exact a3, a4.tr ⟨cap_R _ _ _ _, scap_R _ _ _ _, cs_R _ _ _ _⟩, fun j => ?_, fun j => by rw [iv_R]; exact a6 j, a7.tr (K.sub fun r hr => Nat.ne_of_lt hr)⟩ K
  rw [rv_R, a5]
  unfold va_up
  by_cases hj : j = f <;> simp [hj]
theorem CJ.put23 {h g : AH} {v n s : Nat} {x : Int32} {φ : Nat → Nat} {z : Int32} {β : Type} {k : AH → Option β} {Q : β → Prop} (J : CJ h v n s φ z g) (kk : ∀ g', CJ h v n s φ x g' → Keep (fun r => r ≠ v) g g' → wpo (k g') Q) : wpo ((xpi g v [1] 23 x).bind k) Q := by
  obtain ⟨a1, a2, a3, a4, a5, a6, a7⟩ := J
  rw [wpo_bind, wpo_pi]
  refine ⟨by rw [a1]; decide, ?_⟩
  have K : Keep (fun r => r ≠ v) g (hsI g v 23 x) := Keep.I _ _ _ fun r hr => hr
  refine kk _ ⟨by rw [kd_I]; exact a1, by rw [sz_I]; exact a2, by rw [sl_I]; exact a3, a4.tr ⟨cap_I _ _ _ _, scap_I _ _ _ _, cs_I _ _ _ _⟩, fun j => by rw [rv_I]; exact a5 j, fun j => ?_, a7.tr (K.sub fun r hr => Nat.ne_of_lt hr)⟩ K
  rw [iv_I, a6]
  by_cases hj : j = 23 <;> simp [hj]
/-- a reference put into another cell -/
theorem CJ.oR {h g : AH} {v n s R f x kd len : Nat} {φ ρ : Nat → Nat} {ι : Nat → Int32} {z : Int32} (J : CJ h v n s φ z g) (T : Cell R kd len ι ρ g) (hR : v < R) : CJ h v n s φ z (hsR g R f x) ∧ Keep (fun r => r ≠ R) g (hsR g R f x) ∧ Cell R kd len ι (va_up ρ f x) (hsR g R f x) := by
  have K : Keep (fun r => r ≠ R) g (hsR g R f x) := Keep.R _ _ _ fun r hr => hr
  refine ⟨J.ext (K.sub fun r hr => by have hr : r ≤ v := hr; omega) (by rw [sz_R]; exact J.2.1) (by rw [sl_R]; exact J.2.2.1) ⟨cap_R _ _ _ _, scap_R _ _ _ _, cs_R _ _ _ _⟩, K, by rw [kd_R]; exact T.1, by rw [ln_R]; exact T.2.1, fun j => by rw [iv_R]; exact T.2.2.1 j, fun j => ?_⟩
  rw [rv_R, T.2.2.2]
  unfold va_up
  by_cases hj : j = f <;> simp [hj]
theorem CJ.oI {h g : AH} {v n s R f kd len : Nat} {x : Int32} {φ ρ : Nat → Nat} {ι : Nat → Int32} {z : Int32} (J : CJ h v n s φ z g) (T : Cell R kd len ι ρ g) (hR : v < R) : CJ h v n s φ z (hsI g R f x) ∧ Keep (fun r => r ≠ R) g (hsI g R f x) ∧ Cell R kd len (va_up ι f x) ρ (hsI g R f x) := by
  have K : Keep (fun r => r ≠ R) g (hsI g R f x) := Keep.I _ _ _ fun r hr => hr
  refine ⟨J.ext (K.sub fun r hr => by have hr : r ≤ v := hr; omega) (by rw [sz_I]; exact J.2.1) (by rw [sl_I]; exact J.2.2.1) ⟨cap_I _ _ _ _, scap_I _ _ _ _, cs_I _ _ _ _⟩, K, by rw [kd_I]; exact T.1, by rw [ln_I]; exact T.2.1, fun j => ?_, fun j => by rw [rv_I]; exact T.2.2.2 j⟩
  rw [iv_I, T.2.2.1]
  unfold va_up
  by_cases hj : j = f <;> simp [hj]
theorem xsx_some {h : AH} {k : Nat} (hk : k < 19) : (xsx h 10 (hcs h (10 + k))).isSome = true := by
  unfold xsx
  rw [List.find?_isSome]
  exact ⟨k, List.mem_range.mpr hk, by simp⟩
theorem CJ.st {h g : AH} {v n s R i len c : Nat} {φ ρ : Nat → Nat} {ι : Nat → Int32} {z : Int32} {β : Type} {k : AH → Option β} {Q : β → Prop} (J : CJ h v n s φ z g) (T : Cell R 104 len ι ρ g) (hR : v < R) (hi : i < len) (hl : len < 100) (hc : c < 19) (kk : ∀ g', CJ h v n s φ z g' → Keep (fun r => r ≠ R) g g' → Cell R 104 len ι (va_up ρ i (hcs h (10 + c))) g' → wpo (k g') Q) : wpo ((xss g R (I i) (hcs g (10 + c))).bind k) Q := by
  unfold xss
  have e : hcs g = hcs h := J.2.2.2.1.2.2
  obtain ⟨q1, q2, q3⟩ := J.oR (f := i) (x := hcs h (10 + c)) T hR
  rw [wpo_bind, wpo_gd, wpo_some, I_int (by omega), I_nat (by omega), T.1, T.2.1]
  refine ⟨⟨rfl, by omega, by omega, xsx_some hc⟩, ?_⟩
  rw [e]
  exact kk _ q1 q2 q3
