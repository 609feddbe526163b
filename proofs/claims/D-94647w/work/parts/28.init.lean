/-! PL 3: what the constructors leave -/
set_option maxRecDepth 100000
/-- cells below v as they were -/
def Old (v : Nat) (h g : AH) : Prop := ∀ r, r < v → hkd g r = hkd h r ∧ hln g r = hln h r ∧ ∀ j, hiv g r j = hiv h r j ∧ hjv g r j = hjv h r j ∧ hrv g r j = hrv h r j
def Caps (h g : AH) : Prop := hcap g = hcap h ∧ hscap g = hscap h ∧ hcs g = hcs h
def MI (h : AH) (v : Nat) (z : Int32) (i : Nat) (g : AH) : Prop := hkd g v = 14 ∧ hsz g = v + i ∧ hsl g = hsl h + ((mlay.take i).map fun q => q.2.2).sum ∧ Caps h g ∧ (∀ j, j < i → hrv g v (mlay.getD j (0, 0, 0)).1 = v + 1 + j ∧ hkd g (v + 1 + j) = (mlay.getD j (0, 0, 0)).2.1 ∧ hln g (v + 1 + j) = (mlay.getD j (0, 0, 0)).2.2) ∧ (∀ r j, v ≤ r → r ≤ v + i → ¬ (r = v ∧ j = 32) → hiv g r j = 0) ∧ (∀ r j, v ≤ r → r ≤ v + i → hjv g r j = 0) ∧ hiv g v 32 = z ∧ Old v h g
theorem mlay_ne : ∀ i, i < 22 → ∀ j, j < 22 → i ≠ j → (mlay.getD i (0, 0, 0)).1 ≠ (mlay.getD j (0, 0, 0)).1 := by decide +kernel
theorem mlay_sum : ∀ i, i < 22 → ((mlay.take (i + 1)).map fun q => q.2.2).sum = ((mlay.take i).map fun q => q.2.2).sum + (mlay.getD i (0, 0, 0)).2.2 := by decide +kernel
theorem MI.step {h g : AH} {v i f kd n : Nat} {z : Int32} (J : MI h v z i g) (hi : i < 22) (he : mlay.getD i (0, 0, 0) = (f, kd, n)) : MI h v z (i + 1) (hsR (hnew g kd n n) v f (hsz g + 1)) := by
  obtain ⟨a1, a2, a3, a4, a5, a6, a7, a8, a9⟩ := J
  have hvn : v ≠ hsz g + 1 := by omega
  have ef : (mlay.getD i (0, 0, 0)).1 = f := by rw [he]
  have ek : (mlay.getD i (0, 0, 0)).2.1 = kd := by rw [he]
  have en : (mlay.getD i (0, 0, 0)).2.2 = n := by rw [he]
  have hne : ∀ j, j < i + 1 → j ≠ i → (mlay.getD j (0, 0, 0)).1 ≠ f := fun j hj hji h => mlay_ne j (Nat.lt_of_lt_of_le hj hi) i hi hji (h.trans ef.symm)
  refine ⟨?_, ?_, ?_, a4, fun j hj => ⟨?_, ?_, ?_⟩, fun r j h1 h2 h3 => ?_, fun r j h1 h2 => ?_, ?_, fun r hr => ⟨?_, ?_, fun j => ⟨?_, ?_, ?_⟩⟩⟩
  · rw [kd_R, kd_N, if_neg hvn]; exact a1
  · rw [sz_R, sz_N]; omega
  · rw [sl_R, sl_N, mlay_sum i hi, en, a3]; exact Nat.add_assoc _ _ _
  · rw [rv_R]
    by_cases hji : j = i
    · subst hji
      rw [if_pos ⟨rfl, ef⟩]; omega
    · rw [if_neg (fun h => hne j hj hji h.2), rv_N, if_neg hvn]
      exact (a5 j (by omega)).1
  · rw [kd_R, kd_N]
    by_cases hji : j = i
    · subst hji
      rw [if_pos (by omega), ek]
    · rw [if_neg (by omega)]; exact (a5 j (by omega)).2.1
  · rw [ln_R, ln_N]
    by_cases hji : j = i
    · subst hji
      rw [if_pos (by omega), en]
    · rw [if_neg (by omega)]; exact (a5 j (by omega)).2.2
  · rw [iv_R, iv_N]
    by_cases hr : r = hsz g + 1
    · rw [if_pos hr]
    · rw [if_neg hr]; exact a6 r j h1 (by omega) h3
  · rw [jv_R, jv_N]
    by_cases hr : r = hsz g + 1
    · rw [if_pos hr]
    · rw [if_neg hr]; exact a7 r j h1 (by omega)
  · rw [iv_R, iv_N, if_neg hvn]; exact a8
  · rw [kd_R, kd_N, if_neg (by omega)]; exact (a9 r hr).1
  · rw [ln_R, ln_N, if_neg (by omega)]; exact (a9 r hr).2.1
  · rw [iv_R, iv_N, if_neg (by omega)]; exact ((a9 r hr).2.2 j).1
  · rw [jv_R, jv_N, if_neg (by omega)]; exact ((a9 r hr).2.2 j).2.1
  · rw [rv_R, if_neg (fun h => by omega), rv_N, if_neg (by omega)]; exact ((a9 r hr).2.2 j).2.2
theorem MI.room {h g : AH} {v i n m : Nat} {z : Int32} (J : MI h v z i g) (h1 : v + 22 ≤ hcap h) (h2 : hsl h + m ≤ hscap h) (hi : i < 22) (hm : ((mlay.take i).map fun q => q.2.2).sum + n ≤ m) : hsz g + 1 ≤ hcap g ∧ hsl g + n ≤ hscap g := by
  obtain ⟨a1, a2, a3, ⟨a4, a5, a6⟩, -⟩ := J
  rw [a4, a5, a2, a3]
  omega
theorem MI.put {h g : AH} {v i : Nat} {z z1 : Int32} (J : MI h v z i g) : MI h v z1 i (hsI g v 32 z1) := by
  obtain ⟨a1, a2, a3, a4, a5, a6, a7, a8, a9⟩ := J
  refine ⟨a1, a2, a3, a4, a5, fun r j h1 h2 h3 => ?_, a7, ?_, fun r hr => ⟨(a9 r hr).1, (a9 r hr).2.1, fun j => ⟨?_, ((a9 r hr).2.2 j).2.1, ((a9 r hr).2.2 j).2.2⟩⟩⟩
  · rw [iv_I, if_neg h3]; exact a6 r j h1 h2 h3
  · rw [iv_I, if_pos ⟨rfl, rfl⟩]
  · rw [iv_I, if_neg (fun h => by omega)]; exact ((a9 r hr).2.2 j).1
theorem MI.alloc {h g : AH} {v i f kd n m : Nat} {z : Int32} {β : Type} {k : AH → Option β} {Q : β → Prop} (J : MI h v z i g) (h1 : v + 22 ≤ hcap h) (h2 : hsl h + m ≤ hscap h) (hi : i < 22) (he : mlay.getD i (0, 0, 0) = (f, kd, n)) (hn : n ≤ 60000) (hm : ((mlay.take i).map fun q => q.2.2).sum + n ≤ m) (kk : ∀ g', MI h v z (i + 1) g' → wpo (k g') Q) : wpo (xb2 (xnewa g kd (I n)) fun x g1 => (xpr g1 v [14] f x).bind k) Q := by
  rw [wpo_b2, wpo_newa hn]
  refine ⟨J.room h1 h2 hi hm, ?_⟩
  have J1 := J.step hi he
  rw [wpo_bind, wpo_pr]
  refine ⟨?_, kk _ J1⟩
  rw [show hkd (hnew g kd n n) v = 14 from J1.1]
  decide
theorem m_init {h : AH} {v : Nat} (hv : v ≠ 0) (J : MI h v 0 0 h) (h1 : v + 22 ≤ hcap h) (h2 : hsl h + 99201 ≤ hscap h) : wpo (fM_init v h) fun z => MI h v (-1) 22 z.2 := by
  unfold fM_init
  rw [if_neg hv]
  refine J.alloc (n := 740) h1 h2 (by decide) rfl (Nat.le_of_ble_eq_true rfl) (by decide +kernel) fun g J => ?_
  refine J.alloc (n := 8140) h1 h2 (by decide) rfl (Nat.le_of_ble_eq_true rfl) (by decide +kernel) fun g J => ?_
  refine J.alloc (n := 108) h1 h2 (by decide) rfl (Nat.le_of_ble_eq_true rfl) (by decide +kernel) fun g J => ?_
  refine J.alloc (n := 16280) h1 h2 (by decide) rfl (Nat.le_of_ble_eq_true rfl) (by decide +kernel) fun g J => ?_
  refine J.alloc (n := 47400) h1 h2 (by decide) rfl (Nat.le_of_ble_eq_true rfl) (by decide +kernel) fun g J => ?_
  refine J.alloc (n := 12) h1 h2 (by decide) rfl (Nat.le_of_ble_eq_true rfl) (by decide +kernel) fun g J => ?_
  refine J.alloc (n := 12) h1 h2 (by decide) rfl (Nat.le_of_ble_eq_true rfl) (by decide +kernel) fun g J => ?_
  refine J.alloc (n := 24) h1 h2 (by decide) rfl (Nat.le_of_ble_eq_true rfl) (by decide +kernel) fun g J => ?_
  refine J.alloc (n := 2) h1 h2 (by decide) rfl (Nat.le_of_ble_eq_true rfl) (by decide +kernel) fun g J => ?_
  refine J.alloc (n := 40) h1 h2 (by decide) rfl (Nat.le_of_ble_eq_true rfl) (by decide +kernel) fun g J => ?_
  refine J.alloc (n := 12) h1 h2 (by decide) rfl (Nat.le_of_ble_eq_true rfl) (by decide +kernel) fun g J => ?_
  refine J.alloc (n := 72) h1 h2 (by decide) rfl (Nat.le_of_ble_eq_true rfl) (by decide +kernel) fun g J => ?_
  refine J.alloc (n := 26013) h1 h2 (by decide) rfl (Nat.le_of_ble_eq_true rfl) (by decide +kernel) fun g J => ?_
  refine J.alloc (n := 40) h1 h2 (by decide) rfl (Nat.le_of_ble_eq_true rfl) (by decide +kernel) fun g J => ?_
  refine J.alloc (n := 12) h1 h2 (by decide) rfl (Nat.le_of_ble_eq_true rfl) (by decide +kernel) fun g J => ?_
  rw [wpo_bind, wpo_pi]; refine ⟨by rw [J.1]; decide, ?_⟩
  have J := J.put (z1 := -1)
  refine J.alloc (n := 9) h1 h2 (by decide) rfl (Nat.le_of_ble_eq_true rfl) (by decide +kernel) fun g J => ?_
  refine J.alloc (n := 9) h1 h2 (by decide) rfl (Nat.le_of_ble_eq_true rfl) (by decide +kernel) fun g J => ?_
  refine J.alloc (n := 9) h1 h2 (by decide) rfl (Nat.le_of_ble_eq_true rfl) (by decide +kernel) fun g J => ?_
  refine J.alloc (n := 9) h1 h2 (by decide) rfl (Nat.le_of_ble_eq_true rfl) (by decide +kernel) fun g J => ?_
  refine J.alloc (n := 9) h1 h2 (by decide) rfl (Nat.le_of_ble_eq_true rfl) (by decide +kernel) fun g J => ?_
  refine J.alloc (n := 9) h1 h2 (by decide) rfl (Nat.le_of_ble_eq_true rfl) (by decide +kernel) fun g J => ?_
  refine J.alloc (n := 240) h1 h2 (by decide) rfl (Nat.le_of_ble_eq_true rfl) (by decide +kernel) fun g J => ?_
  exact wpo_some.mpr J
