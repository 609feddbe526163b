/-! PL 1: plain Lean over the pure memory: what comes of a walk's function (wpo), loops, numbers -/
set_option maxRecDepth 100000
/-- it answers, and Q holds of the answer -/
def wpo {α : Type} (m : Option α) (Q : α → Prop) : Prop := ∃ a, m = some a ∧ Q a
theorem wpo_some {α : Type} {a : α} {Q : α → Prop} : wpo (some a) Q ↔ Q a := ⟨fun ⟨b, h, q⟩ => by cases h; exact q, fun q => ⟨a, rfl, q⟩⟩
theorem wpo_bind {α β : Type} {m : Option α} {f : α → Option β} {Q : β → Prop} : wpo (m.bind f) Q ↔ wpo m fun a => wpo (f a) Q := by
  constructor
  · rintro ⟨b, h, q⟩
    cases m with
    | none => cases h
    | some a => exact ⟨a, rfl, b, h, q⟩
  · rintro ⟨a, rfl, b, h, q⟩
    exact ⟨b, h, q⟩
theorem wpo_mono {α : Type} {m : Option α} {Q R : α → Prop} (h : wpo m Q) (k : ∀ a, Q a → R a) : wpo m R := by
  obtain ⟨a, e, q⟩ := h
  exact ⟨a, e, k a q⟩
theorem wpo_b2 {α β : Type} {m : Option (β × AH)} {f : β → AH → Option α} {Q : α → Prop} : wpo (xb2 m f) Q ↔ wpo m fun z => wpo (f z.1 z.2) Q := wpo_bind
theorem wpo_b3 {α β : Type} {m : Option ((β ⊕ Nat) × AH)} {f : β → AH → Option α} {fx : Nat → AH → Option α} {Q : α → Prop} : wpo (xb3 m f fx) Q ↔ wpo m fun z => wpo (Sum.elim (fun a => f a z.2) (fun r => fx r z.2) z.1) Q := wpo_bind
theorem wpo_ite {α : Type} {P : Prop} {i : Decidable P} {a b : Option α} {Q : α → Prop} : wpo (@ite _ P i a b) Q ↔ (P → wpo a Q) ∧ (¬ P → wpo b Q) := by
  by_cases h : P
  · rw [if_pos h]
    exact ⟨fun q => ⟨fun _ => q, fun n => absurd h n⟩, fun q => q.1 h⟩
  · rw [if_neg h]
    exact ⟨fun q => ⟨fun n => absurd n h, fun _ => q⟩, fun q => q.2 h⟩
/-- a guard: the rest is stuck -/
theorem wpo_gd {α : Type} {P : Prop} {i : Decidable P} {a : Option α} {Q : α → Prop} : wpo (@ite _ P i a none) Q ↔ P ∧ wpo a Q := by
  by_cases h : P
  · rw [if_pos h]
    exact ⟨fun q => ⟨h, q⟩, fun q => q.2⟩
  · rw [if_neg h]
    exact ⟨fun ⟨a, e, _⟩ => (by cases e), fun q => absurd q.1 h⟩
theorem wpo_gd' {α : Type} {P : Prop} {i : Decidable P} {a : Option α} {Q : α → Prop} : wpo (@ite _ P i none a) Q ↔ ¬ P ∧ wpo a Q := by
  by_cases h : P
  · rw [if_pos h]
    exact ⟨fun ⟨a, e, _⟩ => (by cases e), fun q => absurd h q.1⟩
  · rw [if_neg h]
    exact ⟨fun q => ⟨h, q⟩, fun q => q.2⟩
theorem wpo_gi {h : AH} {r k : Nat} {cs : List Nat} {Q : Int32 → Prop} : wpo (xgi h r cs k) Q ↔ hkd h r ∈ cs ∧ Q (hiv h r k) := by unfold xgi; rw [wpo_gd, wpo_some]
theorem wpo_gj {h : AH} {r k : Nat} {cs : List Nat} {Q : Int64 → Prop} : wpo (xgj h r cs k) Q ↔ hkd h r ∈ cs ∧ Q (hjv h r k) := by unfold xgj; rw [wpo_gd, wpo_some]
theorem wpo_gr {h : AH} {r k : Nat} {cs : List Nat} {Q : Nat → Prop} : wpo (xgr h r cs k) Q ↔ hkd h r ∈ cs ∧ Q (hrv h r k) := by unfold xgr; rw [wpo_gd, wpo_some]
theorem wpo_pi {h : AH} {r k : Nat} {cs : List Nat} {v : Int32} {Q : AH → Prop} : wpo (xpi h r cs k v) Q ↔ hkd h r ∈ cs ∧ Q (hsI h r k v) := by unfold xpi; rw [wpo_gd, wpo_some]
theorem wpo_pz {h : AH} {r k : Nat} {cs : List Nat} {v : Int32} {Q : AH → Prop} : wpo (xpz h r cs k v) Q ↔ (hkd h r ∈ cs ∧ (v = 0 ∨ v = 1)) ∧ Q (hsI h r k v) := by unfold xpz; rw [wpo_gd, wpo_some]
theorem wpo_pj {h : AH} {r k : Nat} {cs : List Nat} {v : Int64} {Q : AH → Prop} : wpo (xpj h r cs k v) Q ↔ hkd h r ∈ cs ∧ Q (hsJ h r k v) := by unfold xpj; rw [wpo_gd, wpo_some]
theorem wpo_pr {h : AH} {r k : Nat} {cs : List Nat} {v : Nat} {Q : AH → Prop} : wpo (xpr h r cs k v) Q ↔ hkd h r ∈ cs ∧ Q (hsR h r k v) := by unfold xpr; rw [wpo_gd, wpo_some]
theorem wpo_ck {β : Type} {h : AH} {r n : Nat} {F : Option β} {Q : β → Prop} : wpo (xck h r n F) Q ↔ hkd h r = n ∧ wpo F Q := by unfold xck; rw [wpo_gd]
theorem wpo_ckm {β : Type} {h : AH} {r : Nat} {ns : List Nat} {F : Option β} {Q : β → Prop} : wpo (xckm h r ns F) Q ↔ hkd h r ∈ ns ∧ wpo F Q := by unfold xckm; rw [wpo_gd]
theorem wpo_ckd {β : Type} {h : AH} {r : Nat} {ns : List Nat} {F : Nat → Option β} {Q : β → Prop} : wpo (xckd h r ns F) Q ↔ hkd h r ∈ ns ∧ wpo (F (hkd h r)) Q := by unfold xckd; rw [wpo_gd]
theorem wpo_new {h : AH} {k w : Nat} {Q : Nat × AH → Prop} : wpo (xnew h k w) Q ↔ (hsz h + 1 ≤ hcap h ∧ hsl h + w ≤ hscap h) ∧ Q (hsz h + 1, hnew h k 0 w) := by unfold xnew; rw [wpo_gd, wpo_some]
/-! numbers: an index is I n -/
abbrev I (n : Nat) : Int32 := Int32.ofNat n
theorem I_add (a b : Nat) : I a + I b = I (a + b) := (Int32.ofNat_add a b).symm
theorem I_mul (a b : Nat) : I a * I b = I (a * b) := (Int32.ofNat_mul a b).symm
theorem I_int {n : Nat} (h : n < 2 ^ 31) : (I n).toInt = n := Int32.toInt_ofNat_of_lt h
theorem I_nat {n : Nat} (h : n < 2 ^ 31) : (I n).toNatClampNeg = n := by
  unfold Int32.toNatClampNeg
  rw [I_int h]
  rfl
theorem I_sub {a b : Nat} (h : b ≤ a) : I a - I b = I (a - b) := by
  have : I (a - b) + I b = I a := by rw [I_add, Nat.sub_add_cancel h]
  rw [← this]
  exact Int32.add_sub_cancel _ _
theorem I_lt {a b : Nat} (ha : a < 2 ^ 31) (hb : b < 2 ^ 31) : I a < I b ↔ a < b := by
  rw [Int32.lt_iff_toInt_lt, I_int ha, I_int hb]
  exact Int.ofNat_lt
theorem I_le {a b : Nat} (ha : a < 2 ^ 31) (hb : b < 2 ^ 31) : I a ≤ I b ↔ a ≤ b := by
  rw [Int32.le_iff_toInt_le, I_int ha, I_int hb]
  exact Int.ofNat_le
theorem I_inj {a b : Nat} (ha : a < 2 ^ 31) (hb : b < 2 ^ 31) : I a = I b ↔ a = b := ⟨fun e => by
  have := congrArg Int32.toInt e
  rw [I_int ha, I_int hb] at this
  exact Int.ofNat.inj this, fun e => by rw [e]⟩
/-- what is not below nought is an I -/
theorem I_of {v : Int32} (h : 0 ≤ v) : ∃ n, v = I n ∧ n < 2 ^ 31 := by
  have h1 : 0 ≤ v.toInt := by
    have := Int32.le_iff_toInt_le.mp h
    simpa using this
  refine ⟨v.toInt.toNat, ?_, ?_⟩
  · apply Int32.toInt_inj.mp
    have h2 := Int32.toInt_lt v
    rw [I_int (by omega)]
    omega
  · have h2 := Int32.toInt_lt v
    omega
theorem wpo_ai {h : AH} {r t n : Nat} {Q : Int32 → Prop} (hn : n < 2 ^ 31) : wpo (xai h r t (I n)) Q ↔ (hkd h r = t ∧ n < hln h r) ∧ Q (hiv h r n) := by
  unfold xai
  rw [wpo_gd, wpo_some, I_int hn, I_nat hn]
  constructor
  · rintro ⟨⟨a, b, c⟩, d⟩
    exact ⟨⟨a, by omega⟩, d⟩
  · rintro ⟨⟨a, b⟩, d⟩
    exact ⟨⟨a, by omega, by omega⟩, d⟩
theorem wpo_aj {h : AH} {r n : Nat} {Q : Int64 → Prop} (hn : n < 2 ^ 31) : wpo (xaj h r (I n)) Q ↔ (hkd h r = 103 ∧ n < hln h r) ∧ Q (hjv h r n) := by
  unfold xaj
  rw [wpo_gd, wpo_some, I_int hn, I_nat hn]
  constructor
  · rintro ⟨⟨a, b, c⟩, d⟩
    exact ⟨⟨a, by omega⟩, d⟩
  · rintro ⟨⟨a, b⟩, d⟩
    exact ⟨⟨a, by omega, by omega⟩, d⟩
theorem wpo_ar {h : AH} {r n : Nat} {ts : List Nat} {Q : Nat → Prop} (hn : n < 2 ^ 31) : wpo (xar h r ts (I n)) Q ↔ (hkd h r ∈ ts ∧ n < hln h r) ∧ Q (hrv h r n) := by
  unfold xar
  rw [wpo_gd, wpo_some, I_int hn, I_nat hn]
  constructor
  · rintro ⟨⟨a, b, c⟩, d⟩
    exact ⟨⟨a, by omega⟩, d⟩
  · rintro ⟨⟨a, b⟩, d⟩
    exact ⟨⟨a, by omega, by omega⟩, d⟩
theorem wpo_si {h : AH} {r n : Nat} {v : Int32} {Q : AH → Prop} (hn : n < 2 ^ 31) : wpo (xsi h r (I n) v) Q ↔ (hkd h r = 100 ∧ n < hln h r) ∧ Q (hsI h r n v) := by
  unfold xsi
  rw [wpo_gd, wpo_some, I_int hn, I_nat hn]
  constructor
  · rintro ⟨⟨a, b, c⟩, d⟩
    exact ⟨⟨a, by omega⟩, d⟩
  · rintro ⟨⟨a, b⟩, d⟩
    exact ⟨⟨a, by omega, by omega⟩, d⟩
theorem wpo_sz {h : AH} {r n : Nat} {v : Int32} {Q : AH → Prop} (hn : n < 2 ^ 31) : wpo (xsz h r (I n) v) Q ↔ (hkd h r = 101 ∧ n < hln h r ∧ (v = 0 ∨ v = 1)) ∧ Q (hsI h r n v) := by
  unfold xsz
  rw [wpo_gd, wpo_some, I_int hn, I_nat hn]
  constructor
  · rintro ⟨⟨a, b, c, e⟩, d⟩
    exact ⟨⟨a, by omega, e⟩, d⟩
  · rintro ⟨⟨a, b, e⟩, d⟩
    exact ⟨⟨a, by omega, by omega, e⟩, d⟩
theorem wpo_sb {h : AH} {r n : Nat} {v : Int32} {Q : AH → Prop} (hn : n < 2 ^ 31) : wpo (xsb h r (I n) v) Q ↔ (hkd h r = 102 ∧ n < hln h r) ∧ Q (hsI h r n v.toInt8.toInt32) := by
  unfold xsb
  rw [wpo_gd, wpo_some, I_int hn, I_nat hn]
  constructor
  · rintro ⟨⟨a, b, c⟩, d⟩
    exact ⟨⟨a, by omega⟩, d⟩
  · rintro ⟨⟨a, b⟩, d⟩
    exact ⟨⟨a, by omega, by omega⟩, d⟩
theorem wpo_sj {h : AH} {r n : Nat} {v : Int64} {Q : AH → Prop} (hn : n < 2 ^ 31) : wpo (xsj h r (I n) v) Q ↔ (hkd h r = 103 ∧ n < hln h r) ∧ Q (hsJ h r n v) := by
  unfold xsj
  rw [wpo_gd, wpo_some, I_int hn, I_nat hn]
  constructor
  · rintro ⟨⟨a, b, c⟩, d⟩
    exact ⟨⟨a, by omega⟩, d⟩
  · rintro ⟨⟨a, b⟩, d⟩
    exact ⟨⟨a, by omega, by omega⟩, d⟩
theorem wpo_sr {h : AH} {r t n v : Nat} {es : List Nat} {Q : AH → Prop} (hn : n < 2 ^ 31) : wpo (xsr h r t es (I n) v) Q ↔ (hkd h r = t ∧ n < hln h r ∧ (v = 0 ∨ hkd h v ∈ es)) ∧ Q (hsR h r n v) := by
  unfold xsr
  rw [wpo_gd, wpo_some, I_int hn, I_nat hn]
  constructor
  · rintro ⟨⟨a, b, c, e⟩, d⟩
    exact ⟨⟨a, by omega, e⟩, d⟩
  · rintro ⟨⟨a, b, e⟩, d⟩
    exact ⟨⟨a, by omega, by omega, e⟩, d⟩
theorem wpo_newa {h : AH} {k n : Nat} {Q : Nat × AH → Prop} (hn : n ≤ 60000) : wpo (xnewa h k (I n)) Q ↔ (hsz h + 1 ≤ hcap h ∧ hsl h + n ≤ hscap h) ∧ Q (hsz h + 1, hnew h k n n) := by
  unfold xnewa
  rw [wpo_gd, wpo_some, I_int (by omega), I_nat (by omega)]
  constructor
  · rintro ⟨⟨a, b, c⟩, d⟩
    exact ⟨c, d⟩
  · rintro ⟨c, d⟩
    exact ⟨⟨by omega, by omega, c⟩, d⟩
/-! loops -/
theorem wpo_loop {σ ρ : Type} {f : σ → Option (σ ⊕ ρ)} {Q : ρ → Prop} {n : Nat} (P : Nat → σ → Prop) (hstep : ∀ k, k < n → ∀ s, P k s → wpo (f s) fun z => Sum.elim (fun s' => P (k + 1) s') Q z) (hend : ∀ s, P n s → wpo (f s) fun z => Sum.elim (fun _ => False) Q z) {s0 : σ} (h0 : P 0 s0) : wpo (xloop f s0) Q := by
  have h : ∀ m k s, k + m = n → P k s → wpo (xloop f s) Q := by
    intro m
    induction m with
    | zero =>
      intro k s hk hp
      rw [xloop_eq]
      rw [show k = n by omega] at hp
      obtain ⟨z, e, q⟩ := hend s hp
      rw [e]
      cases z with
      | inl s' => exact absurd q id
      | inr r => exact ⟨r, rfl, q⟩
    | succ m ih =>
      intro k s hk hp
      rw [xloop_eq]
      obtain ⟨z, e, q⟩ := hstep k (by omega) s hp
      rw [e]
      cases z with
      | inl s' => exact ih (k + 1) s' (by omega) q
      | inr r => exact ⟨r, rfl, q⟩
  exact h n 0 s0 (by omega) h0
/-- a loop whose states are known -/
theorem xloop_for {σ ρ : Type} {f : σ → Option (σ ⊕ ρ)} {n : Nat} {r : ρ} (st : Nat → σ) (hstep : ∀ k, k < n → f (st k) = some (.inl (st (k + 1)))) (hend : f (st n) = some (.inr r)) : xloop f (st 0) = some r := by
  have h : ∀ m k, k + m = n → xloop f (st k) = some r := by
    intro m
    induction m with
    | zero =>
      intro k hk
      rw [xloop_eq, show k = n by omega, hend]
      rfl
    | succ m ih =>
      intro k hk
      rw [xloop_eq, hstep k (by omega)]
      exact ih (k + 1) (by omega)
  exact h n 0 (by omega)
/-! reading after writing -/
theorem iv_I (h : AH) (a k : Nat) (v : Int32) (r j : Nat) : hiv (hsI h a k v) r j = if r = a ∧ j = k then v else hiv h r j := by
  show va_up (hiv h) a (va_up (hiv h a) k v) r j = _
  unfold va_up
  by_cases h1 : r = a
  · subst h1
    by_cases h2 : j = k <;> simp [h2]
  · simp [h1]
theorem jv_J (h : AH) (a k : Nat) (v : Int64) (r j : Nat) : hjv (hsJ h a k v) r j = if r = a ∧ j = k then v else hjv h r j := by
  show va_up (hjv h) a (va_up (hjv h a) k v) r j = _
  unfold va_up
  by_cases h1 : r = a
  · subst h1
    by_cases h2 : j = k <;> simp [h2]
  · simp [h1]
theorem rv_R (h : AH) (a k v : Nat) (r j : Nat) : hrv (hsR h a k v) r j = if r = a ∧ j = k then v else hrv h r j := by
  show va_up (hrv h) a (va_up (hrv h a) k v) r j = _
  unfold va_up
  by_cases h1 : r = a
  · subst h1
    by_cases h2 : j = k <;> simp [h2]
  · simp [h1]
theorem kd_N (h : AH) (k n w r : Nat) : hkd (hnew h k n w) r = if r = hsz h + 1 then k else hkd h r := rfl
theorem ln_N (h : AH) (k n w r : Nat) : hln (hnew h k n w) r = if r = hsz h + 1 then n else hln h r := rfl
theorem iv_N (h : AH) (k n w r j : Nat) : hiv (hnew h k n w) r j = if r = hsz h + 1 then 0 else hiv h r j := by
  show (if r = hsz h + 1 then fun _ => 0 else hiv h r) j = _
  split <;> rfl
theorem jv_N (h : AH) (k n w r j : Nat) : hjv (hnew h k n w) r j = if r = hsz h + 1 then 0 else hjv h r j := by
  show (if r = hsz h + 1 then fun _ => 0 else hjv h r) j = _
  split <;> rfl
theorem rv_N (h : AH) (k n w r j : Nat) : hrv (hnew h k n w) r j = if r = hsz h + 1 then 0 else hrv h r j := by
  show (if r = hsz h + 1 then fun _ => 0 else hrv h r) j = _
  split <;> rfl
/-! what a write leaves as it is -/
theorem sz_I (h : AH) (a k : Nat) (v : Int32) : hsz (hsI h a k v) = hsz h := rfl
theorem sl_I (h : AH) (a k : Nat) (v : Int32) : hsl (hsI h a k v) = hsl h := rfl
theorem cap_I (h : AH) (a k : Nat) (v : Int32) : hcap (hsI h a k v) = hcap h := rfl
theorem scap_I (h : AH) (a k : Nat) (v : Int32) : hscap (hsI h a k v) = hscap h := rfl
theorem kd_I (h : AH) (a k : Nat) (v : Int32) : hkd (hsI h a k v) = hkd h := rfl
theorem ln_I (h : AH) (a k : Nat) (v : Int32) : hln (hsI h a k v) = hln h := rfl
theorem jv_I (h : AH) (a k : Nat) (v : Int32) : hjv (hsI h a k v) = hjv h := rfl
theorem rv_I (h : AH) (a k : Nat) (v : Int32) : hrv (hsI h a k v) = hrv h := rfl
theorem cs_I (h : AH) (a k : Nat) (v : Int32) : hcs (hsI h a k v) = hcs h := rfl
theorem sz_J (h : AH) (a k : Nat) (v : Int64) : hsz (hsJ h a k v) = hsz h := rfl
theorem sl_J (h : AH) (a k : Nat) (v : Int64) : hsl (hsJ h a k v) = hsl h := rfl
theorem cap_J (h : AH) (a k : Nat) (v : Int64) : hcap (hsJ h a k v) = hcap h := rfl
theorem scap_J (h : AH) (a k : Nat) (v : Int64) : hscap (hsJ h a k v) = hscap h := rfl
theorem kd_J (h : AH) (a k : Nat) (v : Int64) : hkd (hsJ h a k v) = hkd h := rfl
theorem ln_J (h : AH) (a k : Nat) (v : Int64) : hln (hsJ h a k v) = hln h := rfl
theorem iv_J (h : AH) (a k : Nat) (v : Int64) : hiv (hsJ h a k v) = hiv h := rfl
theorem rv_J (h : AH) (a k : Nat) (v : Int64) : hrv (hsJ h a k v) = hrv h := rfl
theorem cs_J (h : AH) (a k : Nat) (v : Int64) : hcs (hsJ h a k v) = hcs h := rfl
theorem sz_R (h : AH) (a k v : Nat) : hsz (hsR h a k v) = hsz h := rfl
theorem sl_R (h : AH) (a k v : Nat) : hsl (hsR h a k v) = hsl h := rfl
theorem cap_R (h : AH) (a k v : Nat) : hcap (hsR h a k v) = hcap h := rfl
theorem scap_R (h : AH) (a k v : Nat) : hscap (hsR h a k v) = hscap h := rfl
theorem kd_R (h : AH) (a k v : Nat) : hkd (hsR h a k v) = hkd h := rfl
theorem ln_R (h : AH) (a k v : Nat) : hln (hsR h a k v) = hln h := rfl
theorem iv_R (h : AH) (a k v : Nat) : hiv (hsR h a k v) = hiv h := rfl
theorem jv_R (h : AH) (a k v : Nat) : hjv (hsR h a k v) = hjv h := rfl
theorem cs_R (h : AH) (a k v : Nat) : hcs (hsR h a k v) = hcs h := rfl
theorem sz_N (h : AH) (k n w : Nat) : hsz (hnew h k n w) = hsz h + 1 := rfl
theorem sl_N (h : AH) (k n w : Nat) : hsl (hnew h k n w) = hsl h + w := rfl
theorem cap_N (h : AH) (k n w : Nat) : hcap (hnew h k n w) = hcap h := rfl
theorem scap_N (h : AH) (k n w : Nat) : hscap (hnew h k n w) = hscap h := rfl
theorem cs_N (h : AH) (k n w : Nat) : hcs (hnew h k n w) = hcs h := rfl
