/-! XK 1: the pure memory (typed slots by address), its readers and writers, and loops -/
set_option maxRecDepth 100000
abbrev XV : Type := Int32 ⊕ (Int64 ⊕ Nat)
abbrev xI (n : Int32) : XV := Sum.inl n
abbrev xJ (n : Int64) : XV := Sum.inr (Sum.inl n)
abbrev xR (n : Nat) : XV := Sum.inr (Sum.inr n)
def xo (n : Nat) : Option Nat := match n with
  | 0 => none
  | a + 1 => some a
def xv (v : XV) : Value := match v with
  | .inl n => .int n
  | .inr (.inl n) => .long n
  | .inr (.inr r) => va_rf (xo r)
def xc (v : XV) : Nat := match v with
  | .inl _ => 1
  | .inr (.inl _) => 2
  | .inr (.inr _) => 1
theorem xv_cat (v : XV) : (xv v).category = xc v := by
  rcases v with n | n | n
  · rfl
  · rfl
  · cases n <;> rfl
theorem xv_sum (l : List XV) : ((l.map xv).map fun v => v.category).sum = (l.map xc).sum := by
  rw [List.map_map]
  congr 1
  exact List.map_congr_left fun v _ => xv_cat v
/-- locals: place, typed value -/
abbrev XS : Type := List (Nat × XV)
def xlv (l : XS) : List (Nat × Value) := l.map fun q => (q.1, xv q.2)
def xput (i : Nat) (v : XV) (l : XS) : XS := (i, v) :: l.filter (fun q => !(q.1 == i) && !(q.1 + 1 == i && xc q.2 == 2))
def xputJ (i : Nat) (v : XV) (l : XS) : XS := (i, v) :: l.filter (fun q => !(q.1 == i) && (!(q.1 == i + 1) && !(q.1 + 1 == i && xc q.2 == 2)))
theorem xput_ok (i : Nat) (v : XV) (l : XS) : (i, xv v) :: (xlv l).filter (fun q => !(q.1 == i) && !(q.1 + 1 == i && q.2.category == 2)) = xlv (xput i v l) := by
  unfold xlv xput
  rw [List.filter_map, List.map_cons]
  congr 2
  refine List.filter_congr fun q _ => ?_
  simp only [Function.comp_apply, xv_cat]
theorem xputJ_ok (i : Nat) (v : XV) (l : XS) : (i, xv v) :: (xlv l).filter (fun q => !(q.1 == i) && (!(q.1 == i + 1) && !(q.1 + 1 == i && q.2.category == 2))) = xlv (xputJ i v l) := by
  unfold xlv xputJ
  rw [List.filter_map, List.map_cons]
  congr 2
  refine List.filter_congr fun q _ => ?_
  simp only [Function.comp_apply, xv_cat]
def xpick (l : XS) (ks : List Nat) : XS := ks.filterMap (fun k => l[k]?)
theorem xpick_has {ls : Array Slot} {nL : Nat} {l l' : XS} (h : lv_has ls nL (xlv l)) (ks : List Nat) (hl : xpick l ks = l') : lv_has ls nL (xlv l') := by
  refine ⟨h.1, h.2.1, fun q hq => h.2.2 q ?_⟩
  subst hl
  unfold xlv at hq ⊢
  obtain ⟨q1, hm, rfl⟩ := List.mem_map.mp hq
  obtain ⟨k, -, hk⟩ := List.mem_filterMap.mp hm
  exact List.mem_map.mpr ⟨q1, List.mem_of_getElem? hk, rfl⟩
theorem xat {ls : Array Slot} {nL : Nat} {l : XS} (h : lv_has ls nL (xlv l)) (k : Nat) {i : Nat} {v : XV} (hk : l[k]? = some (i, v)) : ls[i]? = some (.val (xv v)) := by
  refine lv_at h k ?_
  unfold xlv
  rw [List.getElem?_map, hk]
  rfl
/-! the memory: size, slots used, their bounds; kinds, lengths; ints, longs, references, by address + 1 and place; constants -/
abbrev AH : Type := Nat × Nat × Nat × Nat × (Nat → Nat) × (Nat → Nat) × (Nat → Nat → Int32) × (Nat → Nat → Int64) × (Nat → Nat → Nat) × (Nat → Nat)
def hsz (h : AH) : Nat := h.1
def hsl (h : AH) : Nat := h.2.1
def hcap (h : AH) : Nat := h.2.2.1
def hscap (h : AH) : Nat := h.2.2.2.1
def hkd (h : AH) : Nat → Nat := h.2.2.2.2.1
def hln (h : AH) : Nat → Nat := h.2.2.2.2.2.1
def hiv (h : AH) : Nat → Nat → Int32 := h.2.2.2.2.2.2.1
def hjv (h : AH) : Nat → Nat → Int64 := h.2.2.2.2.2.2.2.1
def hrv (h : AH) : Nat → Nat → Nat := h.2.2.2.2.2.2.2.2.1
def hcs (h : AH) : Nat → Nat := h.2.2.2.2.2.2.2.2.2
/-- one place of one row changed -/
def xu {α : Type} (f : Nat → Nat → α) (a k : Nat) (v : α) : Nat → Nat → α := va_up f a (va_up (f a) k v)
def hsI (h : AH) (a k : Nat) (v : Int32) : AH := (h.1, h.2.1, h.2.2.1, h.2.2.2.1, h.2.2.2.2.1, h.2.2.2.2.2.1, xu h.2.2.2.2.2.2.1 a k v, h.2.2.2.2.2.2.2)
def hsJ (h : AH) (a k : Nat) (v : Int64) : AH := (h.1, h.2.1, h.2.2.1, h.2.2.2.1, h.2.2.2.2.1, h.2.2.2.2.2.1, h.2.2.2.2.2.2.1, xu h.2.2.2.2.2.2.2.1 a k v, h.2.2.2.2.2.2.2.2)
def hsR (h : AH) (a k : Nat) (v : Nat) : AH := (h.1, h.2.1, h.2.2.1, h.2.2.2.1, h.2.2.2.2.1, h.2.2.2.2.2.1, h.2.2.2.2.2.2.1, h.2.2.2.2.2.2.2.1, xu h.2.2.2.2.2.2.2.2.1 a k v, h.2.2.2.2.2.2.2.2.2)
/-- a row of ints given anew -/
def hsA (h : AH) (a : Nat) (f : Nat → Int32) : AH := (h.1, h.2.1, h.2.2.1, h.2.2.2.1, h.2.2.2.2.1, h.2.2.2.2.2.1, va_up h.2.2.2.2.2.2.1 a f, h.2.2.2.2.2.2.2)
/-- a cell of kind k, length n, made with w slots, all zero -/
def hnew (h : AH) (k n w : Nat) : AH := (h.1 + 1, h.2.1 + w, h.2.2.1, h.2.2.2.1, va_up h.2.2.2.2.1 (h.1 + 1) k, va_up h.2.2.2.2.2.1 (h.1 + 1) n, va_up h.2.2.2.2.2.2.1 (h.1 + 1) (fun _ => 0), va_up h.2.2.2.2.2.2.2.1 (h.1 + 1) (fun _ => 0), va_up h.2.2.2.2.2.2.2.2.1 (h.1 + 1) (fun _ => 0), h.2.2.2.2.2.2.2.2.2)
def xb (v : Int32) : Prop := v = 0 ∨ v = 1
def xgi (h : AH) (r : Nat) (cs : List Nat) (k : Nat) : Option Int32 := if hkd h r ∈ cs then some (hiv h r k) else none
def xgj (h : AH) (r : Nat) (cs : List Nat) (k : Nat) : Option Int64 := if hkd h r ∈ cs then some (hjv h r k) else none
def xgr (h : AH) (r : Nat) (cs : List Nat) (k : Nat) : Option Nat := if hkd h r ∈ cs then some (hrv h r k) else none
def xpi (h : AH) (r : Nat) (cs : List Nat) (k : Nat) (v : Int32) : Option AH := if hkd h r ∈ cs then some (hsI h r k v) else none
def xpz (h : AH) (r : Nat) (cs : List Nat) (k : Nat) (v : Int32) : Option AH := if hkd h r ∈ cs ∧ (v = 0 ∨ v = 1) then some (hsI h r k v) else none
def xpj (h : AH) (r : Nat) (cs : List Nat) (k : Nat) (v : Int64) : Option AH := if hkd h r ∈ cs then some (hsJ h r k v) else none
def xpr (h : AH) (r : Nat) (cs : List Nat) (k : Nat) (v : Nat) : Option AH := if hkd h r ∈ cs then some (hsR h r k v) else none
/-- arrays: t the kind -/
def xai (h : AH) (r : Nat) (t : Nat) (i : Int32) : Option Int32 := if hkd h r = t ∧ 0 ≤ i.toInt ∧ i.toInt < hln h r then some (hiv h r i.toNatClampNeg) else none
def xaj (h : AH) (r : Nat) (i : Int32) : Option Int64 := if hkd h r = 103 ∧ 0 ≤ i.toInt ∧ i.toInt < hln h r then some (hjv h r i.toNatClampNeg) else none
def xar (h : AH) (r : Nat) (ts : List Nat) (i : Int32) : Option Nat := if hkd h r ∈ ts ∧ 0 ≤ i.toInt ∧ i.toInt < hln h r then some (hrv h r i.toNatClampNeg) else none
def xsi (h : AH) (r : Nat) (i v : Int32) : Option AH := if hkd h r = 100 ∧ 0 ≤ i.toInt ∧ i.toInt < hln h r then some (hsI h r i.toNatClampNeg v) else none
def xsz (h : AH) (r : Nat) (i v : Int32) : Option AH := if hkd h r = 101 ∧ 0 ≤ i.toInt ∧ i.toInt < hln h r ∧ (v = 0 ∨ v = 1) then some (hsI h r i.toNatClampNeg v) else none
def xsb (h : AH) (r : Nat) (i v : Int32) : Option AH := if hkd h r = 102 ∧ 0 ≤ i.toInt ∧ i.toInt < hln h r then some (hsI h r i.toNatClampNeg v.toInt8.toInt32) else none
def xsj (h : AH) (r : Nat) (i : Int32) (v : Int64) : Option AH := if hkd h r = 103 ∧ 0 ≤ i.toInt ∧ i.toInt < hln h r then some (hsJ h r i.toNatClampNeg v) else none
/-- a reference into an array of kind t whose elements are of the kinds es (or null) -/
def xsr (h : AH) (r : Nat) (t : Nat) (es : List Nat) (i : Int32) (v : Nat) : Option AH := if hkd h r = t ∧ 0 ≤ i.toInt ∧ i.toInt < hln h r ∧ (v = 0 ∨ hkd h v ∈ es) then some (hsR h r i.toNatClampNeg v) else none
def xal (h : AH) (r : Nat) (ts : List Nat) : Option Int32 := if hkd h r ∈ ts then some (Int32.ofNat (hln h r)) else none
def xnew (h : AH) (k w : Nat) : Option (Nat × AH) := if hsz h + 1 ≤ hcap h ∧ hsl h + w ≤ hscap h then some (hsz h + 1, hnew h k 0 w) else none
def xnewa (h : AH) (k : Nat) (n : Int32) : Option (Nat × AH) := if 0 ≤ n.toInt ∧ n.toInt ≤ 60000 ∧ hsz h + 1 ≤ hcap h ∧ hsl h + n.toNatClampNeg ≤ hscap h then some (hsz h + 1, hnew h k n.toNatClampNeg n.toNatClampNeg) else none
/-- System.arraycopy of ints (booleans), between two arrays of kind t -/
def xcp (h : AH) (t : Nat) (src : Nat) (sp : Int32) (dst : Nat) (dp n : Int32) : Option AH := if hkd h src = t ∧ hkd h dst = t ∧ 0 ≤ sp.toInt ∧ 0 ≤ dp.toInt ∧ 0 ≤ n.toInt ∧ sp.toInt + n.toInt ≤ hln h src ∧ dp.toInt + n.toInt ≤ hln h dst ∧ (t = 100 ∨ ∀ j : Nat, j < n.toNatClampNeg → hiv h src (sp.toNatClampNeg + j) = 0 ∨ hiv h src (sp.toNatClampNeg + j) = 1) then some (hsA h dst (va_cpy (hiv h src) (hiv h dst) sp.toNatClampNeg dp.toNatClampNeg n.toNatClampNeg)) else none
def xdiv (a b : Int32) : Option Int32 := if b = 0 then none else some (a / b)
def xrem (a b : Int32) : Option Int32 := if b = 0 then none else some (a - a / b * b)
def xb2 {β α : Type} (F : Option (β × AH)) (k : β → AH → Option α) : Option α := F.bind fun z => k z.1 z.2
def xb3 {β α : Type} (F : Option ((β ⊕ Nat) × AH)) (k : β → AH → Option α) (kx : Nat → AH → Option α) : Option α := F.bind fun z => Sum.elim (fun a => k a z.2) (fun r => kx r z.2) z.1
/-! loops -/
def xrun {σ ρ : Type} (f : σ → Option (σ ⊕ ρ)) : Nat → σ → Option ρ
  | 0, _ => none
  | n + 1, s => (f s).bind fun x => match x with
    | .inl s' => xrun f n s'
    | .inr r => some r
theorem xrun_mono {σ ρ : Type} (f : σ → Option (σ ⊕ ρ)) : ∀ (n : Nat) (s : σ) (r : ρ), xrun f n s = some r → xrun f (n + 1) s = some r := by
  intro n
  induction n with
  | zero => intro s r h; exact absurd h (by simp [xrun])
  | succ n ih =>
    intro s r h
    rw [xrun] at h ⊢
    cases hf : f s with
    | none => rw [hf] at h; exact absurd h (by simp)
    | some x =>
      rw [hf] at h
      cases x with
      | inl s' => exact ih s' r h
      | inr r' => exact h
theorem xrun_le {σ ρ : Type} (f : σ → Option (σ ⊕ ρ)) {n m : Nat} (hnm : n ≤ m) {s : σ} {r : ρ} (h : xrun f n s = some r) : xrun f m s = some r := by
  induction hnm with
  | refl => exact h
  | step _ ih => exact xrun_mono f _ _ _ ih
noncomputable def xloop {σ ρ : Type} (f : σ → Option (σ ⊕ ρ)) (s : σ) : Option ρ :=
  haveI := Classical.propDecidable (∃ (r : ρ) (n : Nat), xrun f n s = some r)
  if h : ∃ (r : ρ) (n : Nat), xrun f n s = some r then some (Classical.choose h) else none
theorem xloop_run {σ ρ : Type} {f : σ → Option (σ ⊕ ρ)} {s : σ} {r : ρ} : xloop f s = some r ↔ ∃ n : Nat, xrun f n s = some r := by
  unfold xloop
  constructor
  · intro h
    by_cases hx : ∃ (r : ρ) (n : Nat), xrun f n s = some r
    · rw [dif_pos hx] at h
      rw [← Option.some.inj h]
      exact Classical.choose_spec hx
    · rw [dif_neg hx] at h
      cases h
  · rintro ⟨n, h⟩
    have hx : ∃ (r : ρ) (n : Nat), xrun f n s = some r := ⟨r, n, h⟩
    rw [dif_pos hx]
    obtain ⟨m, hm⟩ := Classical.choose_spec hx
    have h1 := xrun_le f (Nat.le_max_left n m) h
    have h2 := xrun_le f (Nat.le_max_right n m) hm
    rw [h1] at h2
    exact h2.symm
theorem xloop_eq {σ ρ : Type} (f : σ → Option (σ ⊕ ρ)) (s : σ) : xloop f s = (f s).bind fun x => match x with
    | .inl s' => xloop f s'
    | .inr r => some r := by
  apply Option.ext
  intro r
  rw [xloop_run]
  constructor
  · rintro ⟨n, h⟩
    cases n with
    | zero => exact absurd h (by simp [xrun])
    | succ n =>
      rw [xrun] at h
      cases hf : f s with
      | none => rw [hf] at h; exact absurd h (by simp)
      | some x =>
        rw [hf] at h
        cases x with
        | inl s' => exact xloop_run.mpr ⟨n, h⟩
        | inr r' => exact h
  · intro h
    cases hf : f s with
    | none => rw [hf] at h; exact absurd h (by simp)
    | some x =>
      rw [hf] at h
      cases x with
      | inl s' =>
        obtain ⟨n, hn⟩ := xloop_run.mp (show xloop f s' = some r from h)
        exact ⟨n + 1, by rw [xrun, hf]; exact hn⟩
      | inr r' => exact ⟨1, by rw [xrun, hf]; exact h⟩
