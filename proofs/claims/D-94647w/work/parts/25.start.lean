/-! XK 14: the law's start: what the machine's words give; what is owed beyond it is plain (XPure) -/
set_option maxRecDepth 100000
theorem xch {α : Type} (d : α) {n : Nat} {P : Nat → α → Prop} (h : ∀ c, c < n → ∃ x, P c x) : ∃ f : Nat → α, ∀ c, c < n → P c (f c) := by
  have h0 : ∀ c, ∃ x, c < n → P c x := fun c => by
    by_cases hc : c < n
    · obtain ⟨x, hx⟩ := h c hc
      exact ⟨x, fun _ => hx⟩
    · exact ⟨d, fun h => absurd h hc⟩
  exact Classical.axiomOfChoice h0
def xw9 (c : Nat) : Nat := match c with
  | 1 => 29 | 2 => 8 | 3 => 31 | 4 => 9 | 5 => 11 | 6 => 12 | 7 => 4 | 8 => 3 | 9 => 1 | 10 => 2 | 11 => 3 | 12 => 2 | 13 => 2 | 14 => 47 | _ => 6
theorem xinst : ∀ c, c < 17 → Cond.instantiable (xRn c) (xw9 c) ∈ lw_all
  | 0, _ => q1250 | 1, _ => q124 | 2, _ => q132 | 3, _ => q222 | 4, _ => q228 | 5, _ => q421 | 6, _ => q472 | 7, _ => q744 | 8, _ => q807 | 9, _ => q1116 | 10, _ => q1132 | 11, _ => q1148 | 12, _ => q1165 | 13, _ => q1179 | 14, _ => q1306 | 15, _ => q1250 | 16, _ => q1250
  | n + 17, h => absurd h (by omega)
theorem xarr_p {args : Array Value} {s : State} {ty : FieldType} (h : (Cond.arrayClass ty).before args s = true) (hr : ∀ cA, s.vm.findClass ("[" ++ ty.toString) = some cA → va_RA s cA ty) : ∃ cA : ClassId, ArrOfT s cA ty ∧ va_RA s cA ty := by
  obtain ⟨c, k, comp, h1, h2, h3⟩ := Cond.arrayClass_spec h
  exact ⟨c, fun n z => ⟨(fun k h => by cases h), k, h2, comp, h3⟩, hr c h1⟩
theorem xarr_o {args : Array Value} {s : State} {C : String} (h : (Cond.arrayOver (.object C)).before args s = true) : ∃ cA : ClassId, ArrOfT s cA (.object C) ∧ va_RA s cA (.object C) := by
  obtain ⟨comp, c, k, h1, -, h2, h3, h4⟩ := Cond.arrayOver_spec h
  exact ⟨c, fun n z => ⟨(fun k h => by cases h), k, h2, comp, h3⟩, k, comp, h2, h3, h1, h4⟩
theorem xkk_start {args : Array Value} {s : State} (hts : ∀ w ∈ lw_tbl, w.before args s = true) : ∃ D : XD, XKK D s := by
  have h1 : ∀ c, c < 17 → ∃ x : ClassId × (Nat → Nat), u_Kn s (xRn c) (xT c) (xN c) x.1 x.2 := fun c hc => by
    obtain ⟨cC, iS, h⟩ := u_known (n := xw9 c) hts (fun w h => lw_all_tbl (xcl_in c hc w h)) (hts _ (lw_all_tbl (xinst c hc)))
    exact ⟨(cC, iS), h⟩
  have h2 : ∀ k, k < 9 → ∃ cA : ClassId, ArrOfT s cA (xat_ (100 + k)) ∧ va_RA s cA (xat_ (100 + k))
    | 0, _ => xarr_p (hts _ (lw_all_tbl q417)) fun _ h => h
    | 1, _ => xarr_p (hts _ (lw_all_tbl q418)) fun _ h => h
    | 2, _ => xarr_p (hts _ (lw_all_tbl q199)) fun _ h => h
    | 3, _ => xarr_p (hts _ (lw_all_tbl q1454)) fun _ h => h
    | 4, _ => xarr_o (hts _ q201)
    | 5, _ => xarr_o (hts _ q234)
    | 6, _ => xarr_o (hts _ q236)
    | 7, _ => xarr_o (hts _ q419)
    | 8, _ => xarr_o (hts _ q508)
    | n + 9, h => absurd h (by omega)
  obtain ⟨f, hf⟩ := xch ((0 : Nat), fun _ => (0 : Nat)) h1
  obtain ⟨g, hg⟩ := xch (0 : Nat) h2
  refine ⟨(fun c => (f c).1, fun c => (f c).2, fun k => g (k - 100)), ⟨fun c q hq => ?_, fun k q hk => ?_⟩, fun w hw hn => ?_⟩
  · obtain ⟨hc, rfl⟩ := xcl_at' hq
    exact hf c hc
  · have hk9 : k < 9 := by
      have := (List.getElem?_eq_some_iff.mp hk).1
      simpa [xtys] using this
    have h9 := xtys_at (fun c => (f c).1, fun c => (f c).2, fun k => g (k - 100)) (k := 100 + k) (by omega) (by omega)
    rw [show 100 + k - 100 = k by omega] at h9
    cases Option.some.inj (h9.symm.trans hk)
    have h8 := hg k hk9
    show ArrOfT s (g (100 + k - 100)) _ ∧ va_RA s (g (100 + k - 100)) _
    rw [show 100 + k - 100 = k by omega]
    exact h8
  · have h0 := hts w hw
    unfold xnw at hn
    split at hn
    · exact va_Nw.of rfl h0
    · exact va_Nw.of rfl h0
    · exact va_Nw.of rfl h0
    · exact va_Nw.of rfl h0
    · exact va_Nw.of rfl h0
    · exact va_AO.of h0
    · exact absurd hn (by decide)
/-! the Strings -/
abbrev xgv : List Cond := flatC (Jvm.Cond.and given_1 narrow_1)
def xsidx : List Nat := [22, 24, 26, 28, 30, 32, 34, 40, 42, 44, 46, 48, 50, 52, 54, 56, 58, 60, 62]
def xstm (i : Nat) : Term := Term.string "FaceCoins" (xsidx.getD i 0)
theorem xgv_all {n : Nat} {f : Nat → Cond} (h : (List.range n).all (fun i => xgv.contains (f i)) = true) : ∀ i, i < n → f i ∈ xgv := fun i hi => List.contains_iff_mem.mp (List.all_eq_true.mp h i (List.mem_range.mpr hi))
theorem xsw1 : ∀ i, i < 19 → Cond.exactly (xstm i) "java/lang/String" ∈ xgv := xgv_all (by decide +kernel)
theorem xsw2 : ∀ i, i < 19 → Cond.eq (.field (xstm i) "java/lang/String" "coder" "B") (.int 0) ∈ xgv := xgv_all (by decide +kernel)
theorem xsw3 : ∀ i, i < 19 → Cond.arrayOf (.field (xstm i) "java/lang/String" "value" "[B") .byte ∈ xgv := xgv_all (by decide +kernel)
theorem xsw4 : ∀ i, i < 19 → Cond.eq (.length (.field (xstm i) "java/lang/String" "value" "[B")) (.int (Int32.ofNat (xslen.getD i 0))) ∈ xgv := xgv_all (by decide +kernel)
theorem xsw5 : ∀ i, i < 19 → ∀ j, j < xslen.getD i 0 → Cond.eq (.elem (.field (xstm i) "java/lang/String" "value" "[B") (.int (Int32.ofNat j))) (.int ((xsbyt.getD i []).getD j 0)) ∈ xgv := by
  have h : (List.range 19).all (fun i => (List.range (xslen.getD i 0)).all fun j => xgv.contains (Cond.eq (.elem (.field (xstm i) "java/lang/String" "value" "[B") (.int (Int32.ofNat j))) (.int ((xsbyt.getD i []).getD j 0)))) = true := by decide +kernel
  intro i hi j hj
  exact List.contains_iff_mem.mp (List.all_eq_true.mp (List.all_eq_true.mp h i (List.mem_range.mpr hi)) j (List.mem_range.mpr hj))
theorem xs_apart : ∀ i, i < 19 → ∀ j, j < 19 → i ≠ j → xslen.getD i 0 ≠ xslen.getD j 0 ∨ ∃ k, k < 6 ∧ k < xslen.getD i 0 ∧ (xsbyt.getD i []).getD k 0 ≠ (xsbyt.getD j []).getD k 0 := by decide +kernel
theorem xs_small : ∀ i, i < 19 → xslen.getD i 0 < 7 := by decide +kernel
theorem xs_start {args : Array Value} {s : State} {A : Nat → Prop} (hw : ∀ w ∈ xgv, w.before args s = true) (hA : ∀ a : Nat, a < s.heap.size → ¬ A a) : ∃ adK adV : Nat → Nat, vk_S xsN xslen xsbyt adK adV A s s.heap ∧ (∀ i, i < 19 → (xstm i).eval args s none [] s = some (.ref (adK i))) ∧ ∀ i j, i < 19 → j < 19 → adV i = adV j → i = j := by
  have h0 : ∀ i, i < 19 → ∃ q : Nat × Nat, (xstm i).eval args s none [] s = some (.ref q.1) ∧ va_O "java/lang/String" q.1 A s s.heap ∧ va_OF "java/lang/String" "coder" "B" (.int 0) q.1 A s s.heap ∧ va_OF "java/lang/String" "value" "[B" (.ref q.2) q.1 A s s.heap ∧ va_T .byte q.2 (xslen.getD i 0) (fun j => .int ((xsbyt.getD i []).getD j 0)) A s s.heap := by
    intro i hi
    obtain ⟨a, c, cA, kA, q1, q2, q3, q4, q5, q6, -⟩ := Cond.exactly_spec (args := args) (first := s) (o := none) (s := s) (idx := []) (t := xstm i) (cls := "java/lang/String") (hw _ (xsw1 i hi))
    obtain ⟨t, ht, hT⟩ := va_Tof (f := fun j => .int ((xsbyt.getD i []).getD j 0)) (A := A) (Nat.lt_trans (xs_small i hi) (by decide)) (hw _ (xsw3 i hi)) (va_eqt (hw _ (xsw4 i hi))) (fun j hj => va_eqt (hw _ (xsw5 i hi j hj))) hA
    exact ⟨(a, t), q1, ⟨cA, q3, q5, by rw [q6]; exact q2, hA a (Array.getElem?_eq_some_iff.mp q3).1⟩, vk_OFof q1 (va_eqt (hw _ (xsw2 i hi))) hA, vk_OFof q1 ht hA, hT⟩
  obtain ⟨ad, had⟩ := xch ((0 : Nat), (0 : Nat)) h0
  have hV : ∀ i j, i < 19 → j < 19 → (ad i).2 = (ad j).2 → i = j := by
    intro i j hi hj e
    by_cases hij : i = j
    · exact hij
    · exfalso
      obtain ⟨c1, a1, a2, a3, a4, a5, a6, a7⟩ := (had i hi).2.2.2.2
      obtain ⟨c2, b1, b2, b3, b4, b5, b6, b7⟩ := (had j hj).2.2.2.2
      rw [e] at a1
      cases Option.some.inj (a1.symm.trans b1)
      have hl : xslen.getD i 0 = xslen.getD j 0 := by
        have h1 := congrArg Int32.toInt (a5.symm.trans b5)
        have h2 := xs_small i hi
        have h3 := xs_small j hj
        rw [Int32.toInt_ofNat_of_lt (by omega), Int32.toInt_ofNat_of_lt (by omega)] at h1
        omega
      rcases xs_apart i hi j hj hij with h | ⟨k, -, hk, hne⟩
      · exact h hl
      · have h1 := a6 k hk
        have h2 := b6 k (by omega)
        exact hne (Value.int.inj (Option.some.inj (h1.symm.trans h2)))
  refine ⟨fun i => (ad i).1, fun i => (ad i).2, ⟨fun i hi => (had i hi).2, fun i j hi hj e => ?_⟩, fun i hi => (had i hi).1, hV⟩
  refine hV i j hi hj ?_
  obtain ⟨cf, k, fi, f, cell, a1, a2, a3, a4, a5, a6⟩ := (had i hi).2.2.2.1
  obtain ⟨cf', k', fi', f', cell', b1, b2, b3, b4, b5, b6⟩ := (had j hj).2.2.2.1
  cases Option.some.inj (a1.symm.trans b1)
  have e : (ad i).1 = (ad j).1 := e
  rw [e] at a3
  cases Option.some.inj (a3.symm.trans b3)
  exact Value.ref.inj (Option.some.inj (a5.symm.trans b5))
theorem xeq_ref {args : Array Value} {s : State} {t u : Term} {a : Nat} (h : (Cond.eq t u).before args s = true) (ht : t.eval args s none [] s = some (.ref a)) : u.eval args s none [] s = some (.ref a) := by
  cases hv : u.eval args s none [] s with
  | none => simp [Cond.before, Cond.holds, Cond.value, ht, hv] at h
  | some w =>
    simp only [Cond.before, Cond.holds, Cond.value, hv, ht] at h
    cases w <;> simp_all
/-- each constant in its class's pool: FaceCoins's own, or the same object by a word of the start -/
theorem xsw6 : ∀ q ∈ xsrefs, (Cond.stringRef q.1 q.2.1 q.2.2.1 ∈ lw_tbl) ∧ q.2.2.2 < 19 ∧ ((q.1 = "FaceCoins" ∧ q.2.1 = xsidx.getD q.2.2.2 0) ∨ Cond.eq (xstm q.2.2.2) (Term.string q.1 q.2.1) ∈ xgv) := by
  have h : xsrefs.all (fun q => lw_tbl.contains (Cond.stringRef q.1 q.2.1 q.2.2.1) && (decide (q.2.2.2 < 19) && (decide (q.1 = "FaceCoins" ∧ q.2.1 = xsidx.getD q.2.2.2 0) || xgv.contains (Cond.eq (xstm q.2.2.2) (Term.string q.1 q.2.1))))) = true := by decide +kernel
  intro q hq
  have h1 := List.all_eq_true.mp h q hq
  simp only [Bool.and_eq_true, Bool.or_eq_true, decide_eq_true_eq] at h1
  obtain ⟨a1, a3, a4⟩ := h1
  exact ⟨List.contains_iff_mem.mp a1, a3, a4.imp id fun h => List.contains_iff_mem.mp h⟩
/-! the plain law, as it is owed -/
def xh0 (sz : Nat) (cs : Nat → Nat) : AH := (sz, 0, sz + 208280, 8471264, fun _ => 0, fun _ => 0, fun _ _ => 0, fun _ _ => 0, fun _ _ => 0, cs)
/-- of the constants: the Strings and their arrays are there, and apart; the script is there, and short -/
def XCs (cs : Nat → Nat) : Prop := (∀ i, i < 19 → cs (10 + i) ≠ 0 ∧ cs (50 + i) ≠ 0) ∧ (∀ i j, i < 19 → j < 19 → cs (10 + i) = cs (10 + j) → i = j) ∧ (∀ i j, i < 19 → j < 19 → cs (50 + i) = cs (50 + j) → i = j) ∧ cs 90 ≠ 0 ∧ cs 91 ≤ 384
def XPure : Prop := ∀ (sz : Nat) (cs : Nat → Nat), XCs cs → ∃ h1 : AH, fL_law (cs 90) (xh0 sz cs) = some (1, h1)
def xcs (st adK adV : Nat → Nat) (b L : Nat) (xs : Nat → Int32) : Nat → Nat := fun k => if k < 3 then st k else if k < 10 then 0 else if k < 29 then adK (k - 10) + 1 else if k < 50 then 0 else if k < 69 then adV (k - 50) + 1 else if k = 90 then b + 1 else if k = 91 then L else if 100 ≤ k then (xs (k - 100)).toUInt32.toNat else 0
theorem xcs_s {st adK adV : Nat → Nat} {b L : Nat} {xs : Nat → Int32} {k : Nat} (h : k < 3) : xcs st adK adV b L xs k = st k := if_pos h
theorem xcs_K {st adK adV : Nat → Nat} {b L : Nat} {xs : Nat → Int32} {i : Nat} (h : i < 19) : xcs st adK adV b L xs (10 + i) = adK i + 1 := by
  unfold xcs
  rw [if_neg (by omega), if_neg (by omega), if_pos (by omega), show 10 + i - 10 = i by omega]
theorem xcs_V {st adK adV : Nat → Nat} {b L : Nat} {xs : Nat → Int32} {i : Nat} (h : i < 19) : xcs st adK adV b L xs (50 + i) = adV i + 1 := by
  unfold xcs
  rw [if_neg (by omega), if_neg (by omega), if_neg (by omega), if_neg (by omega), if_pos (by omega), show 50 + i - 50 = i by omega]
theorem xcs_x {st adK adV : Nat → Nat} {b L : Nat} {xs : Nat → Int32} (j : Nat) : xcs st adK adV b L xs (100 + j) = (xs j).toUInt32.toNat := by
  unfold xcs
  rw [if_neg (by omega), if_neg (by omega), if_neg (by omega), if_neg (by omega), if_neg (by omega), if_neg (by omega), if_neg (by omega), if_pos (by omega), show 100 + j - 100 = j by omega]
theorem xnat (x : Int32) : Int32.ofNat x.toUInt32.toNat = x := by
  show Int32.ofUInt32 (UInt32.ofNat x.toUInt32.toNat) = x
  rw [UInt32.ofNat_toNat]
theorem xstat {args : Array Value} {s : State} (hts : ∀ w ∈ lw_tbl, w.before args s = true) (hw : ∀ w ∈ xgv, w.before args s = true) {A : Nat → Prop} (hA : ∀ a : Nat, a < s.heap.size → ¬ A a) : ∀ k, k < 3 → vx_Zq (xsg k).1 (xsg k).2.1 (xsg k).2.2 A s s.heap
  | 0, _ => vx_Zqof (hts _ q156) (hts _ (lw_all_tbl q97)) (hw _ (by decide +kernel)) hA
  | 1, _ => vx_Zqof (hts _ q158) (hts _ (lw_all_tbl q97)) (hw _ (by decide +kernel)) hA
  | 2, _ => vx_Zqof (hts _ q697) (hts _ (lw_all_tbl q108)) (hw _ (by decide +kernel)) hA
  | n + 3, h => absurd h (by omega)
theorem xzq_rf {C n d : String} {A : Nat → Prop} {U : State} {H : Heap} (h : va_Zq C n d A U H) : ∃ x : Nat, va_Z C n d (va_rf (xo x)) A U H := by
  rcases h with h | ⟨t, h⟩
  · exact ⟨0, h⟩
  · exact ⟨t + 1, h⟩
theorem whole_of (hp : XPure) {p : Program} {e : Env} {s : State} {m : MethodId} {below : List Frame} {meth : Method} {c : Code} (l : Launch) (hflags : l.flags = flags0) {b L : Nat} {xs : Nat → Int32} (hL : L ≤ 384) (C0 : lw_At p s m meth c b L xs) : W p l e room_1 s m #[Value.ref b] below meth c s.heap [] 0 0 (lw_Z below #[Value.ref b] s) (entryFrame m ([Value.ref b] : List Value).toArray 7) := by
  obtain ⟨hexec, hcode, hret, hml, hown, hts, hX, hbl, hlocks, hgv⟩ := C0
  have hw : ∀ w ∈ xgv, w.before #[Value.ref b] s = true := flat_of_before _ hgv
  have hl : l.stackTraces = false := by
    unfold Launch.stackTraces
    rw [hflags]
    decide +kernel
  obtain ⟨D, hKK⟩ := xkk_start hts
  have hA : ∀ a : Nat, a < s.heap.size → ¬ (fun q => s.heap.size ≤ q) a := fun a h1 h2 => absurd h1 (Nat.not_lt.mpr h2)
  obtain ⟨adK, adV, hS, hev, hV⟩ := xs_start hw hA
  have hst := xstat hts hw hA
  obtain ⟨st, hst0⟩ := xch (0 : Nat) (fun k hk => xzq_rf (hst k hk).1)
  obtain ⟨cs, hcsd⟩ : ∃ cs, cs = xcs st adK adV b L xs := ⟨_, rfl⟩
  obtain ⟨h0, hh0⟩ : ∃ h0, h0 = xh0 s.heap.size cs := ⟨_, rfl⟩
  have e0 : hcs h0 = cs := by rw [hh0]; rfl
  have e90 : cs 90 = b + 1 := by rw [hcsd]; rfl
  have e91 : cs 91 = L := by rw [hcsd]; rfl
  have hXA : ∀ q, XAr h0 q ↔ s.heap.size ≤ q := fun q => by
    rw [hh0]
    exact ⟨fun h => h.elim (fun z => absurd rfl z) id, Or.inr⟩
  have hXA' : XAr h0 = fun q => s.heap.size ≤ q := funext fun q => propext (hXA q)
  have eK : ∀ i, i < 19 → hcs h0 (10 + i) - 1 = adK i := fun i hi => by rw [e0, hcsd, xcs_K hi]; rfl
  have eV : ∀ i, i < 19 → hcs h0 (50 + i) - 1 = adV i := fun i hi => by rw [e0, hcsd, xcs_V hi]; rfl
  have hEnv : XEnv h0 (XAr h0) s s.heap := by
    rw [hXA']
    refine ⟨fun k hk => by rw [e0, hcsd, xcs_s hk]; exact hst0 k hk, va_Zof (hts _ q681) (hts _ (lw_all_tbl q106)) (va_eqt (hw _ (by decide +kernel))) hA, fun k hk => (hst k (Nat.lt_trans hk (by decide))).2, ⟨fun i hi => ?_, fun i j hi hj e => ?_⟩, fun i hi => ?_, fun q hq => ?_⟩
    · show va_O _ (hcs h0 (10 + i) - 1) _ _ _ ∧ va_OF _ _ _ _ (hcs h0 (10 + i) - 1) _ _ _ ∧ va_OF _ _ _ (.ref (hcs h0 (50 + i) - 1)) (hcs h0 (10 + i) - 1) _ _ _ ∧ va_T _ (hcs h0 (50 + i) - 1) _ _ _ _ _
      rw [eK i hi, eV i hi]
      exact hS.1 i hi
    · have e : hcs h0 (10 + i) - 1 = hcs h0 (10 + j) - 1 := e
      rw [eK i hi, eK j hj] at e
      exact hS.2 i j hi hj e
    · rw [e0, hcsd, xcs_K hi, xcs_V hi]
      exact ⟨Nat.succ_ne_zero _, Nat.succ_ne_zero _⟩
    · obtain ⟨a1, a2, a3⟩ := xsw6 q hq
      refine vk_R.of (hts _ a1) ?_
      rw [eK _ a2]
      rcases a3 with ⟨b1, b2⟩ | h
      · rw [b1, b2]
        exact hev _ a2
      · exact xeq_ref (hw _ h) (hev _ a2)
  have hC : XCs cs := by
    refine ⟨fun i hi => ?_, fun i j hi hj e => ?_, fun i j hi hj e => ?_, by rw [e90]; exact Nat.succ_ne_zero _, by rw [e91]; exact hL⟩
    · rw [hcsd, xcs_K hi, xcs_V hi]
      exact ⟨Nat.succ_ne_zero _, Nat.succ_ne_zero _⟩
    · rw [hcsd, xcs_K hi, xcs_K hj] at e
      exact hS.2 i j hi hj (Nat.succ.inj e)
    · rw [hcsd, xcs_V hi, xcs_V hj] at e
      exact hV i j hi hj (Nat.succ.inj e)
  obtain ⟨h1, hF⟩ := hp s.heap.size cs hC
  rw [← hh0, e90] at hF
  have hs9 : XScr h0 s := by
    refine ⟨b, by rw [e0]; exact e90, ?_, hbl, fun h => absurd hbl (Nat.not_lt.mpr ((hXA b).mp h))⟩
    rw [e0, e91]
    have : (fun j => Int32.ofNat (cs (100 + j))) = xs := funext fun j => by rw [hcsd, xcs_x, xnat]
    rw [this]
    exact hX
  have K : XO p room_1 s m #[Value.ref b] meth c D 7 h0 cL_law "FaceCoinsLaw" 8192 100000 := by
    refine ⟨hexec, hcode, hml, hown, fun w h => hts w (lw_all_tbl h), hKK, ?_, hlocks, hEnv⟩
    rw [hh0]
    show room_1 = { frames := 8192, cells := s.heap.size + 208280 - s.heap.size, slots := 8471264 - 0, locals := 100000 }
    rw [Nat.add_sub_cancel_left]
    rfl
  have hb9 : XLawEnd room_1 meth #[Value.ref b] s h0 := ⟨rfl, hret, ⟨b, rfl⟩, fun q h => (hXA q).mp h, by rw [hh0]; show s.heap.size + 208280 - s.heap.size ≤ 208280; omega, by rw [hh0]; show 8471264 - 0 ≤ 8471264; omega⟩
  obtain ⟨ls, e1, e2⟩ := x_entry (m := m) (As := [xR (b + 1)]) (nL := 7) (Nat.le_of_ble_eq_true rfl)
  have hi : XI D h0 h0 s.heap s.heap [] := by
    refine ⟨⟨fun a e9 he => ?_, by rw [hh0]; rfl⟩, by rw [hh0]; rfl, va_S.rf, ⟨fun q hq => Or.inl hq, Nat.le_refl _, Nat.le_refl _, by rw [hh0]; exact Nat.le_add_right _ _, by rw [hh0]; exact Nat.zero_le _, rfl, rfl, rfl⟩⟩
    rw [hh0] at he
    exact absurd he (by simp [xent, xentk, xh0, hkd])
  have k := ct_L_law (Q := lw_Z below #[Value.ref b] s) (below := below) (e := e) hl K hs9 hb9 (1, h1) hF ⟨rfl, rfl⟩ ls s.heap [] e2 hi
  rw [Nat.sub_self, Nat.sub_self] at k
  rw [show F0 m 0 ls (List.map xv []) = F0 m 0 ls [] from rfl, ← e1] at k
  exact k
