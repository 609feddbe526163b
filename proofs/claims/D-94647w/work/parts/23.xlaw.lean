/-! XK 13: the law's own frame: its script, its end -/
set_option maxRecDepth 100000
def xscl (h : AH) (r : Nat) : Option Int32 := if r = hcs h 90 then some (Int32.ofNat (hcs h 91)) else none
def xsca (h : AH) (r : Nat) (j : Int32) : Option Int32 := if r = hcs h 90 ∧ 0 ≤ j.toInt ∧ j.toInt < hcs h 91 then some (Int32.ofNat (hcs h (100 + j.toNatClampNeg))) else none
def XScr (h0 : AH) (s : State) : Prop := ∃ b : Nat, hcs h0 90 = b + 1 ∧ va_X b (hcs h0 91) (fun j => Int32.ofNat (hcs h0 (100 + j))) s s.heap ∧ b < s.heap.size ∧ ¬ XAr h0 b
def XLawEnd (R : Room) (meth : Method) (args : Array Value) (s : State) (h0 : AH) : Prop := R = room_1 ∧ meth.sig.returnType = ret ∧ (∃ b : Nat, args = #[Value.ref b]) ∧ (∀ q, XAr h0 q → s.heap.size ≤ q) ∧ hcap h0 - hsz h0 ≤ 208280 ∧ hscap h0 - hsl h0 ≤ 8471264
def XEndL (below : List Frame) (args : Array Value) (s : State) (Q : State → Prop) (z : Int32 × AH) : Prop := z.1 = 1 ∧ Q = lw_Z below args s
section XLW
variable {p : Program} {l : Launch} {e : Env} {R : Room} {s : State} {m : MethodId} {args : Array Value} {below : List Frame} {meth : Method} {c : Code} {D : XD} {nL : Nat} {h0 : AH} {Q : State → Prop} {pc : Nat} {lv : XS} {st : List XV} {h : AH} {α : Type} {res : Option α} {C : α → Prop} {cc : ByteArray} {own : String} {fr lo : Nat}
theorem x_scl (K : XO p R s m args meth c D nL h0 cc own fr lo) {pc' : Nat} {r : Nat} {kf : Int32 → Option α} (hs9 : XScr h0 s) (hd : decode cc pc = .ok (.arraylength, 1)) (hpc : pc + 1 = pc') (kk : ∀ v : Int32, XF p l e R s m args below meth c D nL h0 Q pc' lv (xI v :: st) h (kf v) C) : XF p l e R s m args below meth c D nL h0 Q pc lv (xR r :: st) h ((xscl h r).bind kf) C := by
  subst hpc
  intro x hx hc ls H locs hl hi
  have hcs9 : hcs h = hcs h0 := hi.2.2.2.2.2.2.2.2.2.2
  unfold xscl at hx
  rw [hcs9] at hx
  by_cases q : r = hcs h0 90
  · rw [if_pos q] at hx
    obtain ⟨b, h1, h2, h3, h4⟩ := hs9
    rw [h1] at q
    subst q
    exact va_slen K.1 K.2.1 h2 h3 h4 hi.2.2.1 hd (kk _ x hx hc ls H locs hl hi)
  · rw [if_neg q] at hx
    exact absurd hx (by simp)
theorem x_sca (K : XO p R s m args meth c D nL h0 cc own fr lo) {pc' : Nat} {r : Nat} {j : Int32} {kf : Int32 → Option α} (hs9 : XScr h0 s) (hd : decode cc pc = .ok (.iaload, 1)) (hpc : pc + 1 = pc') (kk : ∀ v : Int32, XF p l e R s m args below meth c D nL h0 Q pc' lv (xI v :: st) h (kf v) C) : XF p l e R s m args below meth c D nL h0 Q pc lv (xI j :: xR r :: st) h ((xsca h r j).bind kf) C := by
  subst hpc
  intro x hx hc ls H locs hl hi
  have hcs9 : hcs h = hcs h0 := hi.2.2.2.2.2.2.2.2.2.2
  unfold xsca at hx
  rw [hcs9] at hx
  by_cases q : r = hcs h0 90 ∧ 0 ≤ j.toInt ∧ j.toInt < hcs h0 91
  · rw [if_pos q] at hx
    obtain ⟨b, h1, h2, h3, h4⟩ := hs9
    obtain ⟨q1, q2, q3⟩ := q
    rw [h1] at q1
    subst q1
    exact va_sld K.1 K.2.1 h2 h3 h4 hi.2.2.1 (xi_in q2 q3) hd (kk _ x hx hc ls H locs hl hi)
  · rw [if_neg q] at hx
    exact absurd hx (by simp)
theorem x_lawret (K : XO p R s m args meth c D nL h0 code own fr lo) {v : Int32} (hb9 : XLawEnd R meth args s h0) (hd : decode code pc = .ok (.ireturn, 1)) : XF p l e R s m args below meth c D nL h0 Q pc lv [xI v] h (some (v, h)) (XEndL below args s Q) := by
  intro x hx hc ls H locs hl hi
  cases hx
  obtain ⟨e1, e2⟩ := hc
  have e1 : v = 1 := e1
  subst e1
  rw [e2]
  obtain ⟨rfl, h2, ⟨b, rfl⟩, h4, h5, h6⟩ := hb9
  obtain ⟨hR, hsize, hS, hD⟩ := id hi
  obtain ⟨d1, d2, d3, d4, d5, d6, d7, d8⟩ := id hD
  have k := lw_ret (p := p) (l := l) (e := e) (s := s) (m := m) (below := below) (meth := meth) (c := c) (b := b) K.1 K.2.1 h2 K.2.2.2.2.2.2.2.1 (H := H) (ls := ls) hd
  exact va_forget (fun z hz => h4 _ (hS.2.2 z hz)) fun T hT X => k T hT (stand_widen X (by omega) (by omega))
end XLW
