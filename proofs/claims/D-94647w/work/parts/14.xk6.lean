/-! XK 6: contracts, their ends, a method's start; the caller's side. x_back follows vx_back of the starting text EXCEPTIONS.to-paste, the rooms' rows freed. -/
set_option maxRecDepth 100000
def xoc (oc : Option XV ⊕ Nat) : Option Value ⊕ Nat := match oc with
  | .inl v => .inl (v.map xv)
  | .inr r => .inr r
def XQ0 (oc : Option Value ⊕ Nat) (B : State → State → Prop) (mc ms : Nat) (free : Addr → Prop) (st : State) (o : Outcome) (t : State) : Prop :=
  B st t ∧ ∃ L : List Loc, st.WarmedH t.vm ∧ st.sameButNew ({ t with vm := st.vm } : State) L mc ms ∧ (∀ z ∈ L, free z.base) ∧ match oc with
    | .inl v => o = .returned v
    | .inr r => ∃ (q : Nat) (ce : Cell) (E : String), r = q + 1 ∧ o = .threw q ∧ t.heap[q]? = some ce ∧ ce.vm = .none ∧ st.vm.findClass E = some ce.cls
/-- a contract with one known outcome -/
def XMet (l : Launch) (y : MethodName) (ws : List Cond) (rm : Room) (Pc : Array Value → State → Prop) (oc : Option Value ⊕ Nat) (B : State → State → Prop) (mc ms : Nat) (free : Addr → Prop) : Prop :=
  MetFree l y (headSpec ws rm) Pc (fun _ _ _ _ _ => True) (fun _ st o t => XQ0 oc B mc ms free st o t)
def XMQ (below : List Frame) (oc : Option Value ⊕ Nat) (B : State → State → Prop) (s : State) (mc ms : Nat) (free : Addr → Prop) : State → Prop := fun t =>
  ∃ o, t.status = .running ∧ Ended t below o ∧ XQ0 oc B mc ms free s o t
def XPost (D : XD) (h0 h1 : AH) (st t : State) : Prop := XRep D h1 t.heap ∧ t.heap.size = hsz h1 ∧ va_F (XAr h0) st t ∧ XDom h0 h1
def XPre (D : XD) (As : List XV) (h : AH) : Array Value → State → Prop := fun v U => v = (As.map xv).toArray ∧ XRep D h U.heap ∧ U.heap.size = hsz h ∧ XKK D U ∧ hsz h ≤ hcap h ∧ hsl h ≤ hscap h ∧ XEnv h (XAr h) U U.heap
/-- method y, begun at memory h with the arguments As, ends as oc says, at memory h1 -/
def XCt (l : Launch) (D : XD) (y : MethodName) (ws : List Cond) (fr lo : Nat) (As : List XV) (h : AH) (oc : Option XV ⊕ Nat) (h1 : AH) : Prop :=
  XMet l y ws { frames := fr, cells := hcap h - hsz h, slots := hscap h - hsl h, locals := lo } (XPre D As h) (xoc oc) (XPost D h h1) (hsz h1 - hsz h) (hsl h1 - hsl h) (XAr h)
theorem XKK.same {D : XD} {u U : State} (h : XKK D u) (hv : u.vm = U.vm) : XKK D U := by
  refine ⟨va_K.moved (by rw [hv]; exact Vm.Alike.refl _) h.1, fun w hw hn => ?_⟩
  have h1 := h.2 w hw hn
  unfold xnw at hn
  split at hn
  · exact va_Nw.same rfl hv h1
  · exact va_Nw.same rfl hv h1
  · exact va_Nw.same rfl hv h1
  · exact va_Nw.same rfl hv h1
  · exact va_Nw.same rfl hv h1
  · exact va_AO.moved (by rw [hv]; exact Vm.Alike.refl _) h1
  · exact absurd hn (by decide)
theorem xpre_blind {D : XD} {As : List XV} {h : AH} : FrameBlind (XPre D As h) := fun a U g mk q => ⟨q.1, q.2.1, q.2.2.1, q.2.2.2.1.same rfl, q.2.2.2.2.1, q.2.2.2.2.2.1, q.2.2.2.2.2.2.same rfl⟩
theorem W.mono {p : Program} {l : Launch} {e : Env} {R : Room} {s : State} {m : MethodId} {args : Array Value} {below : List Frame} {meth : Method} {c : Code} {H : Heap} {locs : List Loc} {cells slots : Nat} {Q Q2 : State → Prop} {g : JFrame} (h : ∀ t, Q t → Q2 t) (k : W p l e R s m args below meth c H locs cells slots Q g) : W p l e R s m args below meth c H locs cells slots Q2 g := by
  intro T hT X
  obtain ⟨t, a, b⟩ := k T hT X
  exact ⟨t, a, h t b⟩
def xarg : Nat → List XV → XS
  | _, [] => []
  | i, v :: r => (i, v) :: xarg (i + xc v) r
theorem xarg_ok : ∀ (As : List XV) (i : Nat), lv_args i (As.map xv) = xlv (xarg i As)
  | [], _ => rfl
  | v :: r, i => by
    have e : (if (xv v).category = 2 then i + 2 else i + 1) = i + xc v := by
      rw [xv_cat]
      rcases v with n | n | n <;> rfl
    show (i, xv v) :: lv_args (if (xv v).category = 2 then i + 2 else i + 1) (r.map xv) = (i, xv v) :: xlv (xarg (i + xc v) r)
    rw [e, xarg_ok r]
theorem xsl_len (As : List XV) : (lg_sl (As.map xv)).length = (As.map xc).sum := by
  induction As with
  | nil => rfl
  | cons v r ih =>
    have e : lg_sl ((v :: r).map xv) = (if (xv v).category = 2 then [.val (xv v), .second] else [.val (xv v)]) ++ lg_sl (r.map xv) := rfl
    rw [e, List.length_append, ih, xv_cat]
    rcases v with n | n | n <;> simp [xc]
theorem x_entry {m : MethodId} {As : List XV} {nL : Nat} (hn : (As.map xc).sum ≤ nL) : ∃ ls, entryFrame m (As.map xv).toArray nL = F0 m 0 ls [] ∧ lv_has ls nL (xlv (xarg 0 As)) := by
  refine ⟨_, lg_entry_eq m (As.map xv) nL, ?_⟩
  have := lv_entry (As.map xv) (n := nL) (by rw [xsl_len]; exact hn)
  rw [xarg_ok] at this
  exact this
/-- a method meets its contract when its body's walk does -/
theorem x_method {l : Launch} {D : XD} {y : MethodName} {cc : ByteArray} {nL fr lo : Nat} {ret : Option FieldType} {As : List XV} {h h1 : AH} {oc : Option XV ⊕ Nat} (hy : plainName y.cls = true) (hn : (As.map xc).sum ≤ nL)
    (body : ∀ (p : Program) (e : Env) (R : Room) (s : State) (m : MethodId) (args : Array Value) (below : List Frame) (meth : Method) (c : Code), XO p R s m args meth c D nL h cc y.cls fr lo → meth.sig.returnType = ret → meth.name = y.name → (∀ x ∈ c.exceptionTable.toList, False) →
      XG p l e R s m args below meth c D nL h (XMQ below (xoc oc) (XPost D h h1) s (hsz h1 - hsz h) (hsl h1 - hsl h) (XAr h)) 0 (xarg 0 As) [] h) : XCt l D y (ws_ y cc nL ret) fr lo As h oc h1 := by
  refine MetFree.of_bodyS (code := cc) (maxLocals := nL) (ret := ret) hy ?_ ?_
  · intro args s m h hn
    obtain ⟨meth, c, h1, h2, h3, h4, h5, h6, -, -⟩ := Cond.code_spec hn (atoms_spec (ws := ws_ y cc nL ret) h _ List.mem_cons_self)
    exact ⟨meth, c, h1, h2, h3, h4, h5, h6⟩
  · intro p e s m args below meth c s₁ B hml hP _
    obtain ⟨rfl, hR, hsz0, hKK, hca, hsc, hEnv⟩ := hP
    have hh0 : s₁.heap = s.heap := by rw [B.state]; rfl
    have hts := atoms_spec (ws := ws_ y cc nL ret) B.pre
    have ht : ∀ x ∈ c.exceptionTable.toList, False := by
      obtain ⟨meth9, c9, h1, h2, -, -, -, -, h7, -⟩ := Cond.code_spec B.named (hts _ List.mem_cons_self)
      cases Option.some.inj (h1.symm.trans B.method)
      cases Option.some.inj (h2.symm.trans (Stand.of_body B).code)
      intro x hx
      rw [Array.isEmpty_iff.mp h7] at hx
      cases hx
    obtain ⟨ls, e1, e2⟩ := x_entry (m := m) hn
    have hbody := body p e _ s m _ below meth c ⟨B.exec, B.bytes, hml, findClass_of_methodNamed B.named, fun w hw => hts w (List.mem_cons_of_mem _ hw), hKK, rfl, B.notSynchronized, hEnv⟩ B.returns (name_of_methodNamed B.named B.method).1 ht ls s.heap [] e2 ⟨hR, hsz0, va_S.rf, ⟨fun q hq => Or.inl hq, Nat.le_refl _, Nat.le_refl _, hca, hsc, rfl, rfl, rfl⟩⟩
    rw [Nat.sub_self, Nat.sub_self] at hbody
    obtain ⟨t, a1, o, b1, b2, b3⟩ := hbody s₁ hh0 (Stand.of_body B)
    rw [show F0 m 0 ls (List.map xv []) = F0 m 0 ls [] from rfl, ← e1] at a1
    exact ⟨t, o, a1, b1, b2, b3⟩

section XEnds
variable {p : Program} {l : Launch} {e : Env} {R : Room} {s : State} {m : MethodId} {args : Array Value} {below : List Frame} {meth : Method} {c : Code} {D : XD} {nL : Nat} {h0 : AH} {Q : State → Prop} {pc : Nat} {lv : XS} {st : List XV} {h : AH} {cc : ByteArray} {own : String} {fr lo : Nat}
/-- what a method's own end owes: Q is what the answer x says -/
def XEnd {β : Type} (below : List Frame) (s : State) (D : XD) (h0 : AH) (enc : β → Option XV ⊕ Nat) (Q : State → Prop) (x : β × AH) : Prop := Q = XMQ below (xoc (enc x.1)) (XPost D h0 x.2) s (hsz x.2 - hsz h0) (hsl x.2 - hsl h0) (XAr h0)
theorem xi_post {H : Heap} {locs : List Loc} {t : State} (hi : XI D h0 h s.heap H locs) (ht : t.heap = H) : XPost D h0 h s t := ⟨by rw [ht]; exact hi.1, by rw [ht]; exact hi.2.1, hi.2.2.1.F ht, hi.2.2.2⟩
theorem mq_ret {β : Type} {v : Option Value} {H : Heap} {locs : List Loc} {mc ms : Nat} {B : State → State → Prop} {free : Addr → Prop} {t : State} (hq : MQ below (fun _ st o t => o = .returned v ∧ B st t) args s mc ms free t) : XMQ below (.inl v) B s mc ms free t := by
  obtain ⟨o, h1, h2, ⟨rfl, hB⟩, L, ⟨-, hW, hsm⟩, hL⟩ := hq
  exact ⟨_, h1, h2, hB, L, hW, hsm, hL, rfl⟩
theorem x_iret (K : XO p R s m args meth c D nL h0 cc own fr lo) {β : Type} {enc : β → Option XV ⊕ Nat} {y : β} {v : Int32} (he : enc y = .inl (some (xI v))) (hr : meth.sig.returnType = some .int) (hd : decode cc pc = .ok (.ireturn, 1)) : XF p l e R s m args below meth c D nL h0 Q pc lv [xI v] h (some (y, h)) (XEnd below s D h0 enc Q) := by
  intro x hx hc ls H locs hl hi
  cases hx
  rw [show Q = _ from hc, he]
  exact W.mono (fun t ht => mq_ret (β := Unit) (H := H) (locs := locs) ht) (W.iret K.1 K.2.1 hr (fun t ht hW => ⟨rfl, xi_post hi ht⟩) hi.2.2.1.2.2 hd K.2.2.2.2.2.2.2.1)
theorem x_lret (K : XO p R s m args meth c D nL h0 cc own fr lo) {β : Type} {enc : β → Option XV ⊕ Nat} {y : β} {v : Int64} (he : enc y = .inl (some (xJ v))) (hr : meth.sig.returnType = some .long) (hd : decode cc pc = .ok (.lreturn, 1)) : XF p l e R s m args below meth c D nL h0 Q pc lv [xJ v] h (some (y, h)) (XEnd below s D h0 enc Q) := by
  intro x hx hc ls H locs hl hi
  cases hx
  rw [show Q = _ from hc, he]
  exact W.mono (fun t ht => mq_ret (β := Unit) (H := H) (locs := locs) ht) (W.lret K.1 K.2.1 hr (fun t ht hW => ⟨rfl, xi_post hi ht⟩) hi.2.2.1.2.2 hd K.2.2.2.2.2.2.2.1)
theorem x_zret (K : XO p R s m args meth c D nL h0 cc own fr lo) {β : Type} {enc : β → Option XV ⊕ Nat} {y : β} {v : Int32} (hv : v = 0 ∨ v = 1) (he : enc y = .inl (some (xI v))) (hr : meth.sig.returnType = some .boolean) (hd : decode cc pc = .ok (.ireturn, 1)) : XF p l e R s m args below meth c D nL h0 Q pc lv [xI v] h (some (y, h)) (XEnd below s D h0 enc Q) := by
  intro x hx hc ls H locs hl hi
  cases hx
  rw [show Q = _ from hc, he]
  exact W.mono (fun t ht => mq_ret (β := Unit) (H := H) (locs := locs) ht) (W.zret K.1 K.2.1 hr (by rcases hv with rfl | rfl <;> rfl) (fun t ht hW => ⟨rfl, xi_post hi ht⟩) hi.2.2.1.2.2 hd K.2.2.2.2.2.2.2.1)
theorem x_aret (K : XO p R s m args meth c D nL h0 cc own fr lo) {β : Type} {enc : β → Option XV ⊕ Nat} {y : β} {v : Nat} {rt : FieldType} (he : enc y = .inl (some (xR v))) (hrt : (∃ n, rt = .object n) ∨ ∃ t, rt = .array t) (hr : meth.sig.returnType = some rt) (hd : decode cc pc = .ok (.areturn, 1)) : XF p l e R s m args below meth c D nL h0 Q pc lv [xR v] h (some (y, h)) (XEnd below s D h0 enc Q) := by
  intro x hx hc ls H locs hl hi
  cases hx
  rw [show Q = _ from hc, he]
  exact W.mono (fun t ht => mq_ret (β := Unit) (H := H) (locs := locs) ht) (W.aret K.1 K.2.1 hr hrt (by cases v <;> first | exact Or.inl rfl | exact Or.inr ⟨_, rfl⟩) (fun t ht hW => ⟨rfl, xi_post hi ht⟩) hi.2.2.1.2.2 hd K.2.2.2.2.2.2.2.1)
theorem x_vret (K : XO p R s m args meth c D nL h0 cc own fr lo) {β : Type} {enc : β → Option XV ⊕ Nat} {y : β} (he : enc y = .inl none) (hr : meth.sig.returnType = none) (hd : decode cc pc = .ok (.return_, 1)) : XF p l e R s m args below meth c D nL h0 Q pc lv [] h (some (y, h)) (XEnd below s D h0 enc Q) := by
  intro x hx hc ls H locs hl hi
  cases hx
  rw [show Q = _ from hc, he]
  exact W.mono (fun t ht => mq_ret (β := Unit) (H := H) (locs := locs) ht) (W.vret K.1 K.2.1 hr (fun t ht hW => ⟨rfl, xi_post hi ht⟩) hi.2.2.1.2.2 hd K.2.2.2.2.2.2.2.1)
/-- thrown over this frame -/
def XX (p : Program) (l : Launch) (e : Env) (R : Room) (s : State) (m : MethodId) (args : Array Value) (below : List Frame) (meth : Method) (c : Code) (D : XD) (nL : Nat) (h0 : AH) (Q : State → Prop) (pc : Nat) (lv : XS) (st : List XV) (r : Nat) (h : AH) {α : Type} (res : Option α) (C : α → Prop) : Prop :=
  ∀ x : α, res = some x → C x → ∀ (ls : Array Slot) (H : Heap) (locs : List Loc) (q : Nat) (ce : Cell) (E : String), lv_has ls nL (xlv lv) → XI D h0 h s.heap H locs → r = q + 1 → H[q]? = some ce → ce.vm = .none → s.vm.findClass E = some ce.cls → vx_W p l e R s m args below meth c H locs (hsz h - hsz h0) (hsl h - hsl h0) Q (F0 m pc ls (st.map xv)) q
/-- it leaves the method -/
theorem x_out (K : XO p R s m args meth c D nL h0 cc own fr lo) {β : Type} {enc : β → Option XV ⊕ Nat} {y : β} {r : Nat} (hex : ∀ x ∈ c.exceptionTable.toList, covers x pc = false) (he : enc y = .inr r) : XX p l e R s m args below meth c D nL h0 Q pc lv st r h (some (y, h)) (XEnd below s D h0 enc Q) := by
  intro x hx hc ls H locs q ce E hl hi hr hce hcv hcl T hT X
  cases hx
  obtain ⟨st1, hrun, hend, hW, hsm⟩ := X.leaveThrown q (g := F0 m pc ls (st.map xv)) rfl rfl rfl hex K.2.2.2.2.2.2.2.1
  have hcell9 : (T.setFrames (.throwing q :: below)).heap[q]? = some ce := by
    show T.heap[q]? = some ce
    rw [hT]; exact hce
  refine ⟨_, st1, ?_⟩
  rw [show Q = _ from hc, he]
  exact ⟨.threw q, hrun, hend, xi_post hi hT, locs, hW, hsm, hi.2.2.1.2.2, q, ce, E, hr, rfl, hcell9, hcv, hcl⟩
/-- athrow of a known object -/
theorem x_athrow (K : XO p R s m args meth c D nL h0 cc own fr lo) {α : Type} {res : Option α} {C : α → Prop} {r n : Nat} (hn : 1 ≤ n ∧ n < 17) (hd : decode cc pc = .ok (.athrow, 1)) (k : XX p l e R s m args below meth c D nL h0 Q pc lv st r h res C) : XF p l e R s m args below meth c D nL h0 Q pc lv (xR r :: st) h (if hkd h r = n then res else none) C := by
  intro x hx hc ls H locs hl hi
  by_cases q : hkd h r = n
  · rw [if_pos q] at hx
    obtain ⟨a, rfl⟩ := xrep_ad hi.1 (r := r) (by omega)
    obtain ⟨q9, g1, cell, q1, q2, q3, q4⟩ := hi.1.1 a _ (xent_c q hn.1 hn.2)
    have hfc := (K.2.2.2.2.2.1.1.1 n _ (xcl_at hn.2)).2.1
    refine vx_athrow K.1 K.2.1 hd (k x hx hc ls H locs a cell (xRn n) hl hi rfl q1 q3 ?_)
    rw [q2]
    exact hfc
  · rw [if_neg q] at hx
    exact absurd hx (by simp)
end XEnds
