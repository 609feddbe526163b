/-! XK 12: methods with a handler: their bodies, their calls (the proofs of parts 14..16 with codeWith for code), the catch -/
set_option maxRecDepth 100000
theorem x_methodW {hh : List (Nat × Nat × Nat × Nat)} {l : Launch} {D : XD} {y : MethodName} {cc : ByteArray} {nL fr lo : Nat} {ret : Option FieldType} {As : List XV} {h h1 : AH} {oc : Option XV ⊕ Nat} (hy : plainName y.cls = true) (hn : (As.map xc).sum ≤ nL)
    (body : ∀ (p : Program) (e : Env) (R : Room) (s : State) (m : MethodId) (args : Array Value) (below : List Frame) (meth : Method) (c : Code), XO p R s m args meth c D nL h cc y.cls fr lo → meth.sig.returnType = ret → meth.name = y.name → c.exceptionTable.toList = tableOf hh →
      XG p l e R s m args below meth c D nL h (XMQ below (xoc oc) (XPost D h h1) s (hsz h1 - hsz h) (hsl h1 - hsl h) (XAr h)) 0 (xarg 0 As) [] h) : XCt l D y (wsW_ y cc nL ret hh) fr lo As h oc h1 := by
  refine MetFree.of_bodyS (code := cc) (maxLocals := nL) (ret := ret) hy ?_ ?_
  · intro args s m h hn
    obtain ⟨m9, meth, c, hn9, h1, h2, h3, h4, -, h5, h6, -⟩ := Cond.codeWith_spec (atoms_spec (ws := wsW_ y cc nL ret hh) h _ List.mem_cons_self)
    cases hn.symm.trans hn9
    exact ⟨meth, c, h1, h2, h3, h4, h5, h6⟩
  · intro p e s m args below meth c s₁ B hml hP _
    obtain ⟨rfl, hR, hsz0, hKK, hca, hsc, hEnv⟩ := hP
    have hh0 : s₁.heap = s.heap := by rw [B.state]; rfl
    have hts := atoms_spec (ws := wsW_ y cc nL ret hh) B.pre
    have ht : c.exceptionTable.toList = tableOf hh := vx_table (x := y) B (hts _ List.mem_cons_self)
    obtain ⟨ls, e1, e2⟩ := x_entry (m := m) hn
    have hbody := body p e _ s m _ below meth c ⟨B.exec, B.bytes, hml, findClass_of_methodNamed B.named, fun w hw => hts w (List.mem_cons_of_mem _ hw), hKK, rfl, B.notSynchronized, hEnv⟩ B.returns (name_of_methodNamed B.named B.method).1 ht ls s.heap [] e2 ⟨hR, hsz0, va_S.rf, ⟨fun q hq => Or.inl hq, Nat.le_refl _, Nat.le_refl _, hca, hsc, rfl, rfl, rfl⟩⟩
    rw [Nat.sub_self, Nat.sub_self] at hbody
    obtain ⟨t, a1, o, b1, b2, b3⟩ := hbody s₁ hh0 (Stand.of_body B)
    rw [show F0 m 0 ls (List.map xv []) = F0 m 0 ls [] from rfl, ← e1] at a1
    exact ⟨t, o, a1, b1, b2, b3⟩

section XBackW
variable {l : Launch} {R : Room} {p : Program} {e : Env} {below : List Frame} {s : State} {sargs : Array Value} {y : MethodName} {len W9 : Nat}
theorem x_backW {hh : List (Nat × Nat × Nat × Nat)} {ws : List Cond} {rm : Room} {Pc : Array Value → State → Prop} {oc : Option Value ⊕ Nat} {Bp : State → State → Prop} {mc ms : Nat} {free : Addr → Prop} {bytes : ByteArray} {maxL : Nat} {ret : Option FieldType}
    (hM : XMet l y ws rm Pc oc Bp mc ms free) (hblind : FrameBlind Pc)
    (hframes : rm.frames + 1 ≤ R.frames) (hlocals : W9 + (maxL + 11) + rm.locals ≤ R.locals)
    (hws : ∀ w ∈ ws, ∀ a' U, s.WarmedH U.vm → w.before a' U = true) (hcode : Cond.codeWith y bytes maxL ret hh ∈ ws) (hinit : ∀ a' U, s.WarmedH U.vm → (Cond.initialized y.cls).before a' U = true) :
    vx_Back l R p e below s sargs y len W9 (XPreB R rm Pc) (XPostB oc Bp mc ms free) (XPostX oc Bp mc ms free) := by
  intro m meth c A g ig mk a X hg hsize hdg hW hn hp
  have h1 : (headSpec ws rm).pre.before a A.U = true := atoms_intro fun w hw => hws w hw _ _ X.warmed
  have h2 : (Cond.codeWith y bytes maxL ret hh).before a A.U = true := hws _ hcode _ _ X.warmed
  have h3 : (Cond.initialized y.cls).before a A.U = true := hinit _ _ X.warmed
  have h4 : A.cells + (headSpec ws rm).room.cells ≤ R.cells := hp.1
  have h5 : A.slots + (headSpec ws rm).room.slots ≤ R.slots := hp.2.1
  have hPc : Pc a (A.U.calling g mk a) := hblind _ _ _ _ hp.2.2
  obtain ⟨U, Ls, c0, s0⟩ := A
  dsimp only [Pt.U, Pt.locs, Pt.cells, Pt.slots] at h1 h2 h3 h4 h5 X hn hPc ⊢
  obtain ⟨m9, methY, cY, hn9, hmY, hcY, -, hlY, -⟩ := Cond.codeWith_spec h2
  cases Option.some.inj (hn9.symm.trans hn)
  obtain ⟨kY, hkY, -⟩ := className_of_methodNamed hn
  have hinitY : kY.init = .initialized := Cond.initialized_spec (findClass_of_methodNamed hn) hkY h3
  have h : At U g.method c below := by rw [hg]; exact X.here
  have hlocals9 : W9 + (maxL + 11) + (headSpec ws rm).room.locals ≤ R.locals := hlocals
  have happ : (headSpec ws rm).appliesLoose y e.platform (U.calling g mk a) = true :=
    Spec.appliesLoose_calling (g := g) h hdg hn hkY hinitY
      (X.room_calling (g := g) (R' := (headSpec ws rm).room) hsize hmY hcY hframes (by rw [hlY]; omega) h4 h5) h1
  obtain ⟨mid, hmid⟩ := h.above
  have hfr : (U.setTop g).frames = (.java g :: mid) ++ below := by rw [State.frames_setTop' g h.top, hmid]; rfl
  obtain ⟨o, s₂, hsteps, -, hend, hq⟩ := Steps.callFree hM p X.admits X.cas X.clock (acts := []) hfr happ hPc trivial
  have hq' : XQ0 oc Bp mc ms free (U.calling g mk a) o s₂ := hq
  rw [State.frames_setTop' g h.top] at hend
  obtain ⟨g₀, hg0⟩ := Option.isSome_iff_exists.mp h.top
  obtain ⟨r, hr⟩ := State.topJava?_eq_some.mp hg0
  have hr' : (({ U with heap := s₂.heap, slotsUsed := s₂.slotsUsed } : State).setVm s₂.vm).frames = .java g₀ :: r := hr
  obtain ⟨hB, L, hW₂, hsm, hL, ho⟩ := hq'
  obtain ⟨e2, q2, q3, q4, q5, q6⟩ := id hsm
  have e3 : s₂ = ({ (U.calling g mk a).setFrames s₂.frames with heap := s₂.heap, slotsUsed := s₂.slotsUsed } : State).setVm s₂.vm := by
    have : s₂ = ({ s₂ with vm := (U.calling g mk a).vm } : State).setVm s₂.vm := rfl
    rw [e2] at this
    exact this
  have hW' : U.WarmedH s₂.vm := hW₂
  have hsame : U.sameButNew ({ U with heap := s₂.heap, slotsUsed := s₂.slotsUsed } : State) L mc ms := by
    refine ⟨?_, q2, q3, q4, q5, q6⟩
    obtain ⟨t, ht, -⟩ := State.frames_cons hr
    show ({ U with heap := s₂.heap, slotsUsed := s₂.slotsUsed } : State) = { U.setFrames U.frames with heap := s₂.heap, slotsUsed := s₂.slotsUsed }
    rw [State.setFrames_self ht]
  cases oc with
  | inl v =>
    have ho : o = .returned v := ho
    subst ho
    obtain ⟨c₂, i₂, len₂, hc₂, hd₂, hf₂⟩ := hend
    have hcc : c₂ = c := by
      have h1 : s₂.code? g.method = U.code? g.method := by
        rw [State.code?_eq, State.code?_eq, hW'.alike.method?]
      exact Option.some.inj (hc₂.symm.trans (h1.trans h.code))
    subst hcc
    have hlen : len₂ = len := by rw [hdg] at hd₂; cases hd₂; rfl
    subst hlen
    have hs₂ : s₂ = (({ U with heap := s₂.heap, slotsUsed := s₂.slotsUsed } : State).setVm s₂.vm).setTop { g with pc := g.pc + len₂, stack := v.toList ++ g.stack } := by
      refine e3.trans ?_
      rw [hf₂, State.calling_eq h.top, State.setFrames_setFrames, State.setTop_of_frames _ hr', hr]
      rfl
    subst hg
    refine Or.inl ⟨v, ⟨(({ U with heap := s₂.heap, slotsUsed := s₂.slotsUsed } : State).setVm s₂.vm), Ls ++ L, c0 + mc, s0 + ms⟩,
      ⟨X.admits, X.cas, X.clock, X.frames, X.room, X.hears, X.method, X.code, (X.here.setHeapUsed s₂.heap s₂.slotsUsed).setVm hW'.alike, X.tail, State.WarmedH.trans X.warmed hW', X.limits, X.bytes, X.same.trans (hsame.setVm s.vm)⟩,
      ⟨g, mk, s₂, L, rfl, rfl, rfl, hB, rfl, hL, rfl, rfl⟩, ?_⟩
    show Steps p.tables e below _ ((({ U with heap := s₂.heap, slotsUsed := s₂.slotsUsed } : State).setVm s₂.vm).setTop { g with pc := g.pc + len₂, stack := v.toList ++ g.stack })
    rw [← hs₂]
    exact hsteps
  | inr r9 =>
    obtain ⟨q, ce, E, rfl, rfl, hce, hcv, hcl⟩ := ho
    have hf₂ : s₂.frames = .throwing q :: .java g :: U.frames.tail := hend
    have hs₂ : s₂ = ((({ U with heap := s₂.heap, slotsUsed := s₂.slotsUsed } : State).setVm s₂.vm).setTop g).pushFrame (.throwing q) := by
      refine e3.trans ?_
      rw [hf₂, State.calling_eq h.top, State.setFrames_setFrames, State.pushFrame, State.frames_setTop _ hr', State.setTop_of_frames _ hr', State.setFrames_setFrames, hr]
      rfl
    subst hg
    refine Or.inr ⟨q, ⟨(({ U with heap := s₂.heap, slotsUsed := s₂.slotsUsed } : State).setVm s₂.vm), Ls ++ L, c0 + mc, s0 + ms⟩,
      ⟨X.admits, X.cas, X.clock, X.frames, X.room, X.hears, X.method, X.code, (X.here.setHeapUsed s₂.heap s₂.slotsUsed).setVm hW'.alike, X.tail, State.WarmedH.trans X.warmed hW', X.limits, X.bytes, X.same.trans (hsame.setVm s.vm)⟩,
      ⟨g, mk, s₂, L, E, ce, rfl, rfl, rfl, hB, hce, hcv, hcl, rfl, hL, rfl, rfl⟩, ?_⟩
    show Steps p.tables e below _ (((({ U with heap := s₂.heap, slotsUsed := s₂.slotsUsed } : State).setVm s₂.vm).setTop g).pushFrame (.throwing q))
    rw [← hs₂]
    exact hsteps
end XBackW
section XCallsW
variable {p : Program} {l : Launch} {e : Env} {R : Room} {s : State} {m : MethodId} {args : Array Value} {below : List Frame} {meth : Method} {c : Code} {D : XD} {nL : Nat} {h0 : AH} {Q : State → Prop} {pc : Nat} {lv : XS} {st : List XV} {h : AH} {α : Type} {res : Option α} {C : α → Prop} {cc : ByteArray} {own : String} {fr lo : Nat}
theorem xw_callW {hh : List (Nat × Nat × Nat × Nat)} (K : XO p R s m args meth c D nL h0 cc own fr lo) {H : Heap} {locs : List Loc} {ls : Array Slot} {st0 : List Value} {As rest : List XV} {y : MethodName} {bytes : ByteArray} {maxL : Nat} {ret : Option FieldType} {fr1 lo1 : Nat} {oc : Option XV ⊕ Nat} {h1 : AH} (hls : ls.size = nL) (hi : XI D h0 h s.heap H locs) (hM : XCt l D y (wsW_ y bytes maxL ret hh) fr1 lo1 As h oc h1) (hst : XStep p l e R s m args below meth c H pc ls st0 (rest.map xv) y (As.map xv).toArray)
    (hq : Cond.codeWith y bytes maxL ret hh ∈ lw_all) (hini : Cond.initialized y.cls ∈ lw_all) (hfr : fr1 + 1 ≤ fr) (hlo : 8 + (maxL + 11) + lo1 ≤ lo) (hcat : (rest.map xc).sum ≤ 8)
    (kn : ∀ v : Option XV, oc = .inl v → ∀ (H1 : Heap) (locs1 : List Loc), XI D h0 h1 s.heap H1 locs1 → W p l e R s m args below meth c H1 locs1 (hsz h1 - hsz h0) (hsl h1 - hsl h0) Q (F0 m (pc + 3) ls ((v.map xv).toList ++ rest.map xv)))
    (kx : ∀ q : Nat, oc = .inr (q + 1) → ∀ (H1 : Heap) (locs1 : List Loc) (ce : Cell) (E : String), XI D h0 h1 s.heap H1 locs1 → H1[q]? = some ce → ce.vm = .none → s.vm.findClass E = some ce.cls → vx_W p l e R s m args below meth c H1 locs1 (hsz h1 - hsz h0) (hsl h1 - hsl h0) Q (F0 m pc ls (rest.map xv)) q) :
    W p l e R s m args below meth c H locs (hsz h - hsz h0) (hsl h - hsl h0) Q (F0 m pc ls st0) := by
  intro T hT X
  obtain ⟨hR, hsize, hS, hD⟩ := id hi
  obtain ⟨d1, d2, d3, d4, d5, d6, d7, d8⟩ := id hD
  have hRm := K.2.2.2.2.2.2.1
  have hts := K.2.2.2.2.1
  have hg := lw_methW hq
  obtain ⟨vm₁, mk, ig, X₁, hn, hdg, hstep⟩ := hst T locs _ _ hT X
  have hK : vx_Back l R p e below s args y 3 8 (XPreB R _ (XPre D As h)) (XPostB (xoc oc) (XPost D h h1) (hsz h1 - hsz h) (hsl h1 - hsl h) (XAr h)) (XPostX (xoc oc) (XPost D h h1) (hsz h1 - hsz h) (hsl h1 - hsl h) (XAr h)) :=
    x_backW (bytes := bytes) (maxL := maxL) (ret := ret) hM xpre_blind (by rw [hRm]; exact hfr) (by rw [hRm]; exact hlo) (pay_in hts hg) List.mem_cons_self (fun a' U hW => word_at hW (Or.inl (by first | rfl | simp [Cond.onTables, Cond.keeps, Cond.steady])) (hts _ hini))
  have keep : ∀ (U : State) (t T' : State) (g' : JFrame) (mk' : MethodId) (a' : Array Value) (L : List Loc), U.heap = H → T'.heap = t.heap → XPost D h h1 (U.calling g' mk' a') t → (∀ q ∈ L, XAr h q.base) → XI D h0 h1 s.heap T'.heap (locs ++ L) := by
    intro U t T' g' mk' a' L hU e1 hp hL
    obtain ⟨p1, p2, ⟨p3, p4⟩, p5⟩ := hp
    have p3 : U.heap.size ≤ t.heap.size := p3
    have p4 : ∀ q, q < U.heap.size → ¬ XAr h q → t.heap[q]? = U.heap[q]? := p4
    obtain ⟨f1, f2, f3, f4, f5, f6, f7, f8⟩ := p5
    have hAr : ∀ q, XAr h q → XAr h0 q := fun q hq => by
      rcases hq with hq | hq
      · exact d1 q hq
      · exact Or.inr (Nat.le_trans d2 hq)
    rw [hU] at p3 p4
    refine ⟨by rw [e1]; exact p1, by rw [e1]; exact p2, ⟨Nat.le_trans hS.1 (by rw [e1]; exact p3), fun q g1 g2 => ?_, fun q hq => ?_⟩, ⟨fun q hq => hAr q (f1 q hq), Nat.le_trans d2 f2, Nat.le_trans d3 f3, f4, f5, f6.trans d6, f7.trans d7, f8.trans d8⟩⟩
    · rw [e1, p4 q (Nat.lt_of_lt_of_le g1 hS.1) (fun z => g2 (hAr q z))]
      exact hS.2.1 q g1 g2
    · rcases List.mem_append.mp hq with h | h
      · exact hS.2.2 q h
      · exact hAr _ (hL q h)
  rcases hK m meth c ⟨T.setVm vm₁, locs, hsz h - hsz h0, hsl h - hsl h0⟩ (F0 m pc ls (rest.map xv)) ig mk (As.map xv).toArray X₁ rfl (hls.trans K.2.2.1.symm) hdg (by show 2 * 0 + _ ≤ 8; rw [Nat.mul_zero, Nat.zero_add, xv_sum]; exact hcat) hn ⟨by rw [hRm]; show hsz h - hsz h0 + (hcap h - hsz h) ≤ hcap h0 - hsz h0; omega, by rw [hRm]; show hsl h - hsl h0 + (hscap h - hsl h) ≤ hscap h0 - hsl h0; omega, rfl, by show XRep D h T.heap; rw [hT]; exact hR, by show T.heap.size = _; rw [hT]; exact hsize, K.2.2.2.2.2.1.warm X₁.warmed, d4, d5, K.2.2.2.2.2.2.2.2.go d8 X₁.warmed (fun a h9 h8 => (show T.heap[a]? = s.heap[a]? by rw [hT]; exact hS.2.1 a h9 h8)) (fun q hq => hq.elim (fun z => d1 q z) (fun z => Or.inr (Nat.le_trans d2 z)))⟩ with ⟨v, ⟨U', l2, c2, s2⟩, X', ⟨g', mk', t, L, e1, e2, ho, hp, h9, hL, h7, h8⟩, hsteps⟩ | ⟨q, ⟨U', l2, c2, s2⟩, X', ⟨g', mk', t, L, E, ce, e1, e2, ho, hp, hce, hcv, hcl, h9, hL, h7, h8⟩, hsteps⟩
  · dsimp only [Pt.U, Pt.locs, Pt.cells, Pt.slots] at X' e1 e2 h9 h7 h8 hsteps hp
    have hi1 := keep (T.setVm vm₁) t U' g' mk' (As.map xv).toArray L hT e1 hp hL
    obtain ⟨f1, f2, f3, f4, f5, f6, f7, f8⟩ := hp.2.2.2
    rw [h9, show c2 = hsz h1 - hsz h0 by rw [h7]; omega, show s2 = hsl h1 - hsl h0 by rw [h8]; omega] at X'
    have hoc : ∃ v9 : Option XV, oc = .inl v9 ∧ v = v9.map xv := by
      cases oc with
      | inl v9 => exact ⟨v9, rfl, (Sum.inl.inj ho).symm⟩
      | inr r => cases ho
    obtain ⟨v9, hv9, rfl⟩ := hoc
    obtain ⟨t2, a1, b1⟩ := kn v9 hv9 U'.heap (locs ++ L) hi1 U' rfl X'
    exact ⟨t2, hstep t2 (hsteps.trans a1), b1⟩
  · dsimp only [Pt.U, Pt.locs, Pt.cells, Pt.slots] at X' e1 e2 h9 h7 h8 hsteps hp hcl
    have hi1 := keep (T.setVm vm₁) t U' g' mk' (As.map xv).toArray L hT e1 hp hL
    obtain ⟨f1, f2, f3, f4, f5, f6, f7, f8⟩ := hp.2.2.2
    rw [h9, show c2 = hsz h1 - hsz h0 by rw [h7]; omega, show s2 = hsl h1 - hsl h0 by rw [h8]; omega] at X'
    have hoc : oc = .inr (q + 1) := by
      cases oc with
      | inl v9 => cases ho
      | inr r => exact congrArg Sum.inr (Sum.inr.inj ho)
    obtain ⟨t2, a1, b1⟩ := kx q hoc U'.heap (locs ++ L) ce E hi1 (by rw [e1]; exact hce) hcv (vx_cls X₁.warmed hcl) U' rfl X'
    exact ⟨t2, hstep t2 (hsteps.trans a1), b1⟩
theorem xs_VW {hh : List (Nat × Nat × Nat × Nat)} (K : XO p R s m args meth c D nL h0 cc own fr lo) {H : Heap} {ls : Array Slot} {As rest : List XV} {r n index : Nat} {y : MethodName} {bytes : ByteArray} {maxL : Nat} {ret : Option FieldType} (hR : XRep D h H) (hk : hkd h r = n) (hn : 1 ≤ n ∧ n < 17) (hlink : Cond.methodLink own index y ∈ lw_all) (hinst : Cond.instanceMethod y ∈ lw_all) (hsel : Cond.selects (xRn n) y y ∈ lw_all) (hq : Cond.codeWith y bytes maxL ret hh ∈ lw_all) (hy : (y.cls ≠ "java/lang/invoke/MethodHandle" ∧ y.cls ≠ "java/lang/invoke/VarHandle") ∧ (parseMethodDescriptor y.desc).map (fun d => d.parameters.length) = some As.length) (hd : decode cc pc = .ok (.invokevirtual index, 3)) : XStep p l e R s m args below meth c H pc ls ((As.map xv).reverse ++ va_rf (xo r) :: rest.map xv) (rest.map xv) y ((xR r :: As).map xv).toArray := by
  obtain ⟨a, cell, rfl, hcell, hvm, hcls⟩ := x_recv K hR hk hn
  have hts := K.2.2.2.2.1
  intro T locs cells slots hT X
  obtain ⟨mk, methM, hnamed, hmethM, hstM, habM⟩ := Cond.instanceMethod_spec (hts _ hinst)
  obtain ⟨m8, methM', cM, hn8, hmethM', -, -, -, -, -, -, hsigM⟩ := Cond.codeWith_spec (hts _ hq)
  cases Option.some.inj (hn8.symm.trans hnamed)
  cases hmethM.symm.trans hmethM'
  obtain ⟨c2, r2, m2, q1, q2, q3, q4, kP, hkP, hkPi⟩ := Cond.selects_spec (hts _ hsel)
  cases hcls.symm.trans q1
  cases (State.methodFound?_of_named hnamed hy.1).symm.trans q2
  cases hnamed.symm.trans q3
  have hselP : selectMethod e.platform s.vm cell.cls mk = .method mk := by rw [Launch.admits_selectMethod X.admits]; exact q4
  have hlen : (As.map xv).length = methM.sig.parameters.length := by
    have h2 := hy.2
    rw [hsigM] at h2
    rw [List.length_map]
    exact (Option.some.inj h2).symm
  obtain ⟨vm₁, X₁, hstep₁⟩ := X.invokevirtual K.1 K.2.2.2.1 (hts _ hlink) hnamed hmethM hstM hkP hkPi hy.1 (a := a) (cell := cell) (by rw [hT]; exact hcell)
    (fun z h => by rw [hvm] at h; cases h) hselP hmethM habM hkP hkPi (g := F0 m pc ls ((As.map xv).reverse ++ va_rf (xo (a + 1)) :: rest.map xv)) rfl (argsL := As.map xv) (rest := rest.map xv) hlen rfl (by rw [K.2.1]; exact hd)
  exact ⟨vm₁, mk, _, X₁, X₁.named hnamed, (by rw [K.2.1]; exact hd), fun target h => hstep₁ _ fun acts => by rw [doInvoke_state]; exact h⟩
theorem xs_SW {hh : List (Nat × Nat × Nat × Nat)} (K : XO p R s m args meth c D nL h0 cc own fr lo) {H : Heap} {ls : Array Slot} {As rest : List XV} {index : Nat} {y : MethodName} {bytes : ByteArray} {maxL : Nat} {ret : Option FieldType} (hlink : Cond.methodLink own index y ∈ lw_all) (hstat : Cond.static y ∈ lw_all) (hini : Cond.initialized y.cls ∈ lw_all) (hq : Cond.codeWith y bytes maxL ret hh ∈ lw_all) (hy : (y.cls ≠ "java/lang/invoke/MethodHandle" ∧ y.cls ≠ "java/lang/invoke/VarHandle") ∧ (parseMethodDescriptor y.desc).map (fun d => d.parameters.length) = some As.length) (hd : decode cc pc = .ok (.invokestatic index, 3)) : XStep p l e R s m args below meth c H pc ls ((As.map xv).reverse ++ rest.map xv) (rest.map xv) y (As.map xv).toArray := by
  have hts := K.2.2.2.2.1
  intro T locs cells slots hT X
  obtain ⟨mk, methM, cM, hnamed, hmethM, -, -, -, -, -, -, hsigM⟩ := Cond.codeWith_spec (hts _ hq)
  have hstatic : methM.isStatic = true := Cond.static_spec hnamed hmethM (hts _ hstat)
  obtain ⟨kP, hkP, -⟩ := className_of_methodNamed hnamed
  have hinitP : kP.init = .initialized := Cond.initialized_spec (findClass_of_methodNamed hnamed) hkP (hts _ hini)
  have hlen : (As.map xv).length = methM.sig.parameters.length := by
    have h2 := hy.2
    rw [hsigM] at h2
    rw [List.length_map]
    exact (Option.some.inj h2).symm
  obtain ⟨vm₁, X₁, hstep₁⟩ := X.invokestatic K.1 K.2.2.2.1 (hts _ hlink) hnamed hmethM hstatic hkP hinitP hy.1 (g := F0 m pc ls ((As.map xv).reverse ++ rest.map xv)) rfl (argsL := As.map xv) (rest := rest.map xv) hlen rfl (by rw [K.2.1]; exact hd)
  exact ⟨vm₁, mk, _, X₁, X₁.named hnamed, (by rw [K.2.1]; exact hd), fun target h => hstep₁ _ fun acts => by rw [doInvoke_state]; exact h⟩
theorem x_callW {hh : List (Nat × Nat × Nat × Nat)} {β : Type} {F : Option (β × AH)} {kf : β × AH → Option α} {en : β → Option XV} (K : XO p R s m args meth c D nL h0 cc own fr lo) {As rest st0 : List XV} {y : MethodName} {bytes : ByteArray} {maxL : Nat} {ret : Option FieldType} {fr1 lo1 : Nat} (hM : ∀ a h1, F = some (a, h1) → XCt l D y (wsW_ y bytes maxL ret hh) fr1 lo1 As h (.inl (en a)) h1)
    (hst : ∀ (ls : Array Slot) (H : Heap), XRep D h H → XStep p l e R s m args below meth c H pc ls (st0.map xv) (rest.map xv) y (As.map xv).toArray) (hq : Cond.codeWith y bytes maxL ret hh ∈ lw_all) (hini : Cond.initialized y.cls ∈ lw_all) (hfr : fr1 + 1 ≤ fr) (hlo : 8 + (maxL + 11) + lo1 ≤ lo) (hcat : (rest.map xc).sum ≤ 8)
    (kk : ∀ (a : β) (h1 : AH), XF p l e R s m args below meth c D nL h0 Q (pc + 3) lv ((en a).toList ++ rest) h1 (kf (a, h1)) C) : XF p l e R s m args below meth c D nL h0 Q pc lv st0 h (F.bind kf) C := by
  intro x hx hc ls H locs hl hi
  cases hF : F with
  | none => rw [hF] at hx; exact absurd hx (by simp)
  | some z =>
    obtain ⟨a, h1⟩ := z
    rw [hF] at hx
    refine xw_callW K hl.1 hi (hM a h1 hF) (hst ls H hi.1) hq hini hfr hlo hcat (fun v hv H1 locs1 hi1 => ?_) (fun q hq => by cases hq)
    cases hv
    have := kk a h1 x hx hc ls H1 locs1 hl hi1
    rw [List.map_append] at this
    cases he : en a <;> rw [he] at this <;> exact this
theorem x_cVW {hh : List (Nat × Nat × Nat × Nat)} {β : Type} {F : Option (β × AH)} {kf : β → AH → Option α} {en : β → Option XV} (K : XO p R s m args meth c D nL h0 cc own fr lo) {pc' : Nat} {As rest st0 : List XV} {r n index : Nat} {y : MethodName} {bytes : ByteArray} {maxL : Nat} {ret : Option FieldType} {fr1 lo1 : Nat} (hM : ∀ a h1, F = some (a, h1) → XCt l D y (wsW_ y bytes maxL ret hh) fr1 lo1 (xR r :: As) h (.inl (en a)) h1) (hs : As.reverse ++ xR r :: rest = st0) (hn : 1 ≤ n ∧ n < 17) (hlink : Cond.methodLink own index y ∈ lw_all) (hinst : Cond.instanceMethod y ∈ lw_all) (hsel : Cond.selects (xRn n) y y ∈ lw_all) (hq : Cond.codeWith y bytes maxL ret hh ∈ lw_all) (hini : Cond.initialized y.cls ∈ lw_all) (hy : (y.cls ≠ "java/lang/invoke/MethodHandle" ∧ y.cls ≠ "java/lang/invoke/VarHandle") ∧ (parseMethodDescriptor y.desc).map (fun d => d.parameters.length) = some As.length) (hfr : fr1 + 1 ≤ fr) (hlo : 8 + (maxL + 11) + lo1 ≤ lo) (hcat : (rest.map xc).sum ≤ 8) (hd : decode cc pc = .ok (.invokevirtual index, 3)) (hpc : pc + 3 = pc') (kk : ∀ (a : β) (h1 : AH), XF p l e R s m args below meth c D nL h0 Q pc' lv ((en a).toList ++ rest) h1 (kf a h1) C) : XF p l e R s m args below meth c D nL h0 Q pc lv st0 h (xb2 (xck h r n F) kf) C := by
  subst hpc
  subst hs
  unfold xb2 xck
  by_cases qk : hkd h r = n
  · rw [if_pos qk]
    exact x_callW (kf := fun z => kf z.1 z.2) K hM (fun ls H hR => by rw [List.map_append, List.map_reverse]; exact xs_VW K hR qk hn hlink hinst hsel hq hy hd) hq hini hfr hlo hcat kk
  · rw [if_neg qk]
    exact fun x hx => absurd hx (by simp)
theorem x_cSW {hh : List (Nat × Nat × Nat × Nat)} {β : Type} {F : Option (β × AH)} {kf : β → AH → Option α} {en : β → Option XV} (K : XO p R s m args meth c D nL h0 cc own fr lo) {pc' : Nat} {As rest st0 : List XV} {index : Nat} {y : MethodName} {bytes : ByteArray} {maxL : Nat} {ret : Option FieldType} {fr1 lo1 : Nat} (hM : ∀ a h1, F = some (a, h1) → XCt l D y (wsW_ y bytes maxL ret hh) fr1 lo1 As h (.inl (en a)) h1) (hs : As.reverse ++ rest = st0) (hlink : Cond.methodLink own index y ∈ lw_all) (hstat : Cond.static y ∈ lw_all) (hq : Cond.codeWith y bytes maxL ret hh ∈ lw_all) (hini : Cond.initialized y.cls ∈ lw_all) (hy : (y.cls ≠ "java/lang/invoke/MethodHandle" ∧ y.cls ≠ "java/lang/invoke/VarHandle") ∧ (parseMethodDescriptor y.desc).map (fun d => d.parameters.length) = some As.length) (hfr : fr1 + 1 ≤ fr) (hlo : 8 + (maxL + 11) + lo1 ≤ lo) (hcat : (rest.map xc).sum ≤ 8) (hd : decode cc pc = .ok (.invokestatic index, 3)) (hpc : pc + 3 = pc') (kk : ∀ (a : β) (h1 : AH), XF p l e R s m args below meth c D nL h0 Q pc' lv ((en a).toList ++ rest) h1 (kf a h1) C) : XF p l e R s m args below meth c D nL h0 Q pc lv st0 h (xb2 F kf) C := by
  subst hpc
  subst hs
  unfold xb2
  exact x_callW (kf := fun z => kf z.1 z.2) K hM (fun ls H hR => by rw [List.map_append, List.map_reverse]; exact xs_SW K hlink hstat hini hq hy hd) hq hini hfr hlo hcat kk
theorem x_catch (K : XO p R s m args meth c D nL h0 cc own fr lo) {a b hp ct r n : Nat} (htb : c.exceptionTable.toList = tableOf [(a, b, hp, ct)]) (hcv : covers (⟨a, b, hp, ct⟩ : ExceptionTableEntry) pc = true) (h0c : ct ≠ 0) (hn : 1 ≤ n ∧ n < 17) (hlink : Cond.classLink own ct (xRn n) ∈ lw_all) (hcast : Cond.castable (xRn n) (xRn n) ∈ lw_tbl) (k : XF p l e R s m args below meth c D nL h0 Q hp lv [xR r] h res C) : XX p l e R s m args below meth c D nL h0 Q pc lv st r h (if hkd h r = n then res else none) C := by
  intro x hx hc ls H locs q ce E hl hi hr hce hcv9 hcl
  subst hr
  by_cases q9 : hkd h (q + 1) = n
  · rw [if_pos q9] at hx
    obtain ⟨q8, g1, cell, q1, q2, q3, q4⟩ := hi.1.1 q _ (xent_c q9 hn.1 hn.2)
    have hfc := (K.2.2.2.2.2.1.1.1 n _ (xcl_at hn.2)).2.1
    cases Option.some.inj (hce.symm.trans q1)
    refine vx_catch (name := xRn n) (E := xRn n) K.2.2.2.1 [] (⟨a, b, hp, ct⟩ : ExceptionTableEntry) [] (by rw [htb]; rfl) (fun z hz => nomatch hz) hcv h0c (K.2.2.2.2.1 _ hlink) (K.2.2.2.2.2.1.nw hcast rfl rfl) hce hcv9 (by rw [q2]; exact hfc) ?_
    exact k x hx hc ls H locs hl hi
  · rw [if_neg q9] at hx
    exact absurd hx (by simp)
end XCallsW
