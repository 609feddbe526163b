/-! XK 11: inherited and overriding calls, receivers of several classes, arrays of an abstract class, NoSuchElementException (x_make0 follows vx_make0 of the starting text EXCEPTIONS.to-paste) -/
set_option maxRecDepth 100000
def xckm {β : Type} (h : AH) (r : Nat) (ns : List Nat) (F : Option β) : Option β := if hkd h r ∈ ns then F else none
def xckd {β : Type} (h : AH) (r : Nat) (ns : List Nat) (F : Nat → Option β) : Option β := if hkd h r ∈ ns then F (hkd h r) else none
section XK11
variable {p : Program} {l : Launch} {e : Env} {R : Room} {s : State} {m : MethodId} {args : Array Value} {below : List Frame} {meth : Method} {c : Code} {D : XD} {nL : Nat} {h0 : AH} {Q : State → Prop} {pc : Nat} {lv : XS} {st : List XV} {h : AH} {α : Type} {res : Option α} {C : α → Prop} {cc : ByteArray} {own : String} {fr lo : Nat}
theorem xdec_a (K : XO p R s m args meth c D nL h0 cc own fr lo) {z : MethodName} (q : Cond.declares z ∈ lw_tbl) : va_Decl s z := va_Decl.abs (K.2.2.2.2.2.1.2 _ q rfl)
theorem xdec_o (K : XO p R s m args meth c D nL h0 cc own fr lo) {z : MethodName} {b : ByteArray} {n : Nat} {ret : Option FieldType} (hi : Cond.instanceMethod z ∈ lw_all) (hc : Cond.code z b n ret ∈ lw_all) : va_Decl s z := va_Decl.of (K.2.2.2.2.1 _ hi) (K.2.2.2.2.1 _ hc)
theorem xs_U (K : XO p R s m args meth c D nL h0 cc own fr lo) {H : Heap} {ls : Array Slot} {As rest : List XV} {r n index : Nat} {owner : String} {x y : MethodName} (hR : XRep D h H) (hk : hkd h r = n) (hn : 1 ≤ n ∧ n < 17) (hlink : Cond.methodLink own index x ∈ lw_all) (hsame : Cond.sameMethod x.cls owner x.name x.desc ∈ lw_all) (hdec : va_Decl s ⟨owner, x.name, x.desc⟩) (howner : owner ≠ "java/lang/invoke/MethodHandle" ∧ owner ≠ "java/lang/invoke/VarHandle") (hinst : Cond.instanceMethod y ∈ lw_all) (hsel : Cond.selects (xRn n) x y ∈ lw_all) (hlen9 : (parseMethodDescriptor x.desc).map (fun d => d.parameters.length) = some As.length) (hd : decode cc pc = .ok (.invokevirtual index, 3)) : XStep p l e R s m args below meth c H pc ls ((As.map xv).reverse ++ va_rf (xo r) :: rest.map xv) (rest.map xv) y ((xR r :: As).map xv).toArray := by
  obtain ⟨a, cell, rfl, hcell, hvm, hcls⟩ := x_recv K hR hk hn
  have hts := K.2.2.2.2.1
  intro T locs cells slots hT X
  obtain ⟨r0, r9, hn0, hrm, hstR, hsigR⟩ := hdec
  obtain ⟨cn, ck, r1, hcn, hck, hni, hf, hn1⟩ := Cond.sameMethod_found (hts _ hsame)
  cases hn0.symm.trans hn1
  obtain ⟨mk, methM, hnamed, hmethM, -, habM⟩ := Cond.instanceMethod_spec (hts _ hinst)
  obtain ⟨c2, r2, m2, q1, q2, q3, q4, kP, hkP, hkPi⟩ := Cond.selects_spec (hts _ hsel)
  cases hcls.symm.trans q1
  cases hf.symm.trans q2
  cases hnamed.symm.trans q3
  have hselP : selectMethod e.platform s.vm cell.cls r0 = .method mk := by rw [Launch.admits_selectMethod X.admits]; exact q4
  have hlen : (As.map xv).length = r9.sig.parameters.length := by
    have h2 := hlen9
    rw [hsigR] at h2
    rw [List.length_map]
    exact (Option.some.inj h2).symm
  obtain ⟨vm₁, X₁, hstep₁⟩ := X.invokevirtualUp K.1 K.2.2.2.1 (hts _ hlink) (hts _ hsame) howner hn0 hrm hstR (a := a) (cell := cell) (by rw [hT]; exact hcell)
    (fun z h => by rw [hvm] at h; cases h) hselP hmethM habM hkP hkPi (g := F0 m pc ls ((As.map xv).reverse ++ va_rf (xo (a + 1)) :: rest.map xv)) rfl (argsL := As.map xv) (rest := rest.map xv) hlen rfl (by rw [K.2.1]; exact hd)
  exact ⟨vm₁, mk, _, X₁, X₁.named hnamed, (by rw [K.2.1]; exact hd), fun target h => hstep₁ _ fun acts => by rw [doInvoke_state]; exact h⟩
theorem xs_P (K : XO p R s m args meth c D nL h0 cc own fr lo) {H : Heap} {ls : Array Slot} {As rest : List XV} {r n index : Nat} {y : MethodName} {bytes : ByteArray} {maxL : Nat} {ret : Option FieldType} (hR : XRep D h H) (hk : hkd h r = n) (hn : 1 ≤ n ∧ n < 17) (hlink : Cond.methodLink own index y ∈ lw_all) (hsame : Cond.sameMethod y.cls y.cls y.name y.desc ∈ lw_all) (hpriv : Cond.privateMethod y ∈ lw_tbl) (hinst : Cond.instanceMethod y ∈ lw_all) (hq : Cond.code y bytes maxL ret ∈ lw_all) (hy : (y.cls ≠ "java/lang/invoke/MethodHandle" ∧ y.cls ≠ "java/lang/invoke/VarHandle") ∧ (parseMethodDescriptor y.desc).map (fun d => d.parameters.length) = some As.length) (hd : decode cc pc = .ok (.invokevirtual index, 3)) : XStep p l e R s m args below meth c H pc ls ((As.map xv).reverse ++ va_rf (xo r) :: rest.map xv) (rest.map xv) y ((xR r :: As).map xv).toArray := by
  obtain ⟨a, cell, rfl, hcell, hvm, hcls⟩ := x_recv K hR hk hn
  have hts := K.2.2.2.2.1
  have hpw : (Cond.privateMethod y).before args s = true := K.2.2.2.2.2.1.nw hpriv rfl rfl
  intro T locs cells slots hT X
  obtain ⟨mk, methM, hnamed, hmethM, hstM, habM⟩ := Cond.instanceMethod_spec (hts _ hinst)
  obtain ⟨methM', cM, hmethM', -, -, -, -, -, -, hsigM⟩ := Cond.code_spec hnamed (hts _ hq)
  cases hmethM.symm.trans hmethM'
  obtain ⟨cn, ck, r1, hcn, hck, hni, hf, hn1⟩ := Cond.sameMethod_found (hts _ hsame)
  cases hnamed.symm.trans hn1
  have hmc : mk.cls = cn := Option.some.inj ((findClass_of_methodNamed hnamed).symm.trans hcn)
  subst hmc
  have hselP : selectMethod e.platform s.vm cell.cls mk = .method mk := selectMethod_private hmethM (Cond.privateMethod_at hpw mk methM hnamed hmethM)
  have hlen : (As.map xv).length = methM.sig.parameters.length := by
    have h2 := hy.2
    rw [hsigM] at h2
    rw [List.length_map]
    exact (Option.some.inj h2).symm
  obtain ⟨vm₁, X₁, hstep₁⟩ := X.invokevirtual K.1 K.2.2.2.1 (hts _ hlink) hnamed hmethM hstM hck hni hy.1 (a := a) (cell := cell) (by rw [hT]; exact hcell)
    (fun z h => by rw [hvm] at h; cases h) hselP hmethM habM hck hni (g := F0 m pc ls ((As.map xv).reverse ++ va_rf (xo (a + 1)) :: rest.map xv)) rfl (argsL := As.map xv) (rest := rest.map xv) hlen rfl (by rw [K.2.1]; exact hd)
  exact ⟨vm₁, mk, _, X₁, X₁.named hnamed, (by rw [K.2.1]; exact hd), fun target h => hstep₁ _ fun acts => by rw [doInvoke_state]; exact h⟩
theorem x_cU {β : Type} {F : Option (β × AH)} {kf : β → AH → Option α} {en : β → Option XV} (K : XO p R s m args meth c D nL h0 cc own fr lo) {pc' : Nat} {As rest st0 : List XV} {r index : Nat} {ns : List Nat} {owner : String} {x y : MethodName} {bytes : ByteArray} {maxL : Nat} {ret : Option FieldType} {fr1 lo1 : Nat} (hM : ∀ a h1, F = some (a, h1) → XCt l D y (ws_ y bytes maxL ret) fr1 lo1 (xR r :: As) h (.inl (en a)) h1) (hs : As.reverse ++ xR r :: rest = st0) (hn : ∀ n ∈ ns, 1 ≤ n ∧ n < 17) (hlink : Cond.methodLink own index x ∈ lw_all) (hsame : Cond.sameMethod x.cls owner x.name x.desc ∈ lw_all) (hdec : va_Decl s ⟨owner, x.name, x.desc⟩) (howner : owner ≠ "java/lang/invoke/MethodHandle" ∧ owner ≠ "java/lang/invoke/VarHandle") (hinst : Cond.instanceMethod y ∈ lw_all) (hsel : ∀ n ∈ ns, Cond.selects (xRn n) x y ∈ lw_all) (hq : Cond.code y bytes maxL ret ∈ lw_all) (hini : Cond.initialized y.cls ∈ lw_all) (hlen : (parseMethodDescriptor x.desc).map (fun d => d.parameters.length) = some As.length) (hfr : fr1 + 1 ≤ fr) (hlo : 8 + (maxL + 11) + lo1 ≤ lo) (hcat : (rest.map xc).sum ≤ 8) (hd : decode cc pc = .ok (.invokevirtual index, 3)) (hpc : pc + 3 = pc') (kk : ∀ (a : β) (h1 : AH), XF p l e R s m args below meth c D nL h0 Q pc' lv ((en a).toList ++ rest) h1 (kf a h1) C) : XF p l e R s m args below meth c D nL h0 Q pc lv st0 h (xb2 (xckm h r ns F) kf) C := by
  subst hpc
  subst hs
  unfold xb2 xckm
  by_cases qk : hkd h r ∈ ns
  · rw [if_pos qk]
    exact x_call (kf := fun z => kf z.1 z.2) K hM (fun ls H hR => by rw [List.map_append, List.map_reverse]; exact xs_U K hR rfl (hn _ qk) hlink hsame hdec howner hinst (hsel _ qk) hlen hd) hq hini hfr hlo hcat kk
  · rw [if_neg qk]
    exact fun x hx => absurd hx (by simp)
theorem x_cVm {β : Type} {F : Option (β × AH)} {kf : β → AH → Option α} {en : β → Option XV} (K : XO p R s m args meth c D nL h0 cc own fr lo) {pc' : Nat} {As rest st0 : List XV} {r index : Nat} {ns : List Nat} {y : MethodName} {bytes : ByteArray} {maxL : Nat} {ret : Option FieldType} {fr1 lo1 : Nat} (hM : ∀ a h1, F = some (a, h1) → XCt l D y (ws_ y bytes maxL ret) fr1 lo1 (xR r :: As) h (.inl (en a)) h1) (hs : As.reverse ++ xR r :: rest = st0) (hn : ∀ n ∈ ns, 1 ≤ n ∧ n < 17) (hlink : Cond.methodLink own index y ∈ lw_all) (hinst : Cond.instanceMethod y ∈ lw_all) (hsel : ∀ n ∈ ns, Cond.selects (xRn n) y y ∈ lw_all) (hq : Cond.code y bytes maxL ret ∈ lw_all) (hini : Cond.initialized y.cls ∈ lw_all) (hy : (y.cls ≠ "java/lang/invoke/MethodHandle" ∧ y.cls ≠ "java/lang/invoke/VarHandle") ∧ (parseMethodDescriptor y.desc).map (fun d => d.parameters.length) = some As.length) (hfr : fr1 + 1 ≤ fr) (hlo : 8 + (maxL + 11) + lo1 ≤ lo) (hcat : (rest.map xc).sum ≤ 8) (hd : decode cc pc = .ok (.invokevirtual index, 3)) (hpc : pc + 3 = pc') (kk : ∀ (a : β) (h1 : AH), XF p l e R s m args below meth c D nL h0 Q pc' lv ((en a).toList ++ rest) h1 (kf a h1) C) : XF p l e R s m args below meth c D nL h0 Q pc lv st0 h (xb2 (xckm h r ns F) kf) C := by
  subst hpc
  subst hs
  unfold xb2 xckm
  by_cases qk : hkd h r ∈ ns
  · rw [if_pos qk]
    exact x_call (kf := fun z => kf z.1 z.2) K hM (fun ls H hR => by rw [List.map_append, List.map_reverse]; exact xs_V K hR rfl (hn _ qk) hlink hinst (hsel _ qk) hq hy hd) hq hini hfr hlo hcat kk
  · rw [if_neg qk]
    exact fun x hx => absurd hx (by simp)
theorem x_cP {β : Type} {F : Option (β × AH)} {kf : β → AH → Option α} {en : β → Option XV} (K : XO p R s m args meth c D nL h0 cc own fr lo) {pc' : Nat} {As rest st0 : List XV} {r index : Nat} {ns : List Nat} {y : MethodName} {bytes : ByteArray} {maxL : Nat} {ret : Option FieldType} {fr1 lo1 : Nat} (hM : ∀ a h1, F = some (a, h1) → XCt l D y (ws_ y bytes maxL ret) fr1 lo1 (xR r :: As) h (.inl (en a)) h1) (hs : As.reverse ++ xR r :: rest = st0) (hn : ∀ n ∈ ns, 1 ≤ n ∧ n < 17) (hlink : Cond.methodLink own index y ∈ lw_all) (hsame : Cond.sameMethod y.cls y.cls y.name y.desc ∈ lw_all) (hpriv : Cond.privateMethod y ∈ lw_tbl) (hinst : Cond.instanceMethod y ∈ lw_all) (hq : Cond.code y bytes maxL ret ∈ lw_all) (hini : Cond.initialized y.cls ∈ lw_all) (hy : (y.cls ≠ "java/lang/invoke/MethodHandle" ∧ y.cls ≠ "java/lang/invoke/VarHandle") ∧ (parseMethodDescriptor y.desc).map (fun d => d.parameters.length) = some As.length) (hfr : fr1 + 1 ≤ fr) (hlo : 8 + (maxL + 11) + lo1 ≤ lo) (hcat : (rest.map xc).sum ≤ 8) (hd : decode cc pc = .ok (.invokevirtual index, 3)) (hpc : pc + 3 = pc') (kk : ∀ (a : β) (h1 : AH), XF p l e R s m args below meth c D nL h0 Q pc' lv ((en a).toList ++ rest) h1 (kf a h1) C) : XF p l e R s m args below meth c D nL h0 Q pc lv st0 h (xb2 (xckm h r ns F) kf) C := by
  subst hpc
  subst hs
  unfold xb2 xckm
  by_cases qk : hkd h r ∈ ns
  · rw [if_pos qk]
    exact x_call (kf := fun z => kf z.1 z.2) K hM (fun ls H hR => by rw [List.map_append, List.map_reverse]; exact xs_P K hR rfl (hn _ qk) hlink hsame hpriv hinst hq hy hd) hq hini hfr hlo hcat kk
  · rw [if_neg qk]
    exact fun x hx => absurd hx (by simp)
theorem x_cIm {β : Type} {F : Option (β × AH)} {kf : β → AH → Option α} {en : β → Option XV} (K : XO p R s m args meth c D nL h0 cc own fr lo) {pc' : Nat} {As rest st0 : List XV} {r index : Nat} {ns : List Nat} {y : MethodName} {bytes : ByteArray} {maxL : Nat} {fr1 lo1 : Nat} (hM : ∀ a h1, F = some (a, h1) → XCt l D y (ws_ y bytes maxL none) fr1 lo1 (xR r :: As) h (.inl (en a)) h1) (hs : As.reverse ++ xR r :: rest = st0) (hn : ∀ n ∈ ns, 1 ≤ n ∧ n < 17) (hlink : Cond.methodLink own index y ∈ lw_all) (hy1 : y.name = "<init>") (hinst : Cond.instanceMethod y ∈ lw_all) (hq : Cond.code y bytes maxL none ∈ lw_all) (hini : Cond.initialized y.cls ∈ lw_all) (hy : (y.cls ≠ "java/lang/invoke/MethodHandle" ∧ y.cls ≠ "java/lang/invoke/VarHandle") ∧ (parseMethodDescriptor y.desc).map (fun d => d.parameters.length) = some As.length) (hfr : fr1 + 1 ≤ fr) (hlo : 8 + (maxL + 11) + lo1 ≤ lo) (hcat : (rest.map xc).sum ≤ 8) (hd : decode cc pc = .ok (.invokespecial index, 3)) (hpc : pc + 3 = pc') (kk : ∀ (a : β) (h1 : AH), XF p l e R s m args below meth c D nL h0 Q pc' lv ((en a).toList ++ rest) h1 (kf a h1) C) : XF p l e R s m args below meth c D nL h0 Q pc lv st0 h (xb2 (xckm h r ns F) kf) C := by
  subst hpc
  subst hs
  unfold xb2 xckm
  by_cases qk : hkd h r ∈ ns
  · rw [if_pos qk]
    exact x_call (kf := fun z => kf z.1 z.2) K hM (fun ls H hR => by rw [List.map_append, List.map_reverse]; exact xs_I K hR rfl (hn _ qk) hlink hy1 hinst hq hy hd) hq hini hfr hlo hcat kk
  · rw [if_neg qk]
    exact fun x hx => absurd hx (by simp)
theorem x_cUO {β : Type} {F : Option β} {kf : β → Option α} {en : β → Option XV} (K : XO p R s m args meth c D nL h0 cc own fr lo) {pc' : Nat} {As rest st0 : List XV} {r index : Nat} {ns : List Nat} {owner : String} {x y : MethodName} {bytes : ByteArray} {maxL : Nat} {ret : Option FieldType} {fr1 lo1 : Nat} (hM : ∀ a, F = some a → XCt l D y (ws_ y bytes maxL ret) fr1 lo1 (xR r :: As) h (.inl (en a)) h) (hs : As.reverse ++ xR r :: rest = st0) (hn : ∀ n ∈ ns, 1 ≤ n ∧ n < 17) (hlink : Cond.methodLink own index x ∈ lw_all) (hsame : Cond.sameMethod x.cls owner x.name x.desc ∈ lw_all) (hdec : va_Decl s ⟨owner, x.name, x.desc⟩) (howner : owner ≠ "java/lang/invoke/MethodHandle" ∧ owner ≠ "java/lang/invoke/VarHandle") (hinst : Cond.instanceMethod y ∈ lw_all) (hsel : ∀ n ∈ ns, Cond.selects (xRn n) x y ∈ lw_all) (hq : Cond.code y bytes maxL ret ∈ lw_all) (hini : Cond.initialized y.cls ∈ lw_all) (hlen : (parseMethodDescriptor x.desc).map (fun d => d.parameters.length) = some As.length) (hfr : fr1 + 1 ≤ fr) (hlo : 8 + (maxL + 11) + lo1 ≤ lo) (hcat : (rest.map xc).sum ≤ 8) (hd : decode cc pc = .ok (.invokevirtual index, 3)) (hpc : pc + 3 = pc') (kk : ∀ (a : β), XF p l e R s m args below meth c D nL h0 Q pc' lv ((en a).toList ++ rest) h (kf a) C) : XF p l e R s m args below meth c D nL h0 Q pc lv st0 h ((xckm h r ns F).bind kf) C := by
  subst hpc
  subst hs
  unfold xckm
  by_cases qk : hkd h r ∈ ns
  · rw [if_pos qk]
    exact x_callO K hM (fun ls H hR => by rw [List.map_append, List.map_reverse]; exact xs_U K hR rfl (hn _ qk) hlink hsame hdec howner hinst (hsel _ qk) hlen hd) hq hini hfr hlo hcat kk
  · rw [if_neg qk]
    exact fun x hx => absurd hx (by simp)
theorem x_cVmO {β : Type} {F : Option β} {kf : β → Option α} {en : β → Option XV} (K : XO p R s m args meth c D nL h0 cc own fr lo) {pc' : Nat} {As rest st0 : List XV} {r index : Nat} {ns : List Nat} {y : MethodName} {bytes : ByteArray} {maxL : Nat} {ret : Option FieldType} {fr1 lo1 : Nat} (hM : ∀ a, F = some a → XCt l D y (ws_ y bytes maxL ret) fr1 lo1 (xR r :: As) h (.inl (en a)) h) (hs : As.reverse ++ xR r :: rest = st0) (hn : ∀ n ∈ ns, 1 ≤ n ∧ n < 17) (hlink : Cond.methodLink own index y ∈ lw_all) (hinst : Cond.instanceMethod y ∈ lw_all) (hsel : ∀ n ∈ ns, Cond.selects (xRn n) y y ∈ lw_all) (hq : Cond.code y bytes maxL ret ∈ lw_all) (hini : Cond.initialized y.cls ∈ lw_all) (hy : (y.cls ≠ "java/lang/invoke/MethodHandle" ∧ y.cls ≠ "java/lang/invoke/VarHandle") ∧ (parseMethodDescriptor y.desc).map (fun d => d.parameters.length) = some As.length) (hfr : fr1 + 1 ≤ fr) (hlo : 8 + (maxL + 11) + lo1 ≤ lo) (hcat : (rest.map xc).sum ≤ 8) (hd : decode cc pc = .ok (.invokevirtual index, 3)) (hpc : pc + 3 = pc') (kk : ∀ (a : β), XF p l e R s m args below meth c D nL h0 Q pc' lv ((en a).toList ++ rest) h (kf a) C) : XF p l e R s m args below meth c D nL h0 Q pc lv st0 h ((xckm h r ns F).bind kf) C := by
  subst hpc
  subst hs
  unfold xckm
  by_cases qk : hkd h r ∈ ns
  · rw [if_pos qk]
    exact x_callO K hM (fun ls H hR => by rw [List.map_append, List.map_reverse]; exact xs_V K hR rfl (hn _ qk) hlink hinst (hsel _ qk) hq hy hd) hq hini hfr hlo hcat kk
  · rw [if_neg qk]
    exact fun x hx => absurd hx (by simp)
theorem x_cPO {β : Type} {F : Option β} {kf : β → Option α} {en : β → Option XV} (K : XO p R s m args meth c D nL h0 cc own fr lo) {pc' : Nat} {As rest st0 : List XV} {r index : Nat} {ns : List Nat} {y : MethodName} {bytes : ByteArray} {maxL : Nat} {ret : Option FieldType} {fr1 lo1 : Nat} (hM : ∀ a, F = some a → XCt l D y (ws_ y bytes maxL ret) fr1 lo1 (xR r :: As) h (.inl (en a)) h) (hs : As.reverse ++ xR r :: rest = st0) (hn : ∀ n ∈ ns, 1 ≤ n ∧ n < 17) (hlink : Cond.methodLink own index y ∈ lw_all) (hsame : Cond.sameMethod y.cls y.cls y.name y.desc ∈ lw_all) (hpriv : Cond.privateMethod y ∈ lw_tbl) (hinst : Cond.instanceMethod y ∈ lw_all) (hq : Cond.code y bytes maxL ret ∈ lw_all) (hini : Cond.initialized y.cls ∈ lw_all) (hy : (y.cls ≠ "java/lang/invoke/MethodHandle" ∧ y.cls ≠ "java/lang/invoke/VarHandle") ∧ (parseMethodDescriptor y.desc).map (fun d => d.parameters.length) = some As.length) (hfr : fr1 + 1 ≤ fr) (hlo : 8 + (maxL + 11) + lo1 ≤ lo) (hcat : (rest.map xc).sum ≤ 8) (hd : decode cc pc = .ok (.invokevirtual index, 3)) (hpc : pc + 3 = pc') (kk : ∀ (a : β), XF p l e R s m args below meth c D nL h0 Q pc' lv ((en a).toList ++ rest) h (kf a) C) : XF p l e R s m args below meth c D nL h0 Q pc lv st0 h ((xckm h r ns F).bind kf) C := by
  subst hpc
  subst hs
  unfold xckm
  by_cases qk : hkd h r ∈ ns
  · rw [if_pos qk]
    exact x_callO K hM (fun ls H hR => by rw [List.map_append, List.map_reverse]; exact xs_P K hR rfl (hn _ qk) hlink hsame hpriv hinst hq hy hd) hq hini hfr hlo hcat kk
  · rw [if_neg qk]
    exact fun x hx => absurd hx (by simp)
theorem x_cImO {β : Type} {F : Option β} {kf : β → Option α} {en : β → Option XV} (K : XO p R s m args meth c D nL h0 cc own fr lo) {pc' : Nat} {As rest st0 : List XV} {r index : Nat} {ns : List Nat} {y : MethodName} {bytes : ByteArray} {maxL : Nat} {fr1 lo1 : Nat} (hM : ∀ a, F = some a → XCt l D y (ws_ y bytes maxL none) fr1 lo1 (xR r :: As) h (.inl (en a)) h) (hs : As.reverse ++ xR r :: rest = st0) (hn : ∀ n ∈ ns, 1 ≤ n ∧ n < 17) (hlink : Cond.methodLink own index y ∈ lw_all) (hy1 : y.name = "<init>") (hinst : Cond.instanceMethod y ∈ lw_all) (hq : Cond.code y bytes maxL none ∈ lw_all) (hini : Cond.initialized y.cls ∈ lw_all) (hy : (y.cls ≠ "java/lang/invoke/MethodHandle" ∧ y.cls ≠ "java/lang/invoke/VarHandle") ∧ (parseMethodDescriptor y.desc).map (fun d => d.parameters.length) = some As.length) (hfr : fr1 + 1 ≤ fr) (hlo : 8 + (maxL + 11) + lo1 ≤ lo) (hcat : (rest.map xc).sum ≤ 8) (hd : decode cc pc = .ok (.invokespecial index, 3)) (hpc : pc + 3 = pc') (kk : ∀ (a : β), XF p l e R s m args below meth c D nL h0 Q pc' lv ((en a).toList ++ rest) h (kf a) C) : XF p l e R s m args below meth c D nL h0 Q pc lv st0 h ((xckm h r ns F).bind kf) C := by
  subst hpc
  subst hs
  unfold xckm
  by_cases qk : hkd h r ∈ ns
  · rw [if_pos qk]
    exact x_callO K hM (fun ls H hR => by rw [List.map_append, List.map_reverse]; exact xs_I K hR rfl (hn _ qk) hlink hy1 hinst hq hy hd) hq hini hfr hlo hcat kk
  · rw [if_neg qk]
    exact fun x hx => absurd hx (by simp)
theorem x_cUX {β : Type} {F : Option ((β ⊕ Nat) × AH)} {kf : β → AH → Option α} {kx0 : Nat → AH → Option α} {en : β → Option XV} (K : XO p R s m args meth c D nL h0 cc own fr lo) {pc' : Nat} {As rest st0 : List XV} {r index : Nat} {ns : List Nat} {owner : String} {x y : MethodName} {bytes : ByteArray} {maxL : Nat} {ret : Option FieldType} {fr1 lo1 : Nat} (hM : ∀ a h1, F = some (a, h1) → XCt l D y (ws_ y bytes maxL ret) fr1 lo1 (xR r :: As) h (Sum.elim (fun b => .inl (en b)) .inr a) h1) (hs : As.reverse ++ xR r :: rest = st0) (hn : ∀ n ∈ ns, 1 ≤ n ∧ n < 17) (hlink : Cond.methodLink own index x ∈ lw_all) (hsame : Cond.sameMethod x.cls owner x.name x.desc ∈ lw_all) (hdec : va_Decl s ⟨owner, x.name, x.desc⟩) (howner : owner ≠ "java/lang/invoke/MethodHandle" ∧ owner ≠ "java/lang/invoke/VarHandle") (hinst : Cond.instanceMethod y ∈ lw_all) (hsel : ∀ n ∈ ns, Cond.selects (xRn n) x y ∈ lw_all) (hq : Cond.code y bytes maxL ret ∈ lw_all) (hini : Cond.initialized y.cls ∈ lw_all) (hlen : (parseMethodDescriptor x.desc).map (fun d => d.parameters.length) = some As.length) (hfr : fr1 + 1 ≤ fr) (hlo : 8 + (maxL + 11) + lo1 ≤ lo) (hcat : (rest.map xc).sum ≤ 8) (hd : decode cc pc = .ok (.invokevirtual index, 3)) (hpc : pc + 3 = pc') (kk : ∀ (a : β) (h1 : AH), XF p l e R s m args below meth c D nL h0 Q pc' lv ((en a).toList ++ rest) h1 (kf a h1) C) (kx : ∀ (r : Nat) (h1 : AH), XX p l e R s m args below meth c D nL h0 Q pc lv rest r h1 (kx0 r h1) C) : XF p l e R s m args below meth c D nL h0 Q pc lv st0 h (xb3 (xckm h r ns F) kf kx0) C := by
  subst hpc
  subst hs
  unfold xb3 xckm
  by_cases qk : hkd h r ∈ ns
  · rw [if_pos qk]
    exact x_callX (kf := fun z => Sum.elim (fun a => kf a z.2) (fun r => kx0 r z.2) z.1) K hM (fun ls H hR => by rw [List.map_append, List.map_reverse]; exact xs_U K hR rfl (hn _ qk) hlink hsame hdec howner hinst (hsel _ qk) hlen hd) hq hini hfr hlo hcat kk kx
  · rw [if_neg qk]
    exact fun x hx => absurd hx (by simp)
theorem x_cVmX {β : Type} {F : Option ((β ⊕ Nat) × AH)} {kf : β → AH → Option α} {kx0 : Nat → AH → Option α} {en : β → Option XV} (K : XO p R s m args meth c D nL h0 cc own fr lo) {pc' : Nat} {As rest st0 : List XV} {r index : Nat} {ns : List Nat} {y : MethodName} {bytes : ByteArray} {maxL : Nat} {ret : Option FieldType} {fr1 lo1 : Nat} (hM : ∀ a h1, F = some (a, h1) → XCt l D y (ws_ y bytes maxL ret) fr1 lo1 (xR r :: As) h (Sum.elim (fun b => .inl (en b)) .inr a) h1) (hs : As.reverse ++ xR r :: rest = st0) (hn : ∀ n ∈ ns, 1 ≤ n ∧ n < 17) (hlink : Cond.methodLink own index y ∈ lw_all) (hinst : Cond.instanceMethod y ∈ lw_all) (hsel : ∀ n ∈ ns, Cond.selects (xRn n) y y ∈ lw_all) (hq : Cond.code y bytes maxL ret ∈ lw_all) (hini : Cond.initialized y.cls ∈ lw_all) (hy : (y.cls ≠ "java/lang/invoke/MethodHandle" ∧ y.cls ≠ "java/lang/invoke/VarHandle") ∧ (parseMethodDescriptor y.desc).map (fun d => d.parameters.length) = some As.length) (hfr : fr1 + 1 ≤ fr) (hlo : 8 + (maxL + 11) + lo1 ≤ lo) (hcat : (rest.map xc).sum ≤ 8) (hd : decode cc pc = .ok (.invokevirtual index, 3)) (hpc : pc + 3 = pc') (kk : ∀ (a : β) (h1 : AH), XF p l e R s m args below meth c D nL h0 Q pc' lv ((en a).toList ++ rest) h1 (kf a h1) C) (kx : ∀ (r : Nat) (h1 : AH), XX p l e R s m args below meth c D nL h0 Q pc lv rest r h1 (kx0 r h1) C) : XF p l e R s m args below meth c D nL h0 Q pc lv st0 h (xb3 (xckm h r ns F) kf kx0) C := by
  subst hpc
  subst hs
  unfold xb3 xckm
  by_cases qk : hkd h r ∈ ns
  · rw [if_pos qk]
    exact x_callX (kf := fun z => Sum.elim (fun a => kf a z.2) (fun r => kx0 r z.2) z.1) K hM (fun ls H hR => by rw [List.map_append, List.map_reverse]; exact xs_V K hR rfl (hn _ qk) hlink hinst (hsel _ qk) hq hy hd) hq hini hfr hlo hcat kk kx
  · rw [if_neg qk]
    exact fun x hx => absurd hx (by simp)
theorem x_cDO {β : Type} {F : Nat → Option β} {kf : β → Option α} {en : β → Option XV} (K : XO p R s m args meth c D nL h0 cc own fr lo) {pc' : Nat} {As rest st0 : List XV} {r index : Nat} {ns : List Nat} {owner : String} {x : MethodName} {y : Nat → MethodName} {bytes : Nat → ByteArray} {maxL : Nat → Nat} {ret : Option FieldType} {fr1 lo1 : Nat → Nat} (ha : ∀ n ∈ ns, (∀ a, F n = some a → XCt l D (y n) (ws_ (y n) (bytes n) (maxL n) ret) (fr1 n) (lo1 n) (xR r :: As) h (.inl (en a)) h) ∧ (1 ≤ n ∧ n < 17) ∧ Cond.instanceMethod (y n) ∈ lw_all ∧ Cond.selects (xRn n) x (y n) ∈ lw_all ∧ Cond.code (y n) (bytes n) (maxL n) ret ∈ lw_all ∧ Cond.initialized (y n).cls ∈ lw_all ∧ fr1 n + 1 ≤ fr ∧ 8 + (maxL n + 11) + lo1 n ≤ lo) (hs : As.reverse ++ xR r :: rest = st0) (hlink : Cond.methodLink own index x ∈ lw_all) (hsame : Cond.sameMethod x.cls owner x.name x.desc ∈ lw_all) (hdec : va_Decl s ⟨owner, x.name, x.desc⟩) (howner : owner ≠ "java/lang/invoke/MethodHandle" ∧ owner ≠ "java/lang/invoke/VarHandle") (hlen : (parseMethodDescriptor x.desc).map (fun d => d.parameters.length) = some As.length) (hcat : (rest.map xc).sum ≤ 8) (hd : decode cc pc = .ok (.invokevirtual index, 3)) (hpc : pc + 3 = pc') (kk : ∀ (a : β), XF p l e R s m args below meth c D nL h0 Q pc' lv ((en a).toList ++ rest) h (kf a) C) : XF p l e R s m args below meth c D nL h0 Q pc lv st0 h ((xckd h r ns F).bind kf) C := by
  subst hpc
  subst hs
  unfold xckd
  by_cases qk : hkd h r ∈ ns
  · rw [if_pos qk]
    obtain ⟨hM, hn, hinst, hsel, hq, hini, hfr, hlo⟩ := ha _ qk
    exact x_callO K hM (fun ls H hR => by rw [List.map_append, List.map_reverse]; exact xs_U K hR rfl hn hlink hsame hdec howner hinst hsel hlen hd) hq hini hfr hlo hcat kk
  · rw [if_neg qk]
    exact fun x hx => absurd hx (by simp)
theorem XCt.more {y : MethodName} {ws : List Cond} {fr1 lo1 fr2 lo2 : Nat} {As : List XV} {oc : Option XV ⊕ Nat} {h1 : AH} (h9 : XCt l D y ws fr1 lo1 As h oc h1) (e1 : fr1 = fr2) (e2 : lo1 = lo2) : XCt l D y ws fr2 lo2 As h oc h1 := by
  subst e1; subst e2; exact h9
theorem x_rastc (K : XO p R s m args meth c D nL h0 cc own fr lo) {pc' : Nat} {r : Nat} {i : Int32} {v t : Nat} {E : String} {ns : List Nat} {kf : AH → Option α} (ht : 104 ≤ t ∧ t ≤ 108) (htn : xat_ t = .object E) (hns : ∀ n ∈ ns, (1 ≤ n ∧ n < 17) ∧ Cond.castable (xRn n) E ∈ lw_tbl) (hd : decode cc pc = .ok (.aastore, 1)) (hpc : pc + 1 = pc') (kk : ∀ h1 : AH, XF p l e R s m args below meth c D nL h0 Q pc' lv st h1 (kf h1) C) : XF p l e R s m args below meth c D nL h0 Q pc lv (xR v :: xI i :: xR r :: st) h ((xsr h r t ns i v).bind kf) C := by
  subst hpc
  intro x hx hc ls H locs hl hi
  unfold xsr at hx
  by_cases q : hkd h r = t ∧ 0 ≤ i.toInt ∧ i.toInt < hln h r ∧ (v = 0 ∨ hkd h v ∈ ns)
  · rw [if_pos q] at hx
    obtain ⟨hR, hsize, hS, hD⟩ := id hi
    obtain ⟨a, rfl⟩ := xrep_ad hR (r := r) (by rw [q.1]; omega)
    have hin := xi_in q.2.1 q.2.2.1
    have hcell := hR.1 a _ (xent_q q.1 ht.1 ht.2)
    have hK := K.2.2.2.2.2.1.1
    have htt := hK.2 _ _ (xtys_at D (Nat.le_trans (by decide) ht.1) ht.2)
    rw [htn] at htt
    have fin : ∀ (H1 : Heap), H1[a]? = some ((vp_cell (D.2.2 t) (hln h (a + 1), .inr (.inr (.inr (.inr fun j => xo (hrv h (a + 1) j)))))).setSlot i.toNatClampNeg (va_rf (xo v))) → H1.size = H.size → (∀ q, q ≠ a → H1[q]? = H[q]?) → W p l e R s m args below meth c H1 (locs ++ [⟨a, i.toNatClampNeg⟩]) (hsz h - hsz h0) (hsl h - hsl h0) Q (F0 m (pc + 1) ls (st.map xv)) := by
      intro H1 e1 e2 e3
      refine kk (hsR h (a + 1) i.toNatClampNeg v) x hx hc ls H1 _ hl ⟨xrep_upd hR rfl (fun r' n => xent_R n) e3 (xent_q (h := hsR h (a + 1) i.toNatClampNeg v) q.1 ht.1 ht.2) ?_, by rw [e2]; exact hsize, hS.put e2 e3 (hD.1 a (by rw [q.1]; omega)), hD⟩
      show H1[a]? = some (vp_cell _ _)
      rw [e1, vp_cell_q, vp_cell_q, arrV_store]
      congr 2
      funext j
      rw [show hrv (hsR h (a + 1) i.toNatClampNeg v) (a + 1) = va_up (hrv h (a + 1)) i.toNatClampNeg v from xu_same]
      by_cases hj : j = i.toNatClampNeg
      · subst hj
        simp [updV, va_up]
      · simp [updV, va_up, hj]
    have hlt : i.toNatClampNeg < hln h (a + 1) := Nat.not_le.mp fun q => hin (Or.inr q)
    have hn0 : ¬ i < 0 := fun q => hin (Or.inl q)
    rcases q.2.2.2 with rfl | hv
    · exact va_WaastN (C := E) K.1 K.2.1 hcell (htt.1 _ (fun j => va_rf (xo (hrv h (a + 1) j)))) (fun z => by cases z) (by show ¬ (i < 0 ∨ (arrV _ _ _).slots.size ≤ _); rw [arrV_size]; exact hin) rfl rfl hd fin
    · obtain ⟨hn, hcast⟩ := hns _ hv
      obtain ⟨b, rfl⟩ := xrep_ad hR (r := v) (by omega)
      obtain ⟨r', g0, cellV, g1, g2, g3, -⟩ := hR.1 b _ (xent_c rfl hn.1 hn.2)
      have hcls := (hK.1 _ _ (xcl_at hn.2)).2
      obtain ⟨kA, comp, k1, k2, k3, -⟩ := htt.2
      obtain ⟨cs, ct, c1, c2, c3⟩ := Cond.castable_spec (K.2.2.2.2.2.1.nw (args := args) hcast rfl rfl)
      have e9 : ct = comp := Option.some.inj (c2.symm.trans k3)
      have e8 : cs = D.1 (hkd h (b + 1)) := Option.some.inj (c1.symm.trans hcls.1)
      subst e9
      subst e8
      obtain ⟨kT, hkT, -⟩ := Vm.findClass_spec c2
      obtain ⟨kC, hkC, -⟩ := hcls.2
      exact W.aast K.1 K.2.1 hcell (fun q h => by cases h) (fun h => by cases h) k1 k2 rfl hkT ⟨hn0, by show _ < (arrV _ _ _).slots.size; rw [arrV_size]; exact hlt⟩ g1 (fun q h => by rw [g3] at h; cases h) (by rw [g2]; exact hkC) (by rw [g2]; exact c3) rfl rfl hd fin
  · rw [if_neg q] at hx
    exact absurd hx (by simp)
theorem xzq (K : XO p R s m args meth c D nL h0 cc own fr lo) {k : Nat} (hk : k < 2) : vx_Zq (xsg k).1 (xsg k).2.1 (xsg k).2.2 (XAr h0) s s.heap := by
  obtain ⟨e1, e2, e3, e4, e5, e6⟩ := K.2.2.2.2.2.2.2.2
  refine ⟨?_, e3 k hk⟩
  have h1 := e1 k (Nat.lt_trans hk (by decide))
  cases hz : hcs h0 k with
  | zero => rw [hz] at h1; exact Or.inl h1
  | succ a => rw [hz] at h1; exact Or.inr ⟨a, h1⟩
def xnsN : List String := ["java/lang/RuntimeException", "java/lang/Exception"]
def xnsE : String := "java/util/NoSuchElementException"
theorem xns_in : ∀ w ∈ vx_at0 "FaceCoins" 147 xnsE xnsN, (w ∈ lw_all) ∨ (w ∈ lw_tbl ∧ xnw w = true ∧ w.onTables = true) := by
  have h9 : (vx_at0 "FaceCoins" 147 xnsE xnsN).all (fun w => lw_tbl.contains w && (goodWord w || (xnw w && w.onTables))) = true := by decide +kernel
  intro w hw
  have h1 := List.all_eq_true.mp h9 w hw
  rw [Bool.and_eq_true, Bool.or_eq_true, Bool.and_eq_true] at h1
  have h2 : w ∈ lw_tbl := List.contains_iff_mem.mp h1.1
  rcases h1.2 with h | h
  · exact Or.inl (lw_g h2 h)
  · exact Or.inr ⟨h2, h.1, h.2⟩
theorem xns_ot : ∀ w ∈ Cond.classLink "FaceCoins" 145 xnsE :: Cond.initialized xnsE :: vx_at0 "FaceCoins" 147 xnsE xnsN, vx_ot w = true := by
  have h9 : (Cond.classLink "FaceCoins" 145 xnsE :: Cond.initialized xnsE :: vx_at0 "FaceCoins" 147 xnsE xnsN).all vx_ot = true := by decide +kernel
  exact List.all_eq_true.mp h9
theorem x_make0 (K : XO p R s m args meth c D nL h0 cc "FaceCoins" fr lo) {pc' : Nat} {kf : Nat → AH → Option α} (hl9 : l.stackTraces = false) (hk9 : Cond.classLink "FaceCoins" 145 xnsE ∈ lw_all) (hini9 : Cond.initialized xnsE ∈ lw_all) (d0 : decode cc pc = .ok (.new 145, 3)) (d3 : decode cc (pc + 3) = .ok (.dup, 1)) (d4 : decode cc (pc + 4) = .ok (.invokespecial 147, 3)) (hpc : pc + 7 = pc') (hfr : 6 ≤ fr) (hlo : (st.map xc).sum + 81 ≤ lo) (kk : ∀ (r : Nat) (h1 : AH), XF p l e R s m args below meth c D nL h0 Q pc' lv (xR r :: st) h1 (kf r h1) C) : XF p l e R s m args below meth c D nL h0 Q pc lv st h (xb2 (xnew h 16 6) kf) C := by
  subst hpc
  intro x hx hc ls H locs hl hi
  unfold xb2 xnew at hx
  by_cases q9 : hsz h + 1 ≤ hcap h ∧ hsl h + 6 ≤ hscap h
  · rw [if_pos q9] at hx
    obtain ⟨hR, hsize, hS, hD⟩ := id hi
    obtain ⟨g1, g2, g3, g4, g5, g6, g7, g8⟩ := id hD
    have hts := K.2.2.2.2.1
    have hRm := K.2.2.2.2.2.2.1
    have hexec := K.1
    have hb := K.2.1
    have hown := K.2.2.2.1
    have hat : ∀ w ∈ vx_at0 "FaceCoins" 147 xnsE xnsN, w.before args s = true := fun w hw => by
      rcases xns_in w hw with h | ⟨h1, h2, h3⟩
      · exact hts _ h
      · exact K.2.2.2.2.2.1.nw h1 h2 h3
    have hgood := xns_ot
    have hU := xzq K (k := 0) (by decide)
    have hN := xzq K (k := 1) (by decide)
    have hRcells : hsz h - hsz h0 + 1 ≤ R.cells := by rw [hRm]; show _ ≤ hcap h0 - hsz h0; omega
    have hRslots : hsl h - hsl h0 + 6 ≤ R.slots := by rw [hRm]; show _ ≤ hscap h0 - hsl h0; omega
    intro T hT X
    subst hT
    have htr : e.platform.stackTraces = false := (show e.platform.stackTraces = l.stackTraces by rw [X.admits.platform]).trans hl9
    have Y := vx_rebase X (R' := { frames := R.frames, locals := R.locals, cells := 1, slots := 6 }) (Nat.le_refl _) (Nat.le_refl _) hRcells hRslots
    obtain ⟨s', hA'⟩ : ∃ z, z = (T.setVm s.vm).setFrames (.invoking m args :: below) := ⟨_, rfl⟩
    rw [← hA'] at Y
    have hvm : s'.vm = s.vm := by rw [hA']; rfl
    have hhp : s'.heap = T.heap := by rw [hA']; rfl
    have hW0 : s.WarmedH s'.vm := by rw [hvm]; exact State.WarmedH.refl s
    have hat' : ∀ w ∈ vx_at0 "FaceCoins" 147 xnsE xnsN, w.before args s' = true := fun w hw => vx_ot_at hW0 hvm.symm (hgood w (List.mem_cons_of_mem _ (List.mem_cons_of_mem _ hw))) (hat w hw)
    have hk' : (Cond.classLink "FaceCoins" 145 xnsE).before args s' = true := vx_ot_at hW0 hvm.symm (hgood _ List.mem_cons_self) (hts _ hk9)
    have hini' : (Cond.initialized xnsE).before args s' = true := vx_ot_at hW0 hvm.symm (hgood _ (List.mem_cons_of_mem _ List.mem_cons_self)) (hts _ hini9)
    have hU' : vx_Zq Bundle.tN "UNASSIGNED_STACK" Bundle.steD (XAr h0) s' s'.heap := by rw [hhp]; exact vx_Zq.moved hW0.alike (hU.kept hS.2.1)
    have hN' : vx_Zq Bundle.tN "SUPPRESSED_SENTINEL" Bundle.listD (XAr h0) s' s'.heap := by rw [hhp]; exact vx_Zq.moved hW0.alike (hN.kept hS.2.1)
    have h9 : ∀ w ∈ Bundle.ownAtoms0 "FaceCoins" 147 xnsE xnsN, w.before args s' = true := vx_own hat' (vx_isRefq hU'.1) (vx_isRefq hN'.1) hU'.2.word hN'.2.word
    have hown' : s'.vm.findClass "FaceCoins" = some m.cls := by rw [hvm]; exact hown
    have hins : (Cond.instantiable xnsE 6).before args s' = true := h9 _ (by simp [Bundle.ownAtoms0])
    obtain ⟨vm₁, cX, kX, hfX, hkX, -, -, X₁, st1⟩ := Y.newCold hexec (own := "FaceCoins") (C := xnsE) (index := 145) (n := 6) hown' hk' hins hini'
      (g := F0 m pc ls (st.map xv)) rfl (by rw [hb]; exact d0) (Nat.le_refl _) (Nat.le_refl _)
    generalize hT1 : (T.setVm vm₁).pushCell { cls := cX, slots := kX.instanceTypes.map defaultValue, vm := .none } = T1 at X₁ st1
    have hcat : (Value.ref T.heap.size).category = 1 := rfl
    have hcellA : T1.heap[T.heap.size]? = some (freshCell cX kX) := by rw [← hT1]; exact State.heap_pushCell_size _ _
    have d3' : decode c.code (pc + 3) = .ok (.dup, 1) := by rw [hb]; exact d3
    obtain ⟨V, ce, L, Z, hL, hlt, hcl9, hvm9, stt⟩ := vx_ctorMade0 X₁ hexec htr (own := "FaceCoins") (cls := xnsE) (names := xnsN) (ic := 147) hown' (by decide +kernel) (by decide +kernel) h9 (fun x hx => nomatch hx) hfX hkX hcellA (by rw [hhp]; exact Nat.le_refl _)
      (g := { method := m, pc := pc + 4, locals := ls, stack := .ref T.heap.size :: .ref T.heap.size :: st.map xv, locked := none }) rfl (hl.1.trans K.2.2.1.symm) (rest := st.map xv) rfl
      (by rw [hb]; exact d4) (by rw [hRm]; show 5 < fr; omega) (by rw [hRm]; simp only [List.map_cons, List.sum_cons, hcat]; rw [xv_sum]; show 2 * 0 + (1 + _) + (13 * (2 + 1) + 41) ≤ lo; omega)
    have Z0 := Stand.forget (locs := []) Z (fun y hy => by rw [hL y hy, hhp]; exact Nat.le_refl _)
    obtain ⟨f1, f2⟩ := vx_frame Z0.same
    rw [hhp] at f1 f2
    have hKc := K.2.2.2.2.2.1.1.1 16 _ (xcl_at (by decide))
    have hcid : ce.cls = D.1 16 := by
      rw [hcl9]
      rw [hvm] at hfX
      exact Option.some.inj (hfX.symm.trans hKc.2.1)
    have hh : (V.setCell T.heap.size ce).heap[T.heap.size]? = some ce := heapAt_setCell_self (s := V) ce hlt
    have hszV : (V.setCell T.heap.size ce).heap.size = hsz h + 1 := by
      have g8 : (V.setCell T.heap.size ce).heap.size ≤ s'.heap.size + 1 := Z0.same.2.2.1
      rw [hhp] at g8
      have g7 := (Array.getElem?_eq_some_iff.mp hh).1
      omega
    subst hA'
    have X5 := vx_back9 X Y Z0
    have X6 : Stand p l e R s m args below meth c (V.setCell T.heap.size ce) locs (hsz (hnew h 16 0 6) - hsz h0) (hsl (hnew h 16 0 6) - hsl h0) := by
      rw [show hsz (hnew h 16 0 6) - hsz h0 = hsz h - hsz h0 + 1 from by show hsz h + 1 - hsz h0 = _; omega, show hsl (hnew h 16 0 6) - hsl h0 = hsl h - hsl h0 + 6 from by show hsl h + 6 - hsl h0 = _; omega]
      exact { X5 with same := X5.same.mono (by omega) (by omega) }
    have hent := xent_c (D := D) (h := hnew h 16 0 6) (r := hsz h + 1) (c := 16) (if_pos rfl) (by decide) (by decide)
    obtain ⟨t, a1, b1⟩ := kk (hsz h + 1) (hnew h 16 0 6) x hx hc ls (V.setCell T.heap.size ce).heap locs hl ⟨xrep_new hR hsize (fun q hq => f2 q hq (fun z hz => nomatch hz)) hent ⟨_, xcl_at (c := 16) (by decide), ce, by rw [← hsize]; exact hh, hcid, hvm9, fun k hk => absurd hk (Nat.not_lt_zero k)⟩, hszV, ⟨Nat.le_trans hS.1 f1, fun q h1 h2 => (f2 q (Nat.lt_of_lt_of_le h1 hS.1) (fun z hz => nomatch hz)).trans (hS.2.1 q h1 h2), hS.2.2⟩, xdom_new hD q9.1 q9.2⟩ _ rfl X6
    refine ⟨t, st1 _ ?_, b1⟩
    show Steps p.tables e below (T1.setTop { method := m, pc := pc + 3, locals := ls, stack := .ref T.heap.size :: st.map xv, locked := none }) _
    jvm_step X₁.here [X₁.here.top, hexec, d3', Value.category]
    refine stt _ ?_
    have a2 : Steps p.tables e below ((V.setCell T.heap.size ce).setTop (F0 m (pc + 7) ls (.ref (hsz h) :: st.map xv))) t := a1
    rw [← hsize] at a2
    exact a2
  · rw [if_neg q9] at hx
    exact absurd hx (by simp)
theorem x_scod0 (K : XO p R s m args meth c D nL h0 cc own fr lo) {pc' : Nat} {r index : Nat} (hq : Cond.fieldLink own index "java/lang/String" "coder" "B" ∈ lw_all) (hd : decode cc pc = .ok (.getfield index, 3)) (hpc : pc + 3 = pc') (kk : XF p l e R s m args below meth c D nL h0 Q pc' lv (xI 0 :: st) h res C) : XF p l e R s m args below meth c D nL h0 Q pc lv (xR r :: st) h ((xsco h r).bind fun _ => res) C := by
  subst hpc
  intro x hx hc ls H locs hl hi
  have hcs9 : hcs h = hcs h0 := hi.2.2.2.2.2.2.2.2.2.2
  unfold xsco at hx
  cases hx9 : xsx h 10 r with
  | none => rw [hx9] at hx; exact absurd hx (by simp)
  | some i =>
    rw [hx9] at hx
    rw [xsx_cs hcs9] at hx9
    obtain ⟨h1, h2⟩ := xsx_rf (D0 := D) K.2.2.2.2.2.2.2.2 hx9
    obtain ⟨e1, e2, e3, e4, e5, e6⟩ := K.2.2.2.2.2.2.2.2
    have k8 := kk x hx hc ls H locs hl hi
    show W p l e R s m args below meth c H locs (hsz h - hsz h0) (hsl h - hsl h0) Q (F0 m pc ls (va_rf (xo r) :: st.map xv))
    rw [h2]
    exact vk_getf K.1 K.2.1 (e4.1 i h1).2.1 hi.2.2.1 K.2.2.2.1 (K.2.2.2.2.1 _ hq) (fun _ h9 => h9) hd k8
theorem xcd_cast : ∀ n ∈ [9, 10, 11, 12, 13], (1 ≤ n ∧ n < 17) ∧ Cond.castable (xRn n) "FaceCoins$Cond" ∈ lw_tbl := List.forall_mem_cons.mpr ⟨⟨by decide, q1931⟩, List.forall_mem_cons.mpr ⟨⟨by decide, q1932⟩, List.forall_mem_cons.mpr ⟨⟨by decide, q1933⟩, List.forall_mem_cons.mpr ⟨⟨by decide, q1934⟩, List.forall_mem_cons.mpr ⟨⟨by decide, q1935⟩, fun _ h => absurd h List.not_mem_nil⟩⟩⟩⟩⟩
theorem hyd_is : (parseMethodDescriptor "(LFaceCoins$State;I)Z").map (fun d => d.parameters.length) = some 2 := by decide +kernel
end XK11
