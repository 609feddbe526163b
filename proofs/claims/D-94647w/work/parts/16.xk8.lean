/-! XK 8: calls and loops over the judgement XF; Object's constructor, Math.max, Math.min, System.arraycopy (x_copy follows va_copyi) -/
set_option maxRecDepth 100000
def xck {β : Type} (h : AH) (r n : Nat) (F : Option β) : Option β := if hkd h r = n then F else none
section XCR
variable {p : Program} {l : Launch} {e : Env} {R : Room} {s : State} {m : MethodId} {args : Array Value} {below : List Frame} {meth : Method} {c : Code} {D : XD} {nL : Nat} {h0 : AH} {Q : State → Prop} {pc : Nat} {lv : XS} {st : List XV} {h : AH} {α : Type} {res : Option α} {C : α → Prop} {cc : ByteArray} {own : String} {fr lo : Nat}
theorem x_call {β : Type} {F : Option (β × AH)} {kf : β × AH → Option α} {en : β → Option XV} (K : XO p R s m args meth c D nL h0 cc own fr lo) {As rest st0 : List XV} {y : MethodName} {bytes : ByteArray} {maxL : Nat} {ret : Option FieldType} {fr1 lo1 : Nat} (hM : ∀ a h1, F = some (a, h1) → XCt l D y (ws_ y bytes maxL ret) fr1 lo1 As h (.inl (en a)) h1)
    (hst : ∀ (ls : Array Slot) (H : Heap), XRep D h H → XStep p l e R s m args below meth c H pc ls (st0.map xv) (rest.map xv) y (As.map xv).toArray) (hq : Cond.code y bytes maxL ret ∈ lw_all) (hini : Cond.initialized y.cls ∈ lw_all) (hfr : fr1 + 1 ≤ fr) (hlo : 8 + (maxL + 11) + lo1 ≤ lo) (hcat : (rest.map xc).sum ≤ 8)
    (kk : ∀ (a : β) (h1 : AH), XF p l e R s m args below meth c D nL h0 Q (pc + 3) lv ((en a).toList ++ rest) h1 (kf (a, h1)) C) : XF p l e R s m args below meth c D nL h0 Q pc lv st0 h (F.bind kf) C := by
  intro x hx hc ls H locs hl hi
  cases hF : F with
  | none => rw [hF] at hx; exact absurd hx (by simp)
  | some z =>
    obtain ⟨a, h1⟩ := z
    rw [hF] at hx
    refine xw_call K hl.1 hi (hM a h1 hF) (hst ls H hi.1) hq hini hfr hlo hcat (fun v hv H1 locs1 hi1 => ?_) (fun q hq => by cases hq)
    cases hv
    have := kk a h1 x hx hc ls H1 locs1 hl hi1
    rw [List.map_append] at this
    cases he : en a <;> rw [he] at this <;> exact this
theorem x_callX {β : Type} {F : Option ((β ⊕ Nat) × AH)} {kf : (β ⊕ Nat) × AH → Option α} {en : β → Option XV} (K : XO p R s m args meth c D nL h0 cc own fr lo) {As rest st0 : List XV} {y : MethodName} {bytes : ByteArray} {maxL : Nat} {ret : Option FieldType} {fr1 lo1 : Nat} (hM : ∀ a h1, F = some (a, h1) → XCt l D y (ws_ y bytes maxL ret) fr1 lo1 As h (Sum.elim (fun b => .inl (en b)) .inr a) h1)
    (hst : ∀ (ls : Array Slot) (H : Heap), XRep D h H → XStep p l e R s m args below meth c H pc ls (st0.map xv) (rest.map xv) y (As.map xv).toArray) (hq : Cond.code y bytes maxL ret ∈ lw_all) (hini : Cond.initialized y.cls ∈ lw_all) (hfr : fr1 + 1 ≤ fr) (hlo : 8 + (maxL + 11) + lo1 ≤ lo) (hcat : (rest.map xc).sum ≤ 8)
    (kk : ∀ (a : β) (h1 : AH), XF p l e R s m args below meth c D nL h0 Q (pc + 3) lv ((en a).toList ++ rest) h1 (kf (.inl a, h1)) C) (kx : ∀ (r : Nat) (h1 : AH), XX p l e R s m args below meth c D nL h0 Q pc lv rest r h1 (kf (.inr r, h1)) C) : XF p l e R s m args below meth c D nL h0 Q pc lv st0 h (F.bind kf) C := by
  intro x hx hc ls H locs hl hi
  cases hF : F with
  | none => rw [hF] at hx; exact absurd hx (by simp)
  | some z =>
    obtain ⟨a, h1⟩ := z
    rw [hF] at hx
    refine xw_call K hl.1 hi (hM a h1 hF) (hst ls H hi.1) hq hini hfr hlo hcat (fun v hv H1 locs1 hi1 => ?_) (fun q hq H1 locs1 ce E hi1 hce hcv hcl => ?_)
    · cases a with
      | inr r => cases hv
      | inl b =>
        cases hv
        have := kk b h1 x hx hc ls H1 locs1 hl hi1
        rw [List.map_append] at this
        cases he : en b <;> rw [he] at this <;> exact this
    · cases a with
      | inl b => cases hq
      | inr r =>
        cases hq
        exact kx (q + 1) h1 x hx hc ls H1 locs1 q ce E hl hi1 rfl hce hcv hcl
/-- a callee that only reads -/
theorem x_callO {β : Type} {F : Option β} {kf : β → Option α} {en : β → Option XV} (K : XO p R s m args meth c D nL h0 cc own fr lo) {As rest st0 : List XV} {y : MethodName} {bytes : ByteArray} {maxL : Nat} {ret : Option FieldType} {fr1 lo1 : Nat} (hM : ∀ a, F = some a → XCt l D y (ws_ y bytes maxL ret) fr1 lo1 As h (.inl (en a)) h)
    (hst : ∀ (ls : Array Slot) (H : Heap), XRep D h H → XStep p l e R s m args below meth c H pc ls (st0.map xv) (rest.map xv) y (As.map xv).toArray) (hq : Cond.code y bytes maxL ret ∈ lw_all) (hini : Cond.initialized y.cls ∈ lw_all) (hfr : fr1 + 1 ≤ fr) (hlo : 8 + (maxL + 11) + lo1 ≤ lo) (hcat : (rest.map xc).sum ≤ 8)
    (kk : ∀ (a : β), XF p l e R s m args below meth c D nL h0 Q (pc + 3) lv ((en a).toList ++ rest) h (kf a) C) : XF p l e R s m args below meth c D nL h0 Q pc lv st0 h (F.bind kf) C := by
  intro x hx hc ls H locs hl hi
  cases hF : F with
  | none => rw [hF] at hx; exact absurd hx (by simp)
  | some a =>
    rw [hF] at hx
    refine xw_call K hl.1 hi (hM a hF) (hst ls H hi.1) hq hini hfr hlo hcat (fun v hv H1 locs1 hi1 => ?_) (fun q hq => by cases hq)
    cases hv
    have := kk a x hx hc ls H1 locs1 hl hi1
    rw [List.map_append] at this
    cases he : en a <;> rw [he] at this <;> exact this
theorem x_cV {β : Type} {F : Option (β × AH)} {kf : β → AH → Option α} {en : β → Option XV} (K : XO p R s m args meth c D nL h0 cc own fr lo) {pc' : Nat} {As rest st0 : List XV} {r n index : Nat} {y : MethodName} {bytes : ByteArray} {maxL : Nat} {ret : Option FieldType} {fr1 lo1 : Nat} (hM : ∀ a h1, F = some (a, h1) → XCt l D y (ws_ y bytes maxL ret) fr1 lo1 (xR r :: As) h (.inl (en a)) h1) (hs : As.reverse ++ xR r :: rest = st0) (hn : 1 ≤ n ∧ n < 17) (hlink : Cond.methodLink own index y ∈ lw_all) (hinst : Cond.instanceMethod y ∈ lw_all) (hsel : Cond.selects (xRn n) y y ∈ lw_all) (hq : Cond.code y bytes maxL ret ∈ lw_all) (hini : Cond.initialized y.cls ∈ lw_all) (hy : (y.cls ≠ "java/lang/invoke/MethodHandle" ∧ y.cls ≠ "java/lang/invoke/VarHandle") ∧ (parseMethodDescriptor y.desc).map (fun d => d.parameters.length) = some As.length) (hfr : fr1 + 1 ≤ fr) (hlo : 8 + (maxL + 11) + lo1 ≤ lo) (hcat : (rest.map xc).sum ≤ 8) (hd : decode cc pc = .ok (.invokevirtual index, 3)) (hpc : pc + 3 = pc') (kk : ∀ (a : β) (h1 : AH), XF p l e R s m args below meth c D nL h0 Q pc' lv ((en a).toList ++ rest) h1 (kf a h1) C) : XF p l e R s m args below meth c D nL h0 Q pc lv st0 h (xb2 (xck h r n F) kf) C := by
  subst hpc
  subst hs
  unfold xb2 xck
  by_cases qk : hkd h r = n
  · rw [if_pos qk]
    exact x_call (kf := fun z => kf z.1 z.2) K hM (fun ls H hR => by rw [List.map_append, List.map_reverse]; exact xs_V K hR qk hn hlink hinst hsel hq hy hd) hq hini hfr hlo hcat kk
  · rw [if_neg qk]
    exact fun x hx => absurd hx (by simp)
theorem x_cVO {β : Type} {F : Option β} {kf : β → Option α} {en : β → Option XV} (K : XO p R s m args meth c D nL h0 cc own fr lo) {pc' : Nat} {As rest st0 : List XV} {r n index : Nat} {y : MethodName} {bytes : ByteArray} {maxL : Nat} {ret : Option FieldType} {fr1 lo1 : Nat} (hM : ∀ a, F = some a → XCt l D y (ws_ y bytes maxL ret) fr1 lo1 (xR r :: As) h (.inl (en a)) h) (hs : As.reverse ++ xR r :: rest = st0) (hn : 1 ≤ n ∧ n < 17) (hlink : Cond.methodLink own index y ∈ lw_all) (hinst : Cond.instanceMethod y ∈ lw_all) (hsel : Cond.selects (xRn n) y y ∈ lw_all) (hq : Cond.code y bytes maxL ret ∈ lw_all) (hini : Cond.initialized y.cls ∈ lw_all) (hy : (y.cls ≠ "java/lang/invoke/MethodHandle" ∧ y.cls ≠ "java/lang/invoke/VarHandle") ∧ (parseMethodDescriptor y.desc).map (fun d => d.parameters.length) = some As.length) (hfr : fr1 + 1 ≤ fr) (hlo : 8 + (maxL + 11) + lo1 ≤ lo) (hcat : (rest.map xc).sum ≤ 8) (hd : decode cc pc = .ok (.invokevirtual index, 3)) (hpc : pc + 3 = pc') (kk : ∀ (a : β), XF p l e R s m args below meth c D nL h0 Q pc' lv ((en a).toList ++ rest) h (kf a) C) : XF p l e R s m args below meth c D nL h0 Q pc lv st0 h ((xck h r n F).bind kf) C := by
  subst hpc
  subst hs
  unfold xck
  by_cases qk : hkd h r = n
  · rw [if_pos qk]
    exact x_callO K hM (fun ls H hR => by rw [List.map_append, List.map_reverse]; exact xs_V K hR qk hn hlink hinst hsel hq hy hd) hq hini hfr hlo hcat kk
  · rw [if_neg qk]
    exact fun x hx => absurd hx (by simp)
theorem x_cVX {β : Type} {F : Option ((β ⊕ Nat) × AH)} {kf : β → AH → Option α} {kx0 : Nat → AH → Option α} {en : β → Option XV} (K : XO p R s m args meth c D nL h0 cc own fr lo) {pc' : Nat} {As rest st0 : List XV} {r n index : Nat} {y : MethodName} {bytes : ByteArray} {maxL : Nat} {ret : Option FieldType} {fr1 lo1 : Nat} (hM : ∀ a h1, F = some (a, h1) → XCt l D y (ws_ y bytes maxL ret) fr1 lo1 (xR r :: As) h (Sum.elim (fun b => .inl (en b)) .inr a) h1) (hs : As.reverse ++ xR r :: rest = st0) (hn : 1 ≤ n ∧ n < 17) (hlink : Cond.methodLink own index y ∈ lw_all) (hinst : Cond.instanceMethod y ∈ lw_all) (hsel : Cond.selects (xRn n) y y ∈ lw_all) (hq : Cond.code y bytes maxL ret ∈ lw_all) (hini : Cond.initialized y.cls ∈ lw_all) (hy : (y.cls ≠ "java/lang/invoke/MethodHandle" ∧ y.cls ≠ "java/lang/invoke/VarHandle") ∧ (parseMethodDescriptor y.desc).map (fun d => d.parameters.length) = some As.length) (hfr : fr1 + 1 ≤ fr) (hlo : 8 + (maxL + 11) + lo1 ≤ lo) (hcat : (rest.map xc).sum ≤ 8) (hd : decode cc pc = .ok (.invokevirtual index, 3)) (hpc : pc + 3 = pc') (kk : ∀ (a : β) (h1 : AH), XF p l e R s m args below meth c D nL h0 Q pc' lv ((en a).toList ++ rest) h1 (kf a h1) C) (kx : ∀ (r : Nat) (h1 : AH), XX p l e R s m args below meth c D nL h0 Q pc lv rest r h1 (kx0 r h1) C) : XF p l e R s m args below meth c D nL h0 Q pc lv st0 h (xb3 (xck h r n F) kf kx0) C := by
  subst hpc
  subst hs
  unfold xb3 xck
  by_cases qk : hkd h r = n
  · rw [if_pos qk]
    exact x_callX (kf := fun z => Sum.elim (fun a => kf a z.2) (fun r => kx0 r z.2) z.1) K hM (fun ls H hR => by rw [List.map_append, List.map_reverse]; exact xs_V K hR qk hn hlink hinst hsel hq hy hd) hq hini hfr hlo hcat kk kx
  · rw [if_neg qk]
    exact fun x hx => absurd hx (by simp)
theorem x_cVN {β : Type} {F : Option (β × AH)} {kf : β → AH → Option α} {en : β → Option XV} (K : XO p R s m args meth c D nL h0 cc own fr lo) {pc' : Nat} {As rest st0 : List XV} {r n index : Nat} {host : String} {y : MethodName} {bytes : ByteArray} {maxL : Nat} {ret : Option FieldType} {fr1 lo1 : Nat} (hM : ∀ a h1, F = some (a, h1) → XCt l D y (ws_ y bytes maxL ret) fr1 lo1 (xR r :: As) h (.inl (en a)) h1) (hs : As.reverse ++ xR r :: rest = st0) (hn : 1 ≤ n ∧ n < 17) (hlink : Cond.methodLinkNest own index y host ∈ lw_tbl) (hinst : Cond.instanceMethod y ∈ lw_all) (hsel : Cond.selects (xRn n) y y ∈ lw_all) (hq : Cond.code y bytes maxL ret ∈ lw_all) (hini : Cond.initialized y.cls ∈ lw_all) (hy : (y.cls ≠ "java/lang/invoke/MethodHandle" ∧ y.cls ≠ "java/lang/invoke/VarHandle") ∧ (parseMethodDescriptor y.desc).map (fun d => d.parameters.length) = some As.length) (hfr : fr1 + 1 ≤ fr) (hlo : 8 + (maxL + 11) + lo1 ≤ lo) (hcat : (rest.map xc).sum ≤ 8) (hd : decode cc pc = .ok (.invokevirtual index, 3)) (hpc : pc + 3 = pc') (kk : ∀ (a : β) (h1 : AH), XF p l e R s m args below meth c D nL h0 Q pc' lv ((en a).toList ++ rest) h1 (kf a h1) C) : XF p l e R s m args below meth c D nL h0 Q pc lv st0 h (xb2 (xck h r n F) kf) C := by
  subst hpc
  subst hs
  unfold xb2 xck
  by_cases qk : hkd h r = n
  · rw [if_pos qk]
    exact x_call (kf := fun z => kf z.1 z.2) K hM (fun ls H hR => by rw [List.map_append, List.map_reverse]; exact xs_VN K hR qk hn hlink hinst hsel hq hy hd) hq hini hfr hlo hcat kk
  · rw [if_neg qk]
    exact fun x hx => absurd hx (by simp)
theorem x_cVNO {β : Type} {F : Option β} {kf : β → Option α} {en : β → Option XV} (K : XO p R s m args meth c D nL h0 cc own fr lo) {pc' : Nat} {As rest st0 : List XV} {r n index : Nat} {host : String} {y : MethodName} {bytes : ByteArray} {maxL : Nat} {ret : Option FieldType} {fr1 lo1 : Nat} (hM : ∀ a, F = some a → XCt l D y (ws_ y bytes maxL ret) fr1 lo1 (xR r :: As) h (.inl (en a)) h) (hs : As.reverse ++ xR r :: rest = st0) (hn : 1 ≤ n ∧ n < 17) (hlink : Cond.methodLinkNest own index y host ∈ lw_tbl) (hinst : Cond.instanceMethod y ∈ lw_all) (hsel : Cond.selects (xRn n) y y ∈ lw_all) (hq : Cond.code y bytes maxL ret ∈ lw_all) (hini : Cond.initialized y.cls ∈ lw_all) (hy : (y.cls ≠ "java/lang/invoke/MethodHandle" ∧ y.cls ≠ "java/lang/invoke/VarHandle") ∧ (parseMethodDescriptor y.desc).map (fun d => d.parameters.length) = some As.length) (hfr : fr1 + 1 ≤ fr) (hlo : 8 + (maxL + 11) + lo1 ≤ lo) (hcat : (rest.map xc).sum ≤ 8) (hd : decode cc pc = .ok (.invokevirtual index, 3)) (hpc : pc + 3 = pc') (kk : ∀ (a : β), XF p l e R s m args below meth c D nL h0 Q pc' lv ((en a).toList ++ rest) h (kf a) C) : XF p l e R s m args below meth c D nL h0 Q pc lv st0 h ((xck h r n F).bind kf) C := by
  subst hpc
  subst hs
  unfold xck
  by_cases qk : hkd h r = n
  · rw [if_pos qk]
    exact x_callO K hM (fun ls H hR => by rw [List.map_append, List.map_reverse]; exact xs_VN K hR qk hn hlink hinst hsel hq hy hd) hq hini hfr hlo hcat kk
  · rw [if_neg qk]
    exact fun x hx => absurd hx (by simp)
theorem x_cVNX {β : Type} {F : Option ((β ⊕ Nat) × AH)} {kf : β → AH → Option α} {kx0 : Nat → AH → Option α} {en : β → Option XV} (K : XO p R s m args meth c D nL h0 cc own fr lo) {pc' : Nat} {As rest st0 : List XV} {r n index : Nat} {host : String} {y : MethodName} {bytes : ByteArray} {maxL : Nat} {ret : Option FieldType} {fr1 lo1 : Nat} (hM : ∀ a h1, F = some (a, h1) → XCt l D y (ws_ y bytes maxL ret) fr1 lo1 (xR r :: As) h (Sum.elim (fun b => .inl (en b)) .inr a) h1) (hs : As.reverse ++ xR r :: rest = st0) (hn : 1 ≤ n ∧ n < 17) (hlink : Cond.methodLinkNest own index y host ∈ lw_tbl) (hinst : Cond.instanceMethod y ∈ lw_all) (hsel : Cond.selects (xRn n) y y ∈ lw_all) (hq : Cond.code y bytes maxL ret ∈ lw_all) (hini : Cond.initialized y.cls ∈ lw_all) (hy : (y.cls ≠ "java/lang/invoke/MethodHandle" ∧ y.cls ≠ "java/lang/invoke/VarHandle") ∧ (parseMethodDescriptor y.desc).map (fun d => d.parameters.length) = some As.length) (hfr : fr1 + 1 ≤ fr) (hlo : 8 + (maxL + 11) + lo1 ≤ lo) (hcat : (rest.map xc).sum ≤ 8) (hd : decode cc pc = .ok (.invokevirtual index, 3)) (hpc : pc + 3 = pc') (kk : ∀ (a : β) (h1 : AH), XF p l e R s m args below meth c D nL h0 Q pc' lv ((en a).toList ++ rest) h1 (kf a h1) C) (kx : ∀ (r : Nat) (h1 : AH), XX p l e R s m args below meth c D nL h0 Q pc lv rest r h1 (kx0 r h1) C) : XF p l e R s m args below meth c D nL h0 Q pc lv st0 h (xb3 (xck h r n F) kf kx0) C := by
  subst hpc
  subst hs
  unfold xb3 xck
  by_cases qk : hkd h r = n
  · rw [if_pos qk]
    exact x_callX (kf := fun z => Sum.elim (fun a => kf a z.2) (fun r => kx0 r z.2) z.1) K hM (fun ls H hR => by rw [List.map_append, List.map_reverse]; exact xs_VN K hR qk hn hlink hinst hsel hq hy hd) hq hini hfr hlo hcat kk kx
  · rw [if_neg qk]
    exact fun x hx => absurd hx (by simp)
theorem x_cI {β : Type} {F : Option (β × AH)} {kf : β → AH → Option α} {en : β → Option XV} (K : XO p R s m args meth c D nL h0 cc own fr lo) {pc' : Nat} {As rest st0 : List XV} {r n index : Nat} {y : MethodName} {bytes : ByteArray} {maxL : Nat} {fr1 lo1 : Nat} (hM : ∀ a h1, F = some (a, h1) → XCt l D y (ws_ y bytes maxL none) fr1 lo1 (xR r :: As) h (.inl (en a)) h1) (hs : As.reverse ++ xR r :: rest = st0) (hn : 1 ≤ n ∧ n < 17) (hlink : Cond.methodLink own index y ∈ lw_all) (hy1 : y.name = "<init>") (hinst : Cond.instanceMethod y ∈ lw_all) (hq : Cond.code y bytes maxL none ∈ lw_all) (hini : Cond.initialized y.cls ∈ lw_all) (hy : (y.cls ≠ "java/lang/invoke/MethodHandle" ∧ y.cls ≠ "java/lang/invoke/VarHandle") ∧ (parseMethodDescriptor y.desc).map (fun d => d.parameters.length) = some As.length) (hfr : fr1 + 1 ≤ fr) (hlo : 8 + (maxL + 11) + lo1 ≤ lo) (hcat : (rest.map xc).sum ≤ 8) (hd : decode cc pc = .ok (.invokespecial index, 3)) (hpc : pc + 3 = pc') (kk : ∀ (a : β) (h1 : AH), XF p l e R s m args below meth c D nL h0 Q pc' lv ((en a).toList ++ rest) h1 (kf a h1) C) : XF p l e R s m args below meth c D nL h0 Q pc lv st0 h (xb2 (xck h r n F) kf) C := by
  subst hpc
  subst hs
  unfold xb2 xck
  by_cases qk : hkd h r = n
  · rw [if_pos qk]
    exact x_call (kf := fun z => kf z.1 z.2) K hM (fun ls H hR => by rw [List.map_append, List.map_reverse]; exact xs_I K hR qk hn hlink hy1 hinst hq hy hd) hq hini hfr hlo hcat kk
  · rw [if_neg qk]
    exact fun x hx => absurd hx (by simp)
theorem x_cIO {β : Type} {F : Option β} {kf : β → Option α} {en : β → Option XV} (K : XO p R s m args meth c D nL h0 cc own fr lo) {pc' : Nat} {As rest st0 : List XV} {r n index : Nat} {y : MethodName} {bytes : ByteArray} {maxL : Nat} {fr1 lo1 : Nat} (hM : ∀ a, F = some a → XCt l D y (ws_ y bytes maxL none) fr1 lo1 (xR r :: As) h (.inl (en a)) h) (hs : As.reverse ++ xR r :: rest = st0) (hn : 1 ≤ n ∧ n < 17) (hlink : Cond.methodLink own index y ∈ lw_all) (hy1 : y.name = "<init>") (hinst : Cond.instanceMethod y ∈ lw_all) (hq : Cond.code y bytes maxL none ∈ lw_all) (hini : Cond.initialized y.cls ∈ lw_all) (hy : (y.cls ≠ "java/lang/invoke/MethodHandle" ∧ y.cls ≠ "java/lang/invoke/VarHandle") ∧ (parseMethodDescriptor y.desc).map (fun d => d.parameters.length) = some As.length) (hfr : fr1 + 1 ≤ fr) (hlo : 8 + (maxL + 11) + lo1 ≤ lo) (hcat : (rest.map xc).sum ≤ 8) (hd : decode cc pc = .ok (.invokespecial index, 3)) (hpc : pc + 3 = pc') (kk : ∀ (a : β), XF p l e R s m args below meth c D nL h0 Q pc' lv ((en a).toList ++ rest) h (kf a) C) : XF p l e R s m args below meth c D nL h0 Q pc lv st0 h ((xck h r n F).bind kf) C := by
  subst hpc
  subst hs
  unfold xck
  by_cases qk : hkd h r = n
  · rw [if_pos qk]
    exact x_callO K hM (fun ls H hR => by rw [List.map_append, List.map_reverse]; exact xs_I K hR qk hn hlink hy1 hinst hq hy hd) hq hini hfr hlo hcat kk
  · rw [if_neg qk]
    exact fun x hx => absurd hx (by simp)
theorem x_cIN {β : Type} {F : Option (β × AH)} {kf : β → AH → Option α} {en : β → Option XV} (K : XO p R s m args meth c D nL h0 cc own fr lo) {pc' : Nat} {As rest st0 : List XV} {r n index : Nat} {host : String} {y : MethodName} {bytes : ByteArray} {maxL : Nat} {fr1 lo1 : Nat} (hM : ∀ a h1, F = some (a, h1) → XCt l D y (ws_ y bytes maxL none) fr1 lo1 (xR r :: As) h (.inl (en a)) h1) (hs : As.reverse ++ xR r :: rest = st0) (hn : 1 ≤ n ∧ n < 17) (hlink : Cond.methodLinkNest own index y host ∈ lw_tbl) (hy1 : y.name = "<init>") (hinst : Cond.instanceMethod y ∈ lw_all) (hq : Cond.code y bytes maxL none ∈ lw_all) (hini : Cond.initialized y.cls ∈ lw_all) (hy : (y.cls ≠ "java/lang/invoke/MethodHandle" ∧ y.cls ≠ "java/lang/invoke/VarHandle") ∧ (parseMethodDescriptor y.desc).map (fun d => d.parameters.length) = some As.length) (hfr : fr1 + 1 ≤ fr) (hlo : 8 + (maxL + 11) + lo1 ≤ lo) (hcat : (rest.map xc).sum ≤ 8) (hd : decode cc pc = .ok (.invokespecial index, 3)) (hpc : pc + 3 = pc') (kk : ∀ (a : β) (h1 : AH), XF p l e R s m args below meth c D nL h0 Q pc' lv ((en a).toList ++ rest) h1 (kf a h1) C) : XF p l e R s m args below meth c D nL h0 Q pc lv st0 h (xb2 (xck h r n F) kf) C := by
  subst hpc
  subst hs
  unfold xb2 xck
  by_cases qk : hkd h r = n
  · rw [if_pos qk]
    exact x_call (kf := fun z => kf z.1 z.2) K hM (fun ls H hR => by rw [List.map_append, List.map_reverse]; exact xs_IN K hR qk hn hlink hy1 hinst hq hy hd) hq hini hfr hlo hcat kk
  · rw [if_neg qk]
    exact fun x hx => absurd hx (by simp)
theorem x_cINO {β : Type} {F : Option β} {kf : β → Option α} {en : β → Option XV} (K : XO p R s m args meth c D nL h0 cc own fr lo) {pc' : Nat} {As rest st0 : List XV} {r n index : Nat} {host : String} {y : MethodName} {bytes : ByteArray} {maxL : Nat} {fr1 lo1 : Nat} (hM : ∀ a, F = some a → XCt l D y (ws_ y bytes maxL none) fr1 lo1 (xR r :: As) h (.inl (en a)) h) (hs : As.reverse ++ xR r :: rest = st0) (hn : 1 ≤ n ∧ n < 17) (hlink : Cond.methodLinkNest own index y host ∈ lw_tbl) (hy1 : y.name = "<init>") (hinst : Cond.instanceMethod y ∈ lw_all) (hq : Cond.code y bytes maxL none ∈ lw_all) (hini : Cond.initialized y.cls ∈ lw_all) (hy : (y.cls ≠ "java/lang/invoke/MethodHandle" ∧ y.cls ≠ "java/lang/invoke/VarHandle") ∧ (parseMethodDescriptor y.desc).map (fun d => d.parameters.length) = some As.length) (hfr : fr1 + 1 ≤ fr) (hlo : 8 + (maxL + 11) + lo1 ≤ lo) (hcat : (rest.map xc).sum ≤ 8) (hd : decode cc pc = .ok (.invokespecial index, 3)) (hpc : pc + 3 = pc') (kk : ∀ (a : β), XF p l e R s m args below meth c D nL h0 Q pc' lv ((en a).toList ++ rest) h (kf a) C) : XF p l e R s m args below meth c D nL h0 Q pc lv st0 h ((xck h r n F).bind kf) C := by
  subst hpc
  subst hs
  unfold xck
  by_cases qk : hkd h r = n
  · rw [if_pos qk]
    exact x_callO K hM (fun ls H hR => by rw [List.map_append, List.map_reverse]; exact xs_IN K hR qk hn hlink hy1 hinst hq hy hd) hq hini hfr hlo hcat kk
  · rw [if_neg qk]
    exact fun x hx => absurd hx (by simp)
theorem x_cS {β : Type} {F : Option (β × AH)} {kf : β → AH → Option α} {en : β → Option XV} (K : XO p R s m args meth c D nL h0 cc own fr lo) {pc' : Nat} {As rest st0 : List XV} {index : Nat} {y : MethodName} {bytes : ByteArray} {maxL : Nat} {ret : Option FieldType} {fr1 lo1 : Nat} (hM : ∀ a h1, F = some (a, h1) → XCt l D y (ws_ y bytes maxL ret) fr1 lo1 As h (.inl (en a)) h1) (hs : As.reverse ++ rest = st0) (hlink : Cond.methodLink own index y ∈ lw_all) (hstat : Cond.static y ∈ lw_all) (hq : Cond.code y bytes maxL ret ∈ lw_all) (hini : Cond.initialized y.cls ∈ lw_all) (hy : (y.cls ≠ "java/lang/invoke/MethodHandle" ∧ y.cls ≠ "java/lang/invoke/VarHandle") ∧ (parseMethodDescriptor y.desc).map (fun d => d.parameters.length) = some As.length) (hfr : fr1 + 1 ≤ fr) (hlo : 8 + (maxL + 11) + lo1 ≤ lo) (hcat : (rest.map xc).sum ≤ 8) (hd : decode cc pc = .ok (.invokestatic index, 3)) (hpc : pc + 3 = pc') (kk : ∀ (a : β) (h1 : AH), XF p l e R s m args below meth c D nL h0 Q pc' lv ((en a).toList ++ rest) h1 (kf a h1) C) : XF p l e R s m args below meth c D nL h0 Q pc lv st0 h (xb2 F kf) C := by
  subst hpc
  subst hs
  unfold xb2
  exact x_call (kf := fun z => kf z.1 z.2) K hM (fun ls H hR => by rw [List.map_append, List.map_reverse]; exact xs_S K hlink hstat hini hq hy hd) hq hini hfr hlo hcat kk
theorem x_cSO {β : Type} {F : Option β} {kf : β → Option α} {en : β → Option XV} (K : XO p R s m args meth c D nL h0 cc own fr lo) {pc' : Nat} {As rest st0 : List XV} {index : Nat} {y : MethodName} {bytes : ByteArray} {maxL : Nat} {ret : Option FieldType} {fr1 lo1 : Nat} (hM : ∀ a, F = some a → XCt l D y (ws_ y bytes maxL ret) fr1 lo1 As h (.inl (en a)) h) (hs : As.reverse ++ rest = st0) (hlink : Cond.methodLink own index y ∈ lw_all) (hstat : Cond.static y ∈ lw_all) (hq : Cond.code y bytes maxL ret ∈ lw_all) (hini : Cond.initialized y.cls ∈ lw_all) (hy : (y.cls ≠ "java/lang/invoke/MethodHandle" ∧ y.cls ≠ "java/lang/invoke/VarHandle") ∧ (parseMethodDescriptor y.desc).map (fun d => d.parameters.length) = some As.length) (hfr : fr1 + 1 ≤ fr) (hlo : 8 + (maxL + 11) + lo1 ≤ lo) (hcat : (rest.map xc).sum ≤ 8) (hd : decode cc pc = .ok (.invokestatic index, 3)) (hpc : pc + 3 = pc') (kk : ∀ (a : β), XF p l e R s m args below meth c D nL h0 Q pc' lv ((en a).toList ++ rest) h (kf a) C) : XF p l e R s m args below meth c D nL h0 Q pc lv st0 h (F.bind kf) C := by
  subst hpc
  subst hs
  show _
  exact x_callO K hM (fun ls H hR => by rw [List.map_append, List.map_reverse]; exact xs_S K hlink hstat hini hq hy hd) hq hini hfr hlo hcat kk
theorem x_cSX {β : Type} {F : Option ((β ⊕ Nat) × AH)} {kf : β → AH → Option α} {kx0 : Nat → AH → Option α} {en : β → Option XV} (K : XO p R s m args meth c D nL h0 cc own fr lo) {pc' : Nat} {As rest st0 : List XV} {index : Nat} {y : MethodName} {bytes : ByteArray} {maxL : Nat} {ret : Option FieldType} {fr1 lo1 : Nat} (hM : ∀ a h1, F = some (a, h1) → XCt l D y (ws_ y bytes maxL ret) fr1 lo1 As h (Sum.elim (fun b => .inl (en b)) .inr a) h1) (hs : As.reverse ++ rest = st0) (hlink : Cond.methodLink own index y ∈ lw_all) (hstat : Cond.static y ∈ lw_all) (hq : Cond.code y bytes maxL ret ∈ lw_all) (hini : Cond.initialized y.cls ∈ lw_all) (hy : (y.cls ≠ "java/lang/invoke/MethodHandle" ∧ y.cls ≠ "java/lang/invoke/VarHandle") ∧ (parseMethodDescriptor y.desc).map (fun d => d.parameters.length) = some As.length) (hfr : fr1 + 1 ≤ fr) (hlo : 8 + (maxL + 11) + lo1 ≤ lo) (hcat : (rest.map xc).sum ≤ 8) (hd : decode cc pc = .ok (.invokestatic index, 3)) (hpc : pc + 3 = pc') (kk : ∀ (a : β) (h1 : AH), XF p l e R s m args below meth c D nL h0 Q pc' lv ((en a).toList ++ rest) h1 (kf a h1) C) (kx : ∀ (r : Nat) (h1 : AH), XX p l e R s m args below meth c D nL h0 Q pc lv rest r h1 (kx0 r h1) C) : XF p l e R s m args below meth c D nL h0 Q pc lv st0 h (xb3 F kf kx0) C := by
  subst hpc
  subst hs
  unfold xb3
  exact x_callX (kf := fun z => Sum.elim (fun a => kf a z.2) (fun r => kx0 r z.2) z.1) K hM (fun ls H hR => by rw [List.map_append, List.map_reverse]; exact xs_S K hlink hstat hini hq hy hd) hq hini hfr hlo hcat kk kx
theorem x_cSN {β : Type} {F : Option (β × AH)} {kf : β → AH → Option α} {en : β → Option XV} (K : XO p R s m args meth c D nL h0 cc own fr lo) {pc' : Nat} {As rest st0 : List XV} {index : Nat} {host : String} {y : MethodName} {bytes : ByteArray} {maxL : Nat} {ret : Option FieldType} {fr1 lo1 : Nat} (hM : ∀ a h1, F = some (a, h1) → XCt l D y (ws_ y bytes maxL ret) fr1 lo1 As h (.inl (en a)) h1) (hs : As.reverse ++ rest = st0) (hlink : Cond.methodLinkNest own index y host ∈ lw_tbl) (hstat : Cond.static y ∈ lw_all) (hq : Cond.code y bytes maxL ret ∈ lw_all) (hini : Cond.initialized y.cls ∈ lw_all) (hy : (y.cls ≠ "java/lang/invoke/MethodHandle" ∧ y.cls ≠ "java/lang/invoke/VarHandle") ∧ (parseMethodDescriptor y.desc).map (fun d => d.parameters.length) = some As.length) (hfr : fr1 + 1 ≤ fr) (hlo : 8 + (maxL + 11) + lo1 ≤ lo) (hcat : (rest.map xc).sum ≤ 8) (hd : decode cc pc = .ok (.invokestatic index, 3)) (hpc : pc + 3 = pc') (kk : ∀ (a : β) (h1 : AH), XF p l e R s m args below meth c D nL h0 Q pc' lv ((en a).toList ++ rest) h1 (kf a h1) C) : XF p l e R s m args below meth c D nL h0 Q pc lv st0 h (xb2 F kf) C := by
  subst hpc
  subst hs
  unfold xb2
  exact x_call (kf := fun z => kf z.1 z.2) K hM (fun ls H hR => by rw [List.map_append, List.map_reverse]; exact xs_SN K hlink hstat hini hq hy hd) hq hini hfr hlo hcat kk
theorem x_cSNO {β : Type} {F : Option β} {kf : β → Option α} {en : β → Option XV} (K : XO p R s m args meth c D nL h0 cc own fr lo) {pc' : Nat} {As rest st0 : List XV} {index : Nat} {host : String} {y : MethodName} {bytes : ByteArray} {maxL : Nat} {ret : Option FieldType} {fr1 lo1 : Nat} (hM : ∀ a, F = some a → XCt l D y (ws_ y bytes maxL ret) fr1 lo1 As h (.inl (en a)) h) (hs : As.reverse ++ rest = st0) (hlink : Cond.methodLinkNest own index y host ∈ lw_tbl) (hstat : Cond.static y ∈ lw_all) (hq : Cond.code y bytes maxL ret ∈ lw_all) (hini : Cond.initialized y.cls ∈ lw_all) (hy : (y.cls ≠ "java/lang/invoke/MethodHandle" ∧ y.cls ≠ "java/lang/invoke/VarHandle") ∧ (parseMethodDescriptor y.desc).map (fun d => d.parameters.length) = some As.length) (hfr : fr1 + 1 ≤ fr) (hlo : 8 + (maxL + 11) + lo1 ≤ lo) (hcat : (rest.map xc).sum ≤ 8) (hd : decode cc pc = .ok (.invokestatic index, 3)) (hpc : pc + 3 = pc') (kk : ∀ (a : β), XF p l e R s m args below meth c D nL h0 Q pc' lv ((en a).toList ++ rest) h (kf a) C) : XF p l e R s m args below meth c D nL h0 Q pc lv st0 h (F.bind kf) C := by
  subst hpc
  subst hs
  show _
  exact x_callO K hM (fun ls H hR => by rw [List.map_append, List.map_reverse]; exact xs_SN K hlink hstat hini hq hy hd) hq hini hfr hlo hcat kk
theorem x_cSNX {β : Type} {F : Option ((β ⊕ Nat) × AH)} {kf : β → AH → Option α} {kx0 : Nat → AH → Option α} {en : β → Option XV} (K : XO p R s m args meth c D nL h0 cc own fr lo) {pc' : Nat} {As rest st0 : List XV} {index : Nat} {host : String} {y : MethodName} {bytes : ByteArray} {maxL : Nat} {ret : Option FieldType} {fr1 lo1 : Nat} (hM : ∀ a h1, F = some (a, h1) → XCt l D y (ws_ y bytes maxL ret) fr1 lo1 As h (Sum.elim (fun b => .inl (en b)) .inr a) h1) (hs : As.reverse ++ rest = st0) (hlink : Cond.methodLinkNest own index y host ∈ lw_tbl) (hstat : Cond.static y ∈ lw_all) (hq : Cond.code y bytes maxL ret ∈ lw_all) (hini : Cond.initialized y.cls ∈ lw_all) (hy : (y.cls ≠ "java/lang/invoke/MethodHandle" ∧ y.cls ≠ "java/lang/invoke/VarHandle") ∧ (parseMethodDescriptor y.desc).map (fun d => d.parameters.length) = some As.length) (hfr : fr1 + 1 ≤ fr) (hlo : 8 + (maxL + 11) + lo1 ≤ lo) (hcat : (rest.map xc).sum ≤ 8) (hd : decode cc pc = .ok (.invokestatic index, 3)) (hpc : pc + 3 = pc') (kk : ∀ (a : β) (h1 : AH), XF p l e R s m args below meth c D nL h0 Q pc' lv ((en a).toList ++ rest) h1 (kf a h1) C) (kx : ∀ (r : Nat) (h1 : AH), XX p l e R s m args below meth c D nL h0 Q pc lv rest r h1 (kx0 r h1) C) : XF p l e R s m args below meth c D nL h0 Q pc lv st0 h (xb3 F kf kx0) C := by
  subst hpc
  subst hs
  unfold xb3
  exact x_callX (kf := fun z => Sum.elim (fun a => kf a z.2) (fun r => kx0 r z.2) z.1) K hM (fun ls H hR => by rw [List.map_append, List.map_reverse]; exact xs_SN K hlink hstat hini hq hy hd) hq hini hfr hlo hcat kk kx
theorem x_oinit (K : XO p R s m args meth c D nL h0 cc own fr lo) {pc' : Nat} {v index : Nat} (hlink : Cond.methodLink own index Lib.objectInit ∈ lw_all) (hinst : Cond.instanceMethod Lib.objectInit ∈ lw_all) (hcode : Cond.code Lib.objectInit ⟨#[0xb1]⟩ 1 none ∈ lw_all) (hd : decode cc pc = .ok (.invokespecial index, 3)) (hpc : pc + 3 = pc') (hfr : 1 ≤ fr) (hlo : (st.map xc).sum + 12 ≤ lo) (k : XF p l e R s m args below meth c D nL h0 Q pc' lv st h res C) : XF p l e R s m args below meth c D nL h0 Q pc lv (xR v :: st) h (if v = 0 then none else res) C := by
  subst hpc
  intro x hx hc ls H locs hl hi
  cases v with
  | zero => exact absurd hx (by simp)
  | succ a =>
    have hts := K.2.2.2.2.1
    rw [if_neg (Nat.succ_ne_zero a)] at hx
    refine W.objInit K.1 K.2.1 K.2.2.2.1 (hts _ hlink) (hts _ hinst) (hts _ hcode) rfl (by rw [K.2.2.1]; exact hl.1) rfl hd (by rw [K.2.2.2.2.2.2.1]; exact hfr) ?_ (k x hx hc ls H locs hl hi)
    rw [K.2.2.2.2.2.2.1]
    show 2 * 0 + _ + 12 ≤ lo
    rw [xv_sum]
    omega
theorem x_mmax (K : XO p R s m args meth c D nL h0 cc own fr lo) {pc' : Nat} {a b : Int32} {index : Nat} (hlink : Cond.methodLink own index Lib.Math.max.name ∈ lw_all) (hstat : Cond.static Lib.Math.max.name ∈ lw_all) (hini : Cond.initialized "java/lang/Math" ∈ lw_all) (hcode : Cond.code Lib.Math.max.name Lib.Math.max.code 2 (some .int) ∈ lw_all) (hfr : 1 ≤ fr) (hlo : (st.map xc).sum + 13 ≤ lo) (hd : decode cc pc = .ok (.invokestatic index, 3)) (hpc : pc + 3 = pc') (k : XF p l e R s m args below meth c D nL h0 Q pc' lv (xI (if a < b then b else a) :: st) h res C) : XF p l e R s m args below meth c D nL h0 Q pc lv (xI b :: xI a :: st) h res C := by
  subst hpc
  intro x hx hc ls H locs hl hi
  have hts := K.2.2.2.2.1
  have hRm := K.2.2.2.2.2.2.1
  obtain ⟨d1, d2, d3, d4, d5, d6, d7, d8⟩ := hi.2.2.2
  exact va_mmax K.1 K.2.1 (K.2.2.1.trans hl.1.symm) K.2.2.2.1 (hts _ hlink) (hts _ hstat) (hts _ hini) (hts _ hcode) (by rw [hRm]; exact hfr) (by rw [hRm, xv_sum]; exact hlo) (by rw [hRm]; show _ ≤ hcap h0 - hsz h0; omega) (by rw [hRm]; show _ ≤ hscap h0 - hsl h0; omega) hd (k x hx hc ls H locs hl hi)
theorem x_mmin (K : XO p R s m args meth c D nL h0 cc own fr lo) {pc' : Nat} {a b : Int32} {index : Nat} (hlink : Cond.methodLink own index Lib.Math.min.name ∈ lw_all) (hstat : Cond.static Lib.Math.min.name ∈ lw_all) (hini : Cond.initialized "java/lang/Math" ∈ lw_all) (hcode : Cond.code Lib.Math.min.name Lib.Math.min.code 2 (some .int) ∈ lw_all) (hfr : 1 ≤ fr) (hlo : (st.map xc).sum + 13 ≤ lo) (hd : decode cc pc = .ok (.invokestatic index, 3)) (hpc : pc + 3 = pc') (k : XF p l e R s m args below meth c D nL h0 Q pc' lv (xI (if b < a then b else a) :: st) h res C) : XF p l e R s m args below meth c D nL h0 Q pc lv (xI b :: xI a :: st) h res C := by
  subst hpc
  intro x hx hc ls H locs hl hi
  have hts := K.2.2.2.2.1
  have hRm := K.2.2.2.2.2.2.1
  obtain ⟨d1, d2, d3, d4, d5, d6, d7, d8⟩ := hi.2.2.2
  exact va_mmin K.1 K.2.1 (K.2.2.1.trans hl.1.symm) K.2.2.2.1 (hts _ hlink) (hts _ hstat) (hts _ hini) (hts _ hcode) (by rw [hRm]; exact hfr) (by rw [hRm, xv_sum]; exact hlo) (by rw [hRm]; show _ ≤ hcap h0 - hsz h0; omega) (by rw [hRm]; show _ ≤ hscap h0 - hsl h0; omega) hd (k x hx hc ls H locs hl hi)
theorem x_loop {σ ρ : Type} {f : σ → Option (σ ⊕ ρ)} {pl : σ → XS} {ph : σ → AH} {kf : ρ → Option α} (CE : ρ → Prop) (hbody : ∀ s9 : σ, XF p l e R s m args below meth c D nL h0 Q pc (pl s9) [] (ph s9) (f s9) (fun z => Sum.elim (fun s' => XG p l e R s m args below meth c D nL h0 Q pc (pl s') [] (ph s')) CE z)) (hexit : ∀ r x, kf r = some x → C x → CE r) (s0 : σ) : XF p l e R s m args below meth c D nL h0 Q pc (pl s0) [] (ph s0) ((xloop f s0).bind kf) C := by
  intro x hx hc
  cases hF : xloop f s0 with
  | none => rw [hF] at hx; exact absurd hx (by simp)
  | some r =>
    rw [hF] at hx
    have hCE := hexit r x hx hc
    obtain ⟨n, hn⟩ := xloop_run.mp hF
    clear hF
    induction n generalizing s0 with
    | zero => exact absurd hn (by simp [xrun])
    | succ n ih =>
      rw [xrun] at hn
      cases hf : f s0 with
      | none => rw [hf] at hn; exact absurd hn (by simp)
      | some y =>
        rw [hf] at hn
        cases y with
        | inl s' => exact hbody s0 (.inl s') hf (ih s' hn)
        | inr r' =>
          cases hn
          exact hbody s0 (.inr r) hf hCE
theorem x_jump {β : Type} {y : β} {C9 : β → Prop} (hC : C9 y → XG p l e R s m args below meth c D nL h0 Q pc lv st h) : XF p l e R s m args below meth c D nL h0 Q pc lv st h (some y) C9 := fun x hx hc => by
  cases hx
  exact hC hc
theorem x_g {β γ : Type} {y : β} {C9 : γ → Prop} (g : β → γ) (k : XF p l e R s m args below meth c D nL h0 Q pc lv st h (some y) (fun z => C9 (g z))) : XF p l e R s m args below meth c D nL h0 Q pc lv st h (some (g y)) C9 := fun x hx hc => by
  cases hx
  exact k y rfl hc
theorem x_ro {β : Type} {y : β} {C9 : β × AH → Prop} (k : XF p l e R s m args below meth c D nL h0 Q pc lv st h (some (y, h)) C9) : XF p l e R s m args below meth c D nL h0 Q pc lv st h (some y) (fun z => C9 (z, h)) := fun x hx hc => by
  cases hx
  exact k (y, h) rfl hc
theorem x_C {β : Type} {r9 : Option β} {C8 C9 : β → Prop} (hC : ∀ z, C9 z → C8 z) (k : XF p l e R s m args below meth c D nL h0 Q pc lv st h r9 C8) : XF p l e R s m args below meth c D nL h0 Q pc lv st h r9 C9 := fun x hx hc => k x hx (hC x hc)
theorem x_copy (K : XO p R s m args meth c D nL h0 cc own fr lo) {pc' : Nat} {t : Nat} {src dst index : Nat} {sp dp n : Int32} {kf : AH → Option α} (ht : t = 100 ∨ t = 101) (hlink : Cond.methodLink own index arraycopyName ∈ lw_all) (hnat : Cond.native arraycopyName ∈ lw_all) (hstat : Cond.static arraycopyName ∈ lw_all) (hini : Cond.initialized "java/lang/System" ∈ lw_all) (hfr : 1 ≤ fr) (hlo : (st.map xc).sum + (nativeFrameWords "java/lang/System" "arraycopy" 5 + 11) ≤ lo) (hd : decode cc pc = .ok (.invokestatic index, 3)) (hpc : pc + 3 = pc') (kk : ∀ h1 : AH, XF p l e R s m args below meth c D nL h0 Q pc' lv st h1 (kf h1) C) : XF p l e R s m args below meth c D nL h0 Q pc lv (xI n :: xI dp :: xR dst :: xI sp :: xR src :: st) h ((xcp h t src sp dst dp n).bind kf) C := by
  subst hpc
  intro x hx hc ls H locs hl hi
  unfold xcp at hx
  by_cases q : hkd h src = t ∧ hkd h dst = t ∧ 0 ≤ sp.toInt ∧ 0 ≤ dp.toInt ∧ 0 ≤ n.toInt ∧ sp.toInt + n.toInt ≤ hln h src ∧ dp.toInt + n.toInt ≤ hln h dst ∧ (t = 100 ∨ ∀ j : Nat, j < n.toNatClampNeg → hiv h src (sp.toNatClampNeg + j) = 0 ∨ hiv h src (sp.toNatClampNeg + j) = 1)
  · rw [if_pos q] at hx
    obtain ⟨q1, q2, q3, q4, q5, q6, q7, q8⟩ := q
    obtain ⟨hR, hsize, hS, hD⟩ := id hi
    have hts := K.2.2.2.2.1
    have hRm := K.2.2.2.2.2.2.1
    have ht2 : t = 100 ∨ t = 101 ∨ t = 102 := by omega
    obtain ⟨a0, rfl⟩ := xrep_ad hR (r := src) (by omega)
    obtain ⟨a, rfl⟩ := xrep_ad hR (r := dst) (by omega)
    have hc0 : H[a0]? = some (vp_cell (D.2.2 t) (hln h (a0 + 1), .inl (hiv h (a0 + 1)))) := hR.1 a0 _ (xent_i q1 ht2)
    have hc1 : H[a]? = some (vp_cell (D.2.2 t) (hln h (a + 1), .inl (hiv h (a + 1)))) := hR.1 a _ (xent_i q2 ht2)
    have hAr := (K.2.2.2.2.2.1.1.2 _ _ (xtys_at D (k := t) (by omega) (by omega))).1
    obtain ⟨-, k0, hk0, cm0, hkk0⟩ := hAr (hln h (a0 + 1)) (fun j => .int (hiv h (a0 + 1) j))
    obtain ⟨-, k1, hk1, cm1, hkk1⟩ := hAr (hln h (a + 1)) (fun j => .int (hiv h (a + 1) j))
    have nn : ∀ z : Int32, 0 ≤ z.toInt → z.toInt = (z.toNatClampNeg : Int) := fun z hz => by rw [xi_nat]; omega
    have e3 := nn sp q3
    have e4 := nn dp q4
    have e5 := nn n q5
    have hprim : refKind (xat_ t) = false := by rcases ht with rfl | rfl <;> rfl
    have hfit : ∀ i, i < n.toNatClampNeg → fits (xat_ t) (.int (hiv h (a0 + 1) (sp.toNatClampNeg + i))) = true := by
      intro i hi9
      rcases ht with rfl | rfl
      · rfl
      · rcases q8 with q8 | q8
        · omega
        · rcases q8 i hi9 with g | g <;> rw [g] <;> rfl
    intro T hT X
    obtain ⟨vm', X', step⟩ := X.arraycopy K.1 K.2.2.2.1 (hts _ hlink) (hts _ hnat) (hts _ hstat) (hts _ hini) (src := a0) (dst := a) (cs := vp_cell (D.2.2 t) (hln h (a0 + 1), .inl (hiv h (a0 + 1)))) (cd := vp_cell (D.2.2 t) (hln h (a + 1), .inl (hiv h (a + 1)))) (srcPos := sp) (destPos := dp) (n := n) (by rw [hT]; exact hc0) (by rw [hT]; exact hc1)
      (fun _ h => by cases h) (fun _ h => by cases h) (fun h => by cases h) (fun h => by cases h) hk0 hk1 hkk0 hkk1 (by simp [hprim]) (xi_nn q3) (xi_nn q4) (xi_nn q5)
      (by show ¬ _ > ((arrV _ (hln h (a0 + 1)) (fun j => .int (hiv h (a0 + 1) j))).slots.size : Int); rw [arrV_size]; omega)
      (by show ¬ _ > ((arrV _ (hln h (a + 1)) (fun j => .int (hiv h (a + 1) j))).slots.size : Int); rw [arrV_size]; omega)
      (fun vm₁ _ i hi9 => by
        have e : (vp_cell (D.2.2 t) (hln h (a0 + 1), .inl (hiv h (a0 + 1)))).slots.getD (sp.toNatClampNeg + i) .null = .int (hiv h (a0 + 1) (sp.toNatClampNeg + i)) := by
          show (arrV _ (hln h (a0 + 1)) (fun j => .int (hiv h (a0 + 1) j))).slots.getD _ _ = _
          rw [Array.getD_eq_getD_getElem?, arrV_read _ _ (by omega)]
          rfl
        refine ⟨?_, ?_⟩
        · rw [e]
          exact hfit i hi9
        · rw [e]
          exact trivial)
      (g := F0 m pc ls (.int n :: .int dp :: .ref a :: .int sp :: .ref a0 :: st.map xv)) rfl (by rw [K.2.2.1]; exact hl.1) (rest := st.map xv) rfl (by rw [K.2.1]; exact hd) (by rw [hRm]; exact hfr) (by rw [hRm]; show 2 * 0 + _ + _ ≤ lo; rw [xv_sum]; omega)
    have e1 : copied (vp_cell (D.2.2 t) (hln h (a0 + 1), .inl (hiv h (a0 + 1)))) (vp_cell (D.2.2 t) (hln h (a + 1), .inl (hiv h (a + 1)))) sp dp n = vp_cell (D.2.2 t) (hln h (a + 1), .inl (va_cpy (hiv h (a0 + 1)) (hiv h (a + 1)) sp.toNatClampNeg dp.toNatClampNeg n.toNatClampNeg)) := va_copied (fun z => .int z) _ _ _ _ (by omega)
    rw [e1] at X' step
    have hlt : a < H.size := (Array.getElem?_eq_some_iff.mp hc1).1
    generalize hg : va_cpy (hiv h (a0 + 1)) (hiv h (a + 1)) sp.toNatClampNeg dp.toNatClampNeg n.toNatClampNeg = gg at *
    have hheap : ((T.setVm vm').setCell a (vp_cell (D.2.2 t) (hln h (a + 1), .inl gg))).heap = H.setIfInBounds a (vp_cell (D.2.2 t) (hln h (a + 1), .inl gg)) := by rw [← hT]; rfl
    have oq : ∀ q : Nat, q ≠ a → (H.setIfInBounds a (vp_cell (D.2.2 t) (hln h (a + 1), .inl gg)))[q]? = H[q]? := fun q hq => by simp [Array.getElem?_setIfInBounds, Ne.symm hq]
    have hent := xent_i (D := D) (h := hsA h (a + 1) gg) (r := a + 1) (t := t) q2 ht2
    have := kk (hsA h (a + 1) gg) x hx hc ls (H.setIfInBounds a (vp_cell (D.2.2 t) (hln h (a + 1), .inl gg))) _ hl ⟨xrep_upd hR rfl (fun r' n => xent_A n) oq hent ?_, by rw [Array.size_setIfInBounds]; exact hsize, ⟨by rw [Array.size_setIfInBounds]; exact hS.1, fun q9 g1 g2 => ?_, fun q9 hq9 => ?_⟩, hD⟩ _ hheap X'
    · obtain ⟨t9, a1, b1⟩ := this
      exact ⟨t9, step t9 a1, b1⟩
    · show (H.setIfInBounds a _)[a]? = some (vp_cell (D.2.2 t) (hln h (a + 1), .inl (hiv (hsA h (a + 1) gg) (a + 1))))
      rw [show hiv (hsA h (a + 1) gg) (a + 1) = gg from if_pos rfl]
      simp [Array.getElem?_setIfInBounds, hlt]
    · rw [oq q9 (fun e9 => g2 (by rw [e9]; exact hD.1 a (by omega)))]
      exact hS.2.1 q9 g1 g2
    · rcases List.mem_append.mp hq9 with h9 | h9
      · exact hS.2.2 q9 h9
      · obtain ⟨z, -, hz⟩ := List.mem_map.mp h9
        rw [← hz]
        exact hD.1 a (by omega)
  · rw [if_neg q] at hx
    exact absurd hx (by simp)
end XCR
