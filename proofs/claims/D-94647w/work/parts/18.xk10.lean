/-! XK 10: statics, String constants -/
set_option maxRecDepth 100000
def xsv (h : AH) (r : Nat) : Option Nat := (xsx h 10 r).map fun i => hcs h (50 + i)
def xsco (h : AH) (r : Nat) : Option Int32 := (xsx h 10 r).map fun _ => 0
def xsbl (h : AH) (a : Nat) : Option Int32 := (xsx h 50 a).map fun i => Int32.ofNat (xslen.getD i 0)
def xsch (h : AH) (a : Nat) (k : Int32) : Option Int32 := (xsx h 50 a).bind fun i => if 0 ≤ k.toInt ∧ k.toInt < xslen.getD i 0 then some ((xsbyt.getD i []).getD k.toNatClampNeg 0) else none
def xcks {β : Type} (h : AH) (r : Nat) (F : Option β) : Option β := if (xsx h 10 r).isSome then F else none
def xss (h : AH) (r : Nat) (i : Int32) (v : Nat) : Option AH := if hkd h r = 104 ∧ 0 ≤ i.toInt ∧ i.toInt < hln h r ∧ (xsx h 10 v).isSome then some (hsR h r i.toNatClampNeg v) else none
section XS
variable {p : Program} {l : Launch} {e : Env} {R : Room} {s : State} {m : MethodId} {args : Array Value} {below : List Frame} {meth : Method} {c : Code} {D : XD} {nL : Nat} {h0 : AH} {Q : State → Prop} {pc : Nat} {lv : XS} {st : List XV} {h : AH} {α : Type} {res : Option α} {C : α → Prop} {cc : ByteArray} {own : String} {fr lo : Nat}
theorem x_getsr (K : XO p R s m args meth c D nL h0 cc own fr lo) {pc' : Nat} {index k : Nat} (hk : k < 3) (hq : Cond.fieldLink own index (xsg k).1 (xsg k).2.1 (xsg k).2.2 ∈ lw_all) (hd : decode cc pc = .ok (.getstatic index, 3)) (hpc : pc + 3 = pc') (kk : XF p l e R s m args below meth c D nL h0 Q pc' lv (xR (hcs h k) :: st) h res C) : XF p l e R s m args below meth c D nL h0 Q pc lv st h res C := by
  subst hpc
  exact fun x hx hc ls H locs hl hi => va_gets K.1 K.2.1 (v := va_rf (xo (hcs h k))) (by rw [hi.2.2.2.2.2.2.2.2.2.2]; exact K.2.2.2.2.2.2.2.2.1 k hk) hi.2.2.1 K.2.2.2.1 (K.2.2.2.2.1 _ hq) (fun _ h9 => h9) hd (kk x hx hc ls H locs hl hi)
theorem x_getsc (K : XO p R s m args meth c D nL h0 cc own fr lo) {pc' : Nat} {index : Nat} (hq : Cond.fieldLink own index "java/lang/String" "COMPACT_STRINGS" "Z" ∈ lw_all) (hd : decode cc pc = .ok (.getstatic index, 3)) (hpc : pc + 3 = pc') (kk : XF p l e R s m args below meth c D nL h0 Q pc' lv (xI 1 :: st) h res C) : XF p l e R s m args below meth c D nL h0 Q pc lv st h res C := by
  subst hpc
  exact fun x hx hc ls H locs hl hi => va_gets K.1 K.2.1 (v := .int 1) K.2.2.2.2.2.2.2.2.2.1 hi.2.2.1 K.2.2.2.1 (K.2.2.2.2.1 _ hq) (fun _ h9 => h9) hd (kk x hx hc ls H locs hl hi)
theorem x_ldcs (K : XO p R s m args meth c D nL h0 cc own fr lo) {pc' : Nat} {index i : Nat} {tx : String} (hi9 : i < xsN) (hq : (own, index, tx, i) ∈ xsrefs) (hd : decode cc pc = .ok (.ldc index, 2)) (hpc : pc + 2 = pc') (kk : XF p l e R s m args below meth c D nL h0 Q pc' lv (xR (hcs h (10 + i)) :: st) h res C) : XF p l e R s m args below meth c D nL h0 Q pc lv st h res C := by
  subst hpc
  intro x hx hc ls H locs hl hi
  obtain ⟨e1, e2, e3, e4, e5, e6⟩ := K.2.2.2.2.2.2.2.2
  have hcs9 : hcs h = hcs h0 := hi.2.2.2.2.2.2.2.2.2.2
  have hz := e6 _ hq
  have k9 := kk x hx hc ls H locs hl hi
  have h5 := (e5 i hi9).1
  rw [hcs9] at k9
  have e9 : va_rf (xo (hcs h0 (10 + i))) = .ref (hcs h0 (10 + i) - 1) := by
    cases hz9 : hcs h0 (10 + i) with
    | zero => exact absurd hz9 h5
    | succ a => rfl
  have k8 : W p l e R s m args below meth c H locs (hsz h - hsz h0) (hsl h - hsl h0) Q (F0 m (pc + 2) ls (va_rf (xo (hcs h0 (10 + i))) :: st.map xv)) := k9
  rw [e9] at k8
  exact va_ldcS K.1 K.2.1 K.2.2.2.1 hz hd k8
theorem xsx_rf {h : AH} {D0 : XD} {s : State} (e : XEnv h (XAr h) s s.heap) {r i : Nat} (hx : xsx h 10 r = some i) : i < xsN ∧ va_rf (xo r) = .ref (hcs h (10 + i) - 1) := by
  obtain ⟨h1, h2⟩ := xsx_ok hx
  have h5 := (e.2.2.2.2.1 i h1).1
  refine ⟨h1, ?_⟩
  subst h2
  cases hz9 : hcs h (10 + i) with
  | zero => exact absurd hz9 h5
  | succ a => rfl
theorem xsx_rv {h : AH} {s : State} (e : XEnv h (XAr h) s s.heap) {r i : Nat} (hx : xsx h 50 r = some i) : i < xsN ∧ va_rf (xo r) = .ref (hcs h (50 + i) - 1) := by
  obtain ⟨h1, h2⟩ := xsx_ok hx
  have h5 := (e.2.2.2.2.1 i h1).2
  refine ⟨h1, ?_⟩
  subst h2
  cases hz9 : hcs h (50 + i) with
  | zero => exact absurd hz9 h5
  | succ a => rfl
theorem xsx_cs {h h1 : AH} (e : hcs h = hcs h1) (k r : Nat) : xsx h k r = xsx h1 k r := by
  unfold xsx
  rw [e]
theorem x_sval (K : XO p R s m args meth c D nL h0 cc own fr lo) {pc' : Nat} {r index : Nat} {kf : Nat → Option α} (hq : Cond.fieldLink own index "java/lang/String" "value" "[B" ∈ lw_all) (hd : decode cc pc = .ok (.getfield index, 3)) (hpc : pc + 3 = pc') (kk : ∀ v : Nat, XF p l e R s m args below meth c D nL h0 Q pc' lv (xR v :: st) h (kf v) C) : XF p l e R s m args below meth c D nL h0 Q pc lv (xR r :: st) h ((xsv h r).bind kf) C := by
  subst hpc
  intro x hx hc ls H locs hl hi
  have hcs9 : hcs h = hcs h0 := hi.2.2.2.2.2.2.2.2.2.2
  unfold xsv at hx
  cases hx9 : xsx h 10 r with
  | none => rw [hx9] at hx; exact absurd hx (by simp)
  | some i =>
    rw [hx9] at hx
    rw [xsx_cs hcs9] at hx9
    obtain ⟨h1, h2⟩ := xsx_rf (D0 := D) K.2.2.2.2.2.2.2.2 hx9
    obtain ⟨e1, e2, e3, e4, e5, e6⟩ := K.2.2.2.2.2.2.2.2
    have h5 := (e5 i h1).2
    have e8 : xv (xR (hcs h0 (50 + i))) = .ref (hcs h0 (50 + i) - 1) := by
      show va_rf (xo _) = _
      cases hz9 : hcs h0 (50 + i) with
      | zero => exact absurd hz9 h5
      | succ a => rfl
    have k9 := kk (hcs h (50 + i)) x hx hc ls H locs hl hi
    rw [hcs9] at k9
    have k8 : W p l e R s m args below meth c H locs (hsz h - hsz h0) (hsl h - hsl h0) Q (F0 m (pc + 3) ls (xv (xR (hcs h0 (50 + i))) :: st.map xv)) := k9
    rw [e8] at k8
    show W p l e R s m args below meth c H locs (hsz h - hsz h0) (hsl h - hsl h0) Q (F0 m pc ls (va_rf (xo r) :: st.map xv))
    rw [h2]
    exact vk_getf K.1 K.2.1 (e4.1 i h1).2.2.1 hi.2.2.1 K.2.2.2.1 (K.2.2.2.2.1 _ hq) (fun _ h9 => h9) hd k8
theorem x_scod (K : XO p R s m args meth c D nL h0 cc own fr lo) {pc' : Nat} {r index : Nat} {kf : Int32 → Option α} (hq : Cond.fieldLink own index "java/lang/String" "coder" "B" ∈ lw_all) (hd : decode cc pc = .ok (.getfield index, 3)) (hpc : pc + 3 = pc') (kk : ∀ v : Int32, XF p l e R s m args below meth c D nL h0 Q pc' lv (xI v :: st) h (kf v) C) : XF p l e R s m args below meth c D nL h0 Q pc lv (xR r :: st) h ((xsco h r).bind kf) C := by
  subst hpc
  intro x hx hc ls H locs hl hi
  have hcs9 : hcs h = hcs h0 := hi.2.2.2.2.2.2.2.2.2.2
  unfold xsco at hx
  cases hx9 : xsx h 10 r with
  | none => rw [hx9] at hx; exact absurd hx (by simp)
  | some i =>
    rw [hx9] at hx
    rw [xsx_cs hcs9] at hx9
    obtain ⟨h1, h2⟩ := xsx_rf (D0 := D) K.2.2.2.2.2.2.2.2 hx9
    obtain ⟨e1, e2, e3, e4, e5, e6⟩ := K.2.2.2.2.2.2.2.2
    have k8 := kk 0 x hx hc ls H locs hl hi
    show W p l e R s m args below meth c H locs (hsz h - hsz h0) (hsl h - hsl h0) Q (F0 m pc ls (va_rf (xo r) :: st.map xv))
    rw [h2]
    exact vk_getf K.1 K.2.1 (e4.1 i h1).2.1 hi.2.2.1 K.2.2.2.1 (K.2.2.2.2.1 _ hq) (fun _ h9 => h9) hd k8
theorem x_sbln (K : XO p R s m args meth c D nL h0 cc own fr lo) {pc' : Nat} {r : Nat} {kf : Int32 → Option α} (hd : decode cc pc = .ok (.arraylength, 1)) (hpc : pc + 1 = pc') (kk : ∀ v : Int32, XF p l e R s m args below meth c D nL h0 Q pc' lv (xI v :: st) h (kf v) C) : XF p l e R s m args below meth c D nL h0 Q pc lv (xR r :: st) h ((xsbl h r).bind kf) C := by
  subst hpc
  intro x hx hc ls H locs hl hi
  have hcs9 : hcs h = hcs h0 := hi.2.2.2.2.2.2.2.2.2.2
  unfold xsbl at hx
  cases hx9 : xsx h 50 r with
  | none => rw [hx9] at hx; exact absurd hx (by simp)
  | some i =>
    rw [hx9] at hx
    rw [xsx_cs hcs9] at hx9
    obtain ⟨h1, h2⟩ := xsx_rv K.2.2.2.2.2.2.2.2 hx9
    obtain ⟨e1, e2, e3, e4, e5, e6⟩ := K.2.2.2.2.2.2.2.2
    show W p l e R s m args below meth c H locs (hsz h - hsz h0) (hsl h - hsl h0) Q (F0 m pc ls (va_rf (xo r) :: st.map xv))
    rw [h2]
    exact va_tlen K.1 K.2.1 (e4.1 i h1).2.2.2 hi.2.2.1 rfl hd (kk _ x hx hc ls H locs hl hi)
theorem x_sbld (K : XO p R s m args meth c D nL h0 cc own fr lo) {pc' : Nat} {r : Nat} {j : Int32} {kf : Int32 → Option α} (hd : decode cc pc = .ok (.baload, 1)) (hpc : pc + 1 = pc') (kk : ∀ v : Int32, XF p l e R s m args below meth c D nL h0 Q pc' lv (xI v :: st) h (kf v) C) : XF p l e R s m args below meth c D nL h0 Q pc lv (xI j :: xR r :: st) h ((xsch h r j).bind kf) C := by
  subst hpc
  intro x hx hc ls H locs hl hi
  have hcs9 : hcs h = hcs h0 := hi.2.2.2.2.2.2.2.2.2.2
  unfold xsch at hx
  cases hx9 : xsx h 50 r with
  | none => rw [hx9] at hx; exact absurd hx (by simp)
  | some i =>
    rw [hx9] at hx
    rw [xsx_cs hcs9] at hx9
    obtain ⟨h1, h2⟩ := xsx_rv K.2.2.2.2.2.2.2.2 hx9
    obtain ⟨e1, e2, e3, e4, e5, e6⟩ := K.2.2.2.2.2.2.2.2
    by_cases q : 0 ≤ j.toInt ∧ j.toInt < xslen.getD i 0
    · rw [Option.bind_some, if_pos q] at hx
      show W p l e R s m args below meth c H locs (hsz h - hsz h0) (hsl h - hsl h0) Q (F0 m pc ls (.int j :: va_rf (xo r) :: st.map xv))
      rw [h2]
      exact va_tb K.1 K.2.1 (e4.1 i h1).2.2.2 hi.2.2.1 (xi_in q.1 q.2) rfl hd (kk _ x hx hc ls H locs hl hi)
    · rw [Option.bind_some, if_neg q] at hx
      exact absurd hx (by simp)
theorem x_i2c (K : XO p R s m args meth c D nL h0 cc own fr lo) {pc' : Nat} {a : Int32} (hd : decode cc pc = .ok (.i2c, 1)) (hpc : pc + 1 = pc') (k : XF p l e R s m args below meth c D nL h0 Q pc' lv (xI (a.toUInt32 % 65536).toInt32 :: st) h res C) : XF p l e R s m args below meth c D nL h0 Q pc lv (xI a :: st) h res C := by
  subst hpc
  exact fun x hx hc ls H locs hl hi => lv_i2c K.1 K.2.1 hd rfl (k x hx hc ls H locs hl hi)
theorem x_bret (K : XO p R s m args meth c D nL h0 cc own fr lo) {β : Type} {enc : β → Option XV ⊕ Nat} {y : β} {v : Int32} {ty : FieldType} (hv : narrow ty (.int v) = .int v) (he : enc y = .inl (some (xI v))) (hr : meth.sig.returnType = some ty) (hd : decode cc pc = .ok (.ireturn, 1)) : XF p l e R s m args below meth c D nL h0 Q pc lv [xI v] h (some (y, h)) (XEnd below s D h0 enc Q) := by
  intro x hx hc ls H locs hl hi
  cases hx
  rw [show Q = _ from hc, he]
  exact W.mono (fun t ht => mq_ret (β := Unit) (H := H) (locs := locs) ht) (W.zret K.1 K.2.1 hr hv (fun t ht hW => ⟨rfl, xi_post hi ht⟩) hi.2.2.1.2.2 hd K.2.2.2.2.2.2.2.1)
theorem x_sast (K : XO p R s m args meth c D nL h0 cc own fr lo) {pc' : Nat} {r : Nat} {i : Int32} {v : Nat} {kf : AH → Option α} (hd : decode cc pc = .ok (.aastore, 1)) (hpc : pc + 1 = pc') (kk : ∀ h1 : AH, XF p l e R s m args below meth c D nL h0 Q pc' lv st h1 (kf h1) C) : XF p l e R s m args below meth c D nL h0 Q pc lv (xR v :: xI i :: xR r :: st) h ((xss h r i v).bind kf) C := by
  subst hpc
  intro x hx hc ls H locs hl hi
  unfold xss at hx
  by_cases q : hkd h r = 104 ∧ 0 ≤ i.toInt ∧ i.toInt < hln h r ∧ (xsx h 10 v).isSome
  · rw [if_pos q] at hx
    obtain ⟨hR, hsize, hS, hD⟩ := id hi
    have hcs9 : hcs h = hcs h0 := hi.2.2.2.2.2.2.2.2.2.2
    obtain ⟨i9, hx9⟩ := Option.isSome_iff_exists.mp q.2.2.2
    rw [xsx_cs hcs9] at hx9
    obtain ⟨g1, g2⟩ := xsx_rf (D0 := D) K.2.2.2.2.2.2.2.2 hx9
    have e4 := K.2.2.2.2.2.2.2.2.2.2.2.1
    obtain ⟨cv, c1, c2, c3⟩ := vk_recv e4 g1 hS
    obtain ⟨kv, kv1, -⟩ := Vm.findClass_spec c3
    obtain ⟨a, rfl⟩ := xrep_ad hR (r := r) (by rw [q.1]; decide)
    have hin := xi_in q.2.1 q.2.2.1
    have hlt : i.toNatClampNeg < hln h (a + 1) := Nat.not_le.mp fun q => hin (Or.inr q)
    have hn0 : ¬ i < 0 := fun q => hin (Or.inl q)
    have hcell := hR.1 a _ (xent_q q.1 (by decide) (by decide))
    have hK := K.2.2.2.2.2.1.1
    have htt := hK.2 _ _ (xtys_at D (k := 104) (by decide) (by decide))
    obtain ⟨kA, comp, k1, k2, k3, -⟩ := htt.2
    have hcomp : comp = cv.cls := Option.some.inj (k3.symm.trans c3)
    subst hcomp
    show W p l e R s m args below meth c H locs (hsz h - hsz h0) (hsl h - hsl h0) Q (F0 m pc ls (va_rf (xo v) :: .int i :: .ref a :: st.map xv))
    rw [g2]
    refine W.aast K.1 K.2.1 hcell (fun q h => by cases h) (fun h => by cases h) k1 k2 rfl kv1 ⟨hn0, by show _ < (arrV _ _ _).slots.size; rw [arrV_size]; exact hlt⟩ c1 (fun q h => by rw [h] at c2; cases c2) kv1 (va_asg _ _) rfl rfl hd fun H1 e1 e2 e3 => ?_
    refine kk (hsR h (a + 1) i.toNatClampNeg v) x hx hc ls H1 _ hl ⟨xrep_upd hR rfl (fun r' n => xent_R n) e3 (xent_q (h := hsR h (a + 1) i.toNatClampNeg v) q.1 (by decide) (by decide)) ?_, by rw [e2]; exact hsize, hS.put e2 e3 (hD.1 a (by rw [q.1]; decide)), hD⟩
    show H1[a]? = some (vp_cell _ _)
    rw [e1, vp_cell_q, vp_cell_q, arrV_store]
    congr 2
    funext j
    rw [show hrv (hsR h (a + 1) i.toNatClampNeg v) (a + 1) = va_up (hrv h (a + 1)) i.toNatClampNeg v from xu_same]
    by_cases hj : j = i.toNatClampNeg
    · subst hj
      simp [updV, va_up, g2]
    · simp [updV, va_up, hj]
  · rw [if_neg q] at hx
    exact absurd hx (by simp)
theorem xs_VS (K : XO p R s m args meth c D nL h0 cc own fr lo) {H : Heap} {locs : List Loc} {ls : Array Slot} {As rest : List XV} {r index : Nat} {y : MethodName} {bytes : ByteArray} {maxL : Nat} {ret : Option FieldType} (hcs9 : hcs h = hcs h0) (hS : va_S (XAr h0) s.heap H locs) (hk : (xsx h 10 r).isSome) (hlink : Cond.methodLink own index y ∈ lw_all) (hinst : Cond.instanceMethod y ∈ lw_all) (hsel : Cond.selects "java/lang/String" y y ∈ lw_all) (hq : Cond.code y bytes maxL ret ∈ lw_all) (hy : (y.cls ≠ "java/lang/invoke/MethodHandle" ∧ y.cls ≠ "java/lang/invoke/VarHandle") ∧ (parseMethodDescriptor y.desc).map (fun d => d.parameters.length) = some As.length) (hd : decode cc pc = .ok (.invokevirtual index, 3)) : XStep p l e R s m args below meth c H pc ls ((As.map xv).reverse ++ va_rf (xo r) :: rest.map xv) (rest.map xv) y ((xR r :: As).map xv).toArray := by
  obtain ⟨i9, hx9⟩ := Option.isSome_iff_exists.mp hk
  rw [xsx_cs hcs9] at hx9
  obtain ⟨g1, g2⟩ := xsx_rf (D0 := D) K.2.2.2.2.2.2.2.2 hx9
  obtain ⟨cell, hcell, hvm, hcls⟩ := vk_recv K.2.2.2.2.2.2.2.2.2.2.2.1 g1 hS
  have hts := K.2.2.2.2.1
  intro T locs cells slots hT X
  obtain ⟨mk, methM, hnamed, hmethM, hstM, habM⟩ := Cond.instanceMethod_spec (hts _ hinst)
  obtain ⟨methM', cM, hmethM', -, -, -, -, -, -, hsigM⟩ := Cond.code_spec hnamed (hts _ hq)
  cases hmethM.symm.trans hmethM'
  obtain ⟨c2, r2, m2, q1, q2, q3, q4, kP, hkP, hkPi⟩ := Cond.selects_spec (hts _ hsel)
  cases hcls.symm.trans q1
  cases (State.methodFound?_of_named hnamed hy.1).symm.trans q2
  cases hnamed.symm.trans q3
  have hselP : selectMethod e.platform s.vm cell.cls mk = .method mk := by rw [Launch.admits_selectMethod X.admits]; exact q4
  have hlen : (As.map xv).length = methM.sig.parameters.length := by
    have h2 := hy.2
    rw [hsigM] at h2
    rw [List.length_map]
    exact (Option.some.inj h2).symm
  show ∃ (vm₁ : Vm) (mk : MethodId) (ig : Instr), _ ∧ _ ∧ _ ∧ ∀ target, Steps p.tables e below (doInvoke e ((T.setVm vm₁).setTop (F0 m pc ls (rest.map xv))) [] mk (va_rf (xo r) :: As.map xv).toArray).1 target → _
  rw [g2]
  obtain ⟨vm₁, X₁, hstep₁⟩ := X.invokevirtual K.1 K.2.2.2.1 (hts _ hlink) hnamed hmethM hstM hkP hkPi hy.1 (a := hcs h0 (10 + i9) - 1) (cell := cell) (by rw [hT]; exact hcell)
    (fun z h => by rw [h] at hvm; cases hvm) hselP hmethM habM hkP hkPi (g := F0 m pc ls ((As.map xv).reverse ++ .ref (hcs h0 (10 + i9) - 1) :: rest.map xv)) rfl (argsL := As.map xv) (rest := rest.map xv) hlen rfl (by rw [K.2.1]; exact hd)
  exact ⟨vm₁, mk, _, X₁, X₁.named hnamed, (by rw [K.2.1]; exact hd), fun target h => hstep₁ _ fun acts => by rw [doInvoke_state]; exact h⟩
theorem x_cVSO {β : Type} {F : Option β} {kf : β → Option α} {en : β → Option XV} (K : XO p R s m args meth c D nL h0 cc own fr lo) {pc' : Nat} {As rest st0 : List XV} {r index : Nat} {y : MethodName} {bytes : ByteArray} {maxL : Nat} {ret : Option FieldType} {fr1 lo1 : Nat} (hM : ∀ a, F = some a → XCt l D y (ws_ y bytes maxL ret) fr1 lo1 (xR r :: As) h (.inl (en a)) h) (hs : As.reverse ++ xR r :: rest = st0) (hlink : Cond.methodLink own index y ∈ lw_all) (hinst : Cond.instanceMethod y ∈ lw_all) (hsel : Cond.selects "java/lang/String" y y ∈ lw_all) (hq : Cond.code y bytes maxL ret ∈ lw_all) (hini : Cond.initialized y.cls ∈ lw_all) (hy : (y.cls ≠ "java/lang/invoke/MethodHandle" ∧ y.cls ≠ "java/lang/invoke/VarHandle") ∧ (parseMethodDescriptor y.desc).map (fun d => d.parameters.length) = some As.length) (hfr : fr1 + 1 ≤ fr) (hlo : 8 + (maxL + 11) + lo1 ≤ lo) (hcat : (rest.map xc).sum ≤ 8) (hd : decode cc pc = .ok (.invokevirtual index, 3)) (hpc : pc + 3 = pc') (kk : ∀ (a : β), XF p l e R s m args below meth c D nL h0 Q pc' lv ((en a).toList ++ rest) h (kf a) C) : XF p l e R s m args below meth c D nL h0 Q pc lv st0 h ((xcks h r F).bind kf) C := by
  subst hpc
  subst hs
  unfold xcks
  by_cases qk : (xsx h 10 r).isSome
  · rw [if_pos qk]
    intro x hx hc ls H locs hl hi
    cases hF : F with
    | none => rw [hF] at hx; exact absurd hx (by simp)
    | some a =>
      rw [hF] at hx
      refine xw_call K hl.1 hi (hM a hF) (by rw [List.map_append, List.map_reverse]; exact xs_VS K hi.2.2.2.2.2.2.2.2.2.2 hi.2.2.1 qk hlink hinst hsel hq hy hd) hq hini hfr hlo hcat (fun v hv H1 locs1 hi1 => ?_) (fun q hq => by cases hq)
      cases hv
      have := kk a x hx hc ls H1 locs1 hl hi1
      rw [List.map_append] at this
      cases he : en a <;> rw [he] at this <;> exact this
  · rw [if_neg qk]
    exact fun x hx => absurd hx (by simp)
end XS
