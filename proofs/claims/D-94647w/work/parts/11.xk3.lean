/-! XK 3: the rules, an instruction each -/
set_option maxRecDepth 100000
section XRules
variable {p : Program} {l : Launch} {e : Env} {R : Room} {s : State} {m : MethodId} {args : Array Value} {below : List Frame} {meth : Method} {c : Code} {D : XD} {nL : Nat} {h0 : AH} {Q : State → Prop} {pc : Nat} {lv : XS} {st : List XV} {h : AH} {α : Type} {res : Option α} {C : α → Prop} {cc : ByteArray} {own : String} {fr lo : Nat}
theorem x_iconst (K : XO p R s m args meth c D nL h0 cc own fr lo) {pc' : Nat} {n : Int} {v : Int32} (hd : decode cc pc = .ok (.iconst n, 1)) (hpc : pc + 1 = pc') (hv : Int32.ofInt n = v) (k : XF p l e R s m args below meth c D nL h0 Q pc' lv (xI v :: st) h res C) : XF p l e R s m args below meth c D nL h0 Q pc lv st h res C := by
  subst hpc
  exact fun x hx hc ls H locs hl hi => lv_iconst K.1 K.2.1 hd hv (k x hx hc ls H locs hl hi)
theorem x_bipush (K : XO p R s m args meth c D nL h0 cc own fr lo) {pc' : Nat} {n : Int} {v : Int32} (hd : decode cc pc = .ok (.bipush n, 2)) (hpc : pc + 2 = pc') (hv : (Int8.ofInt n).toInt32 = v) (k : XF p l e R s m args below meth c D nL h0 Q pc' lv (xI v :: st) h res C) : XF p l e R s m args below meth c D nL h0 Q pc lv st h res C := by
  subst hpc
  exact fun x hx hc ls H locs hl hi => lv_bipush K.1 K.2.1 hd hv (k x hx hc ls H locs hl hi)
theorem x_sipush (K : XO p R s m args meth c D nL h0 cc own fr lo) {pc' : Nat} {n : Int} {v : Int32} (hd : decode cc pc = .ok (.sipush n, 3)) (hpc : pc + 3 = pc') (hv : (Int16.ofInt n).toInt32 = v) (k : XF p l e R s m args below meth c D nL h0 Q pc' lv (xI v :: st) h res C) : XF p l e R s m args below meth c D nL h0 Q pc lv st h res C := by
  subst hpc
  exact fun x hx hc ls H locs hl hi => lv_sipush K.1 K.2.1 hd hv (k x hx hc ls H locs hl hi)
theorem x_lconst (K : XO p R s m args meth c D nL h0 cc own fr lo) {pc' : Nat} {n : Fin 2} {v : Int64} (hd : decode cc pc = .ok (.lconst n, 1)) (hpc : pc + 1 = pc') (hv : Int64.ofNat (n : Nat) = v) (k : XF p l e R s m args below meth c D nL h0 Q pc' lv (xJ v :: st) h res C) : XF p l e R s m args below meth c D nL h0 Q pc lv st h res C := by
  subst hpc
  exact fun x hx hc ls H locs hl hi => lv_lconst K.1 K.2.1 hd hv (k x hx hc ls H locs hl hi)
theorem x_null (K : XO p R s m args meth c D nL h0 cc own fr lo) {pc' : Nat} (hd : decode cc pc = .ok (.aconst_null, 1)) (hpc : pc + 1 = pc') (k : XF p l e R s m args below meth c D nL h0 Q pc' lv (xR 0 :: st) h res C) : XF p l e R s m args below meth c D nL h0 Q pc lv st h res C := by
  subst hpc
  exact fun x hx hc ls H locs hl hi => lv_null K.1 K.2.1 hd (k x hx hc ls H locs hl hi)
theorem x_ldc (K : XO p R s m args meth c D nL h0 cc own fr lo) {pc' : Nat} {index : Nat} {v : Int32} (hq : Cond.constant own index v ∈ lw_all) (hd : decode cc pc = .ok (.ldc index, 2)) (hpc : pc + 2 = pc') (k : XF p l e R s m args below meth c D nL h0 Q pc' lv (xI v :: st) h res C) : XF p l e R s m args below meth c D nL h0 Q pc lv st h res C := by
  subst hpc
  exact fun x hx hc ls H locs hl hi => lv_ldc K.1 K.2.1 K.2.2.2.1 (K.2.2.2.2.1 _ hq) hd (k x hx hc ls H locs hl hi)
theorem x_ldcw (K : XO p R s m args meth c D nL h0 cc own fr lo) {pc' : Nat} {index : Nat} {v : Int32} (hq : Cond.constant own index v ∈ lw_all) (hd : decode cc pc = .ok (.ldc_w index, 3)) (hpc : pc + 3 = pc') (k : XF p l e R s m args below meth c D nL h0 Q pc' lv (xI v :: st) h res C) : XF p l e R s m args below meth c D nL h0 Q pc lv st h res C := by
  subst hpc
  exact fun x hx hc ls H locs hl hi => lv_ldcw K.1 K.2.1 K.2.2.2.1 (K.2.2.2.2.1 _ hq) hd (k x hx hc ls H locs hl hi)
theorem x_ldc2 (K : XO p R s m args meth c D nL h0 cc own fr lo) {pc' : Nat} {index : Nat} {v : Int64} (hq : Cond.constantLong own index v ∈ lw_all) (hd : decode cc pc = .ok (.ldc2_w index, 3)) (hpc : pc + 3 = pc') (k : XF p l e R s m args below meth c D nL h0 Q pc' lv (xJ v :: st) h res C) : XF p l e R s m args below meth c D nL h0 Q pc lv st h res C := by
  subst hpc
  exact fun x hx hc ls H locs hl hi => lv_ldc2 K.1 K.2.1 K.2.2.2.1 (K.2.2.2.2.1 _ hq) hd (k x hx hc ls H locs hl hi)
theorem x_iload_n (K : XO p R s m args meth c D nL h0 cc own fr lo) {pc' : Nat} {j : Fin 4} {v : Int32} (i : Nat) (hd : decode cc pc = .ok (.iload_n j, 1)) (hpc : pc + 1 = pc') (hl0 : lv[i]? = some ((j : Nat), xI v)) (k : XF p l e R s m args below meth c D nL h0 Q pc' lv (xI v :: st) h res C) : XF p l e R s m args below meth c D nL h0 Q pc lv st h res C := by
  subst hpc
  exact fun x hx hc ls H locs hl hi => lv_iload_n K.1 K.2.1 hd rfl (xat hl i hl0) (k x hx hc ls H locs hl hi)
theorem x_iload (K : XO p R s m args meth c D nL h0 cc own fr lo) {pc' : Nat} {j : Nat} {v : Int32} (i : Nat) (hd : decode cc pc = .ok (.iload j, 2)) (hpc : pc + 2 = pc') (hl0 : lv[i]? = some (j, xI v)) (k : XF p l e R s m args below meth c D nL h0 Q pc' lv (xI v :: st) h res C) : XF p l e R s m args below meth c D nL h0 Q pc lv st h res C := by
  subst hpc
  exact fun x hx hc ls H locs hl hi => lv_iload K.1 K.2.1 hd (xat hl i hl0) (k x hx hc ls H locs hl hi)
theorem x_lload_n (K : XO p R s m args meth c D nL h0 cc own fr lo) {pc' : Nat} {j : Fin 4} {v : Int64} (i : Nat) (hd : decode cc pc = .ok (.lload_n j, 1)) (hpc : pc + 1 = pc') (hl0 : lv[i]? = some ((j : Nat), xJ v)) (k : XF p l e R s m args below meth c D nL h0 Q pc' lv (xJ v :: st) h res C) : XF p l e R s m args below meth c D nL h0 Q pc lv st h res C := by
  subst hpc
  exact fun x hx hc ls H locs hl hi => lv_lload_n K.1 K.2.1 hd rfl (xat hl i hl0) (k x hx hc ls H locs hl hi)
theorem x_lload (K : XO p R s m args meth c D nL h0 cc own fr lo) {pc' : Nat} {j : Nat} {v : Int64} (i : Nat) (hd : decode cc pc = .ok (.lload j, 2)) (hpc : pc + 2 = pc') (hl0 : lv[i]? = some (j, xJ v)) (k : XF p l e R s m args below meth c D nL h0 Q pc' lv (xJ v :: st) h res C) : XF p l e R s m args below meth c D nL h0 Q pc lv st h res C := by
  subst hpc
  exact fun x hx hc ls H locs hl hi => lv_lload K.1 K.2.1 hd (xat hl i hl0) (k x hx hc ls H locs hl hi)
theorem x_aload_n (K : XO p R s m args meth c D nL h0 cc own fr lo) {pc' : Nat} {j : Fin 4} {v : Nat} (i : Nat) (hd : decode cc pc = .ok (.aload_n j, 1)) (hpc : pc + 1 = pc') (hl0 : lv[i]? = some ((j : Nat), xR v)) (k : XF p l e R s m args below meth c D nL h0 Q pc' lv (xR v :: st) h res C) : XF p l e R s m args below meth c D nL h0 Q pc lv st h res C := by
  subst hpc
  intro x hx hc ls H locs hl hi
  have hv := xat hl i hl0
  have kk := k x hx hc ls H locs hl hi
  cases v with
  | zero => exact lv_aload_nN K.1 K.2.1 hd rfl hv kk
  | succ a => exact lv_aload_n K.1 K.2.1 hd rfl hv kk
theorem x_aload (K : XO p R s m args meth c D nL h0 cc own fr lo) {pc' : Nat} {j : Nat} {v : Nat} (i : Nat) (hd : decode cc pc = .ok (.aload j, 2)) (hpc : pc + 2 = pc') (hl0 : lv[i]? = some (j, xR v)) (k : XF p l e R s m args below meth c D nL h0 Q pc' lv (xR v :: st) h res C) : XF p l e R s m args below meth c D nL h0 Q pc lv st h res C := by
  subst hpc
  intro x hx hc ls H locs hl hi
  have hv := xat hl i hl0
  have kk := k x hx hc ls H locs hl hi
  cases v with
  | zero => exact lv_aloadN K.1 K.2.1 hd hv kk
  | succ a => exact lv_aload K.1 K.2.1 hd hv kk
theorem x_istore_n (K : XO p R s m args meth c D nL h0 cc own fr lo) {pc' : Nat} {j : Fin 4} {v : Int32} {lv' : XS} (hd : decode cc pc = .ok (.istore_n j, 1)) (hpc : pc + 1 = pc') (hn : (j : Nat) < nL) (hp : xput j (xI v) lv = lv') (k : XF p l e R s m args below meth c D nL h0 Q pc' lv' st h res C) : XF p l e R s m args below meth c D nL h0 Q pc lv (xI v :: st) h res C := by
  subst hpc
  exact fun x hx hc ls H locs hl hi => lv_istore_n K.1 K.2.1 hd rfl hl hn rfl fun ls' hl' => k x hx hc ls' H locs (by rw [← hp, ← xput_ok]; exact hl') hi
theorem x_istore (K : XO p R s m args meth c D nL h0 cc own fr lo) {pc' : Nat} {j : Nat} {v : Int32} {lv' : XS} (hd : decode cc pc = .ok (.istore j, 2)) (hpc : pc + 2 = pc') (hn : j < nL) (hp : xput j (xI v) lv = lv') (k : XF p l e R s m args below meth c D nL h0 Q pc' lv' st h res C) : XF p l e R s m args below meth c D nL h0 Q pc lv (xI v :: st) h res C := by
  subst hpc
  exact fun x hx hc ls H locs hl hi => lv_istore K.1 K.2.1 hd hl hn rfl fun ls' hl' => k x hx hc ls' H locs (by rw [← hp, ← xput_ok]; exact hl') hi
theorem x_lstore_n (K : XO p R s m args meth c D nL h0 cc own fr lo) {pc' : Nat} {j : Fin 4} {v : Int64} {lv' : XS} (hd : decode cc pc = .ok (.lstore_n j, 1)) (hpc : pc + 1 = pc') (hn : (j : Nat) + 1 < nL) (hp : xputJ j (xJ v) lv = lv') (k : XF p l e R s m args below meth c D nL h0 Q pc' lv' st h res C) : XF p l e R s m args below meth c D nL h0 Q pc lv (xJ v :: st) h res C := by
  subst hpc
  exact fun x hx hc ls H locs hl hi => lv_lstore_n K.1 K.2.1 hd rfl hl hn rfl fun ls' hl' => k x hx hc ls' H locs (by rw [← hp, ← xputJ_ok]; exact hl') hi
theorem x_lstore (K : XO p R s m args meth c D nL h0 cc own fr lo) {pc' : Nat} {j : Nat} {v : Int64} {lv' : XS} (hd : decode cc pc = .ok (.lstore j, 2)) (hpc : pc + 2 = pc') (hn : j + 1 < nL) (hp : xputJ j (xJ v) lv = lv') (k : XF p l e R s m args below meth c D nL h0 Q pc' lv' st h res C) : XF p l e R s m args below meth c D nL h0 Q pc lv (xJ v :: st) h res C := by
  subst hpc
  exact fun x hx hc ls H locs hl hi => lv_lstore K.1 K.2.1 hd hl hn rfl fun ls' hl' => k x hx hc ls' H locs (by rw [← hp, ← xputJ_ok]; exact hl') hi
theorem x_astore_n (K : XO p R s m args meth c D nL h0 cc own fr lo) {pc' : Nat} {j : Fin 4} {v : Nat} {lv' : XS} (hd : decode cc pc = .ok (.astore_n j, 1)) (hpc : pc + 1 = pc') (hn : (j : Nat) < nL) (hp : xput j (xR v) lv = lv') (k : XF p l e R s m args below meth c D nL h0 Q pc' lv' st h res C) : XF p l e R s m args below meth c D nL h0 Q pc lv (xR v :: st) h res C := by
  subst hpc
  intro x hx hc ls H locs hl hi
  have e1 := xput_ok j (xR v) lv
  have kk : ∀ ls' : Array Slot, lv_has ls' nL ((((j : Nat), xv (xR v)) :: (xlv lv).filter (fun q => !(q.1 == (j : Nat)) && !(q.1 + 1 == (j : Nat) && q.2.category == 2)))) → W p l e R s m args below meth c H locs (hsz h - hsz h0) (hsl h - hsl h0) Q (F0 m (pc + 1) ls' (st.map xv)) := fun ls' hl' => k x hx hc ls' H locs (by rw [← hp, ← e1]; exact hl') hi
  cases v with
  | zero => exact lv_astore_nN K.1 K.2.1 hd rfl hl hn rfl kk
  | succ a => exact lv_astore_n K.1 K.2.1 hd rfl hl hn rfl kk
theorem x_astore (K : XO p R s m args meth c D nL h0 cc own fr lo) {pc' : Nat} {j : Nat} {v : Nat} {lv' : XS} (hd : decode cc pc = .ok (.astore j, 2)) (hpc : pc + 2 = pc') (hn : (j : Nat) < nL) (hp : xput j (xR v) lv = lv') (k : XF p l e R s m args below meth c D nL h0 Q pc' lv' st h res C) : XF p l e R s m args below meth c D nL h0 Q pc lv (xR v :: st) h res C := by
  subst hpc
  intro x hx hc ls H locs hl hi
  have e1 := xput_ok j (xR v) lv
  have kk : ∀ ls' : Array Slot, lv_has ls' nL ((((j : Nat), xv (xR v)) :: (xlv lv).filter (fun q => !(q.1 == (j : Nat)) && !(q.1 + 1 == (j : Nat) && q.2.category == 2)))) → W p l e R s m args below meth c H locs (hsz h - hsz h0) (hsl h - hsl h0) Q (F0 m (pc + 2) ls' (st.map xv)) := fun ls' hl' => k x hx hc ls' H locs (by rw [← hp, ← e1]; exact hl') hi
  cases v with
  | zero => exact lv_astoreN K.1 K.2.1 hd hl hn rfl kk
  | succ a => exact lv_astore K.1 K.2.1 hd hl hn rfl kk
theorem x_iinc (K : XO p R s m args meth c D nL h0 cc own fr lo) {pc' : Nat} {j : Nat} {n : Int} {v : Int32} {lv' : XS} (i : Nat) (hd : decode cc pc = .ok (.iinc j n, 3)) (hpc : pc + 3 = pc') (hl0 : lv[i]? = some (j, xI v)) {y : Int32} (hy : Int32.ofInt n = y) (hn : j < nL) (hp : xput j (xI (v + y)) lv = lv') (k : XF p l e R s m args below meth c D nL h0 Q pc' lv' st h res C) : XF p l e R s m args below meth c D nL h0 Q pc lv st h res C := by
  subst hpc
  exact fun x hx hc ls H locs hl hi => lv_iinc (k := i) K.1 K.2.1 hd hl (by unfold xlv; rw [List.getElem?_map, hl0]; rfl) (by rw [hy]) hn rfl fun ls' hl' => k x hx hc ls' H locs (by rw [← hp, ← xput_ok]; exact hl') hi
theorem x_iadd (K : XO p R s m args meth c D nL h0 cc own fr lo) {pc' : Nat} {a b : Int32} (hd : decode cc pc = .ok (.iadd, 1)) (hpc : pc + 1 = pc') (k : XF p l e R s m args below meth c D nL h0 Q pc' lv (xI (a + b) :: st) h res C) : XF p l e R s m args below meth c D nL h0 Q pc lv (xI b :: xI a :: st) h res C := by
  subst hpc
  exact fun x hx hc ls H locs hl hi => lv_iadd K.1 K.2.1 hd (k x hx hc ls H locs hl hi)
theorem x_isub (K : XO p R s m args meth c D nL h0 cc own fr lo) {pc' : Nat} {a b : Int32} (hd : decode cc pc = .ok (.isub, 1)) (hpc : pc + 1 = pc') (k : XF p l e R s m args below meth c D nL h0 Q pc' lv (xI (a - b) :: st) h res C) : XF p l e R s m args below meth c D nL h0 Q pc lv (xI b :: xI a :: st) h res C := by
  subst hpc
  exact fun x hx hc ls H locs hl hi => lv_isub K.1 K.2.1 hd (k x hx hc ls H locs hl hi)
theorem x_imul (K : XO p R s m args meth c D nL h0 cc own fr lo) {pc' : Nat} {a b : Int32} (hd : decode cc pc = .ok (.imul, 1)) (hpc : pc + 1 = pc') (k : XF p l e R s m args below meth c D nL h0 Q pc' lv (xI (a * b) :: st) h res C) : XF p l e R s m args below meth c D nL h0 Q pc lv (xI b :: xI a :: st) h res C := by
  subst hpc
  exact fun x hx hc ls H locs hl hi => lv_imul K.1 K.2.1 hd (k x hx hc ls H locs hl hi)
theorem x_iand (K : XO p R s m args meth c D nL h0 cc own fr lo) {pc' : Nat} {a b : Int32} (hd : decode cc pc = .ok (.iand, 1)) (hpc : pc + 1 = pc') (k : XF p l e R s m args below meth c D nL h0 Q pc' lv (xI (a &&& b) :: st) h res C) : XF p l e R s m args below meth c D nL h0 Q pc lv (xI b :: xI a :: st) h res C := by
  subst hpc
  exact fun x hx hc ls H locs hl hi => lv_iand K.1 K.2.1 hd (k x hx hc ls H locs hl hi)
theorem x_ior (K : XO p R s m args meth c D nL h0 cc own fr lo) {pc' : Nat} {a b : Int32} (hd : decode cc pc = .ok (.ior, 1)) (hpc : pc + 1 = pc') (k : XF p l e R s m args below meth c D nL h0 Q pc' lv (xI (a ||| b) :: st) h res C) : XF p l e R s m args below meth c D nL h0 Q pc lv (xI b :: xI a :: st) h res C := by
  subst hpc
  exact fun x hx hc ls H locs hl hi => lv_ior K.1 K.2.1 hd (k x hx hc ls H locs hl hi)
theorem x_ixor (K : XO p R s m args meth c D nL h0 cc own fr lo) {pc' : Nat} {a b : Int32} (hd : decode cc pc = .ok (.ixor, 1)) (hpc : pc + 1 = pc') (k : XF p l e R s m args below meth c D nL h0 Q pc' lv (xI (a ^^^ b) :: st) h res C) : XF p l e R s m args below meth c D nL h0 Q pc lv (xI b :: xI a :: st) h res C := by
  subst hpc
  exact fun x hx hc ls H locs hl hi => lv_ixor K.1 K.2.1 hd (k x hx hc ls H locs hl hi)
theorem x_ishl (K : XO p R s m args meth c D nL h0 cc own fr lo) {pc' : Nat} {a b : Int32} (hd : decode cc pc = .ok (.ishl, 1)) (hpc : pc + 1 = pc') (k : XF p l e R s m args below meth c D nL h0 Q pc' lv (xI (a <<< (b &&& 31)) :: st) h res C) : XF p l e R s m args below meth c D nL h0 Q pc lv (xI b :: xI a :: st) h res C := by
  subst hpc
  exact fun x hx hc ls H locs hl hi => lv_ishl K.1 K.2.1 hd (k x hx hc ls H locs hl hi)
theorem x_ishr (K : XO p R s m args meth c D nL h0 cc own fr lo) {pc' : Nat} {a b : Int32} (hd : decode cc pc = .ok (.ishr, 1)) (hpc : pc + 1 = pc') (k : XF p l e R s m args below meth c D nL h0 Q pc' lv (xI (a >>> (b &&& 31)) :: st) h res C) : XF p l e R s m args below meth c D nL h0 Q pc lv (xI b :: xI a :: st) h res C := by
  subst hpc
  exact fun x hx hc ls H locs hl hi => lv_ishr K.1 K.2.1 hd (k x hx hc ls H locs hl hi)
theorem x_iushr (K : XO p R s m args meth c D nL h0 cc own fr lo) {pc' : Nat} {a b : Int32} (hd : decode cc pc = .ok (.iushr, 1)) (hpc : pc + 1 = pc') (k : XF p l e R s m args below meth c D nL h0 Q pc' lv (xI ((a.toUInt32 >>> (b.toUInt32 &&& Int32.toUInt32 31)).toInt32) :: st) h res C) : XF p l e R s m args below meth c D nL h0 Q pc lv (xI b :: xI a :: st) h res C := by
  subst hpc
  exact fun x hx hc ls H locs hl hi => lv_iushr K.1 K.2.1 hd rfl (k x hx hc ls H locs hl hi)
theorem x_ladd (K : XO p R s m args meth c D nL h0 cc own fr lo) {pc' : Nat} {a b : Int64} (hd : decode cc pc = .ok (.ladd, 1)) (hpc : pc + 1 = pc') (k : XF p l e R s m args below meth c D nL h0 Q pc' lv (xJ (a + b) :: st) h res C) : XF p l e R s m args below meth c D nL h0 Q pc lv (xJ b :: xJ a :: st) h res C := by
  subst hpc
  exact fun x hx hc ls H locs hl hi => lv_ladd K.1 K.2.1 hd (k x hx hc ls H locs hl hi)
theorem x_lsub (K : XO p R s m args meth c D nL h0 cc own fr lo) {pc' : Nat} {a b : Int64} (hd : decode cc pc = .ok (.lsub, 1)) (hpc : pc + 1 = pc') (k : XF p l e R s m args below meth c D nL h0 Q pc' lv (xJ (a - b) :: st) h res C) : XF p l e R s m args below meth c D nL h0 Q pc lv (xJ b :: xJ a :: st) h res C := by
  subst hpc
  exact fun x hx hc ls H locs hl hi => lv_lsub K.1 K.2.1 hd (k x hx hc ls H locs hl hi)
theorem x_lmul (K : XO p R s m args meth c D nL h0 cc own fr lo) {pc' : Nat} {a b : Int64} (hd : decode cc pc = .ok (.lmul, 1)) (hpc : pc + 1 = pc') (k : XF p l e R s m args below meth c D nL h0 Q pc' lv (xJ (a * b) :: st) h res C) : XF p l e R s m args below meth c D nL h0 Q pc lv (xJ b :: xJ a :: st) h res C := by
  subst hpc
  exact fun x hx hc ls H locs hl hi => lv_lmul K.1 K.2.1 hd (k x hx hc ls H locs hl hi)
theorem x_land (K : XO p R s m args meth c D nL h0 cc own fr lo) {pc' : Nat} {a b : Int64} (hd : decode cc pc = .ok (.land, 1)) (hpc : pc + 1 = pc') (k : XF p l e R s m args below meth c D nL h0 Q pc' lv (xJ (a &&& b) :: st) h res C) : XF p l e R s m args below meth c D nL h0 Q pc lv (xJ b :: xJ a :: st) h res C := by
  subst hpc
  exact fun x hx hc ls H locs hl hi => lv_land K.1 K.2.1 hd (k x hx hc ls H locs hl hi)
theorem x_lor (K : XO p R s m args meth c D nL h0 cc own fr lo) {pc' : Nat} {a b : Int64} (hd : decode cc pc = .ok (.lor, 1)) (hpc : pc + 1 = pc') (k : XF p l e R s m args below meth c D nL h0 Q pc' lv (xJ (a ||| b) :: st) h res C) : XF p l e R s m args below meth c D nL h0 Q pc lv (xJ b :: xJ a :: st) h res C := by
  subst hpc
  exact fun x hx hc ls H locs hl hi => lv_lor K.1 K.2.1 hd (k x hx hc ls H locs hl hi)
theorem x_lshl (K : XO p R s m args meth c D nL h0 cc own fr lo) {pc' : Nat} {a : Int64} {b : Int32} (hd : decode cc pc = .ok (.lshl, 1)) (hpc : pc + 1 = pc') (k : XF p l e R s m args below meth c D nL h0 Q pc' lv (xJ (a <<< (b.toInt64 &&& 63)) :: st) h res C) : XF p l e R s m args below meth c D nL h0 Q pc lv (xI b :: xJ a :: st) h res C := by
  subst hpc
  exact fun x hx hc ls H locs hl hi => lv_lshl K.1 K.2.1 hd rfl (k x hx hc ls H locs hl hi)
theorem x_lshr (K : XO p R s m args meth c D nL h0 cc own fr lo) {pc' : Nat} {a : Int64} {b : Int32} (hd : decode cc pc = .ok (.lshr, 1)) (hpc : pc + 1 = pc') (k : XF p l e R s m args below meth c D nL h0 Q pc' lv (xJ (a >>> (b.toInt64 &&& 63)) :: st) h res C) : XF p l e R s m args below meth c D nL h0 Q pc lv (xI b :: xJ a :: st) h res C := by
  subst hpc
  exact fun x hx hc ls H locs hl hi => lv_lshr K.1 K.2.1 hd rfl (k x hx hc ls H locs hl hi)
theorem x_i2l (K : XO p R s m args meth c D nL h0 cc own fr lo) {pc' : Nat} {a : Int32} (hd : decode cc pc = .ok (.i2l, 1)) (hpc : pc + 1 = pc') (k : XF p l e R s m args below meth c D nL h0 Q pc' lv (xJ a.toInt64 :: st) h res C) : XF p l e R s m args below meth c D nL h0 Q pc lv (xI a :: st) h res C := by
  subst hpc
  exact fun x hx hc ls H locs hl hi => lv_i2l K.1 K.2.1 hd rfl (k x hx hc ls H locs hl hi)
theorem x_l2i (K : XO p R s m args meth c D nL h0 cc own fr lo) {pc' : Nat} {a : Int64} (hd : decode cc pc = .ok (.l2i, 1)) (hpc : pc + 1 = pc') (k : XF p l e R s m args below meth c D nL h0 Q pc' lv (xI a.toInt32 :: st) h res C) : XF p l e R s m args below meth c D nL h0 Q pc lv (xJ a :: st) h res C := by
  subst hpc
  exact fun x hx hc ls H locs hl hi => lv_l2i K.1 K.2.1 hd rfl (k x hx hc ls H locs hl hi)
theorem x_i2b (K : XO p R s m args meth c D nL h0 cc own fr lo) {pc' : Nat} {a : Int32} (hd : decode cc pc = .ok (.i2b, 1)) (hpc : pc + 1 = pc') (k : XF p l e R s m args below meth c D nL h0 Q pc' lv (xI a.toInt8.toInt32 :: st) h res C) : XF p l e R s m args below meth c D nL h0 Q pc lv (xI a :: st) h res C := by
  subst hpc
  exact fun x hx hc ls H locs hl hi => lv_i2b K.1 K.2.1 hd rfl (k x hx hc ls H locs hl hi)
theorem x_idiv (K : XO p R s m args meth c D nL h0 cc own fr lo) {pc' : Nat} {a b : Int32} {kf : Int32 → Option α} (hd : decode cc pc = .ok (.idiv, 1)) (hpc : pc + 1 = pc') (k : ∀ v : Int32, XF p l e R s m args below meth c D nL h0 Q pc' lv (xI v :: st) h (kf v) C) : XF p l e R s m args below meth c D nL h0 Q pc lv (xI b :: xI a :: st) h ((xdiv a b).bind kf) C := by
  subst hpc
  intro x hx hc ls H locs hl hi
  unfold xdiv at hx
  by_cases hb : b = 0
  · rw [if_pos hb] at hx
    exact absurd hx (by simp)
  · rw [if_neg hb] at hx
    exact lv_idiv K.1 K.2.1 hd hb (k _ x hx hc ls H locs hl hi)
theorem x_irem (K : XO p R s m args meth c D nL h0 cc own fr lo) {pc' : Nat} {a b : Int32} {kf : Int32 → Option α} (hd : decode cc pc = .ok (.irem, 1)) (hpc : pc + 1 = pc') (k : ∀ v : Int32, XF p l e R s m args below meth c D nL h0 Q pc' lv (xI v :: st) h (kf v) C) : XF p l e R s m args below meth c D nL h0 Q pc lv (xI b :: xI a :: st) h ((xrem a b).bind kf) C := by
  subst hpc
  intro x hx hc ls H locs hl hi
  unfold xrem at hx
  by_cases hb : b = 0
  · rw [if_pos hb] at hx
    exact absurd hx (by simp)
  · rw [if_neg hb] at hx
    exact lv_irem K.1 K.2.1 hd hb (k _ x hx hc ls H locs hl hi)
theorem x_dup (K : XO p R s m args meth c D nL h0 cc own fr lo) {pc' : Nat} {v : XV} (hd : decode cc pc = .ok (.dup, 1)) (hpc : pc + 1 = pc') (hv : xc v = 1) (k : XF p l e R s m args below meth c D nL h0 Q pc' lv (v :: v :: st) h res C) : XF p l e R s m args below meth c D nL h0 Q pc lv (v :: st) h res C := by
  subst hpc
  exact fun x hx hc ls H locs hl hi => lv_dup K.1 K.2.1 hd ((xv_cat v).trans hv) (k x hx hc ls H locs hl hi)
theorem x_dup_x1 (K : XO p R s m args meth c D nL h0 cc own fr lo) {pc' : Nat} {v u : XV} (hd : decode cc pc = .ok (.dup_x1, 1)) (hpc : pc + 1 = pc') (hv : xc v = 1) (hu : xc u = 1) (k : XF p l e R s m args below meth c D nL h0 Q pc' lv (v :: u :: v :: st) h res C) : XF p l e R s m args below meth c D nL h0 Q pc lv (v :: u :: st) h res C := by
  subst hpc
  exact fun x hx hc ls H locs hl hi => lv_dup_x1 K.1 K.2.1 hd ((xv_cat v).trans hv) ((xv_cat u).trans hu) (k x hx hc ls H locs hl hi)
theorem x_dup2 (K : XO p R s m args meth c D nL h0 cc own fr lo) {pc' : Nat} {v u : XV} (hd : decode cc pc = .ok (.dup2, 1)) (hpc : pc + 1 = pc') (hv : xc v = 1) (hu : xc u = 1) (k : XF p l e R s m args below meth c D nL h0 Q pc' lv (v :: u :: v :: u :: st) h res C) : XF p l e R s m args below meth c D nL h0 Q pc lv (v :: u :: st) h res C := by
  subst hpc
  exact fun x hx hc ls H locs hl hi => lv_dup2_11 K.1 K.2.1 hd ((xv_cat v).trans hv) ((xv_cat u).trans hu) (k x hx hc ls H locs hl hi)
theorem x_pop (K : XO p R s m args meth c D nL h0 cc own fr lo) {pc' : Nat} {v : XV} (hd : decode cc pc = .ok (.pop, 1)) (hpc : pc + 1 = pc') (hv : xc v = 1) (k : XF p l e R s m args below meth c D nL h0 Q pc' lv st h res C) : XF p l e R s m args below meth c D nL h0 Q pc lv (v :: st) h res C := by
  subst hpc
  exact fun x hx hc ls H locs hl hi => lv_pop K.1 K.2.1 hd ((xv_cat v).trans hv) (k x hx hc ls H locs hl hi)
theorem x_icmp_eq (K : XO p R s m args meth c D nL h0 cc own fr lo) {pc' : Nat} {a b : Int32} {off : Int} {tgt : Nat} {A B : Option α} {inst : Decidable (a = b)} (hd : decode cc pc = .ok (.if_icmp .eq off, 3)) (hpc : pc + 3 = pc') (ht : (pc : Int) + off = (tgt : Int)) (kt : XF p l e R s m args below meth c D nL h0 Q tgt lv st h A C) (kf : XF p l e R s m args below meth c D nL h0 Q pc' lv st h B C) : XF p l e R s m args below meth c D nL h0 Q pc lv (xI b :: xI a :: st) h (@ite _ (a = b) inst A B) C := by
  subst hpc
  exact fun x hx hc ls H locs hl hi => lv_icmp_eq K.1 K.2.1 hd ht (fun q => kt x (by rw [if_pos q] at hx; exact hx) hc ls H locs hl hi) (fun q => kf x (by rw [if_neg q] at hx; exact hx) hc ls H locs hl hi)
theorem x_if_eq (K : XO p R s m args meth c D nL h0 cc own fr lo) {pc' : Nat} {a : Int32} {off : Int} {tgt : Nat} {A B : Option α} {inst : Decidable (a = 0)} (hd : decode cc pc = .ok (.ifCond .eq off, 3)) (hpc : pc + 3 = pc') (ht : (pc : Int) + off = (tgt : Int)) (kt : XF p l e R s m args below meth c D nL h0 Q tgt lv st h A C) (kf : XF p l e R s m args below meth c D nL h0 Q pc' lv st h B C) : XF p l e R s m args below meth c D nL h0 Q pc lv (xI a :: st) h (@ite _ (a = 0) inst A B) C := by
  subst hpc
  exact fun x hx hc ls H locs hl hi => lv_if_eq K.1 K.2.1 hd ht (fun q => kt x (by rw [if_pos q] at hx; exact hx) hc ls H locs hl hi) (fun q => kf x (by rw [if_neg q] at hx; exact hx) hc ls H locs hl hi)
theorem x_icmp_ne (K : XO p R s m args meth c D nL h0 cc own fr lo) {pc' : Nat} {a b : Int32} {off : Int} {tgt : Nat} {A B : Option α} {inst : Decidable (a = b)} (hd : decode cc pc = .ok (.if_icmp .ne off, 3)) (hpc : pc + 3 = pc') (ht : (pc : Int) + off = (tgt : Int)) (kt : XF p l e R s m args below meth c D nL h0 Q tgt lv st h A C) (kf : XF p l e R s m args below meth c D nL h0 Q pc' lv st h B C) : XF p l e R s m args below meth c D nL h0 Q pc lv (xI b :: xI a :: st) h (@ite _ (a = b) inst B A) C := by
  subst hpc
  exact fun x hx hc ls H locs hl hi => lv_icmp_ne K.1 K.2.1 hd ht (fun q => kt x (by rw [if_neg q] at hx; exact hx) hc ls H locs hl hi) (fun q => kf x (by rw [if_pos q] at hx; exact hx) hc ls H locs hl hi)
theorem x_if_ne (K : XO p R s m args meth c D nL h0 cc own fr lo) {pc' : Nat} {a : Int32} {off : Int} {tgt : Nat} {A B : Option α} {inst : Decidable (a = 0)} (hd : decode cc pc = .ok (.ifCond .ne off, 3)) (hpc : pc + 3 = pc') (ht : (pc : Int) + off = (tgt : Int)) (kt : XF p l e R s m args below meth c D nL h0 Q tgt lv st h A C) (kf : XF p l e R s m args below meth c D nL h0 Q pc' lv st h B C) : XF p l e R s m args below meth c D nL h0 Q pc lv (xI a :: st) h (@ite _ (a = 0) inst B A) C := by
  subst hpc
  exact fun x hx hc ls H locs hl hi => lv_if_ne K.1 K.2.1 hd ht (fun q => kt x (by rw [if_neg q] at hx; exact hx) hc ls H locs hl hi) (fun q => kf x (by rw [if_pos q] at hx; exact hx) hc ls H locs hl hi)
theorem x_icmp_lt (K : XO p R s m args meth c D nL h0 cc own fr lo) {pc' : Nat} {a b : Int32} {off : Int} {tgt : Nat} {A B : Option α} {inst : Decidable (a < b)} (hd : decode cc pc = .ok (.if_icmp .lt off, 3)) (hpc : pc + 3 = pc') (ht : (pc : Int) + off = (tgt : Int)) (kt : XF p l e R s m args below meth c D nL h0 Q tgt lv st h A C) (kf : XF p l e R s m args below meth c D nL h0 Q pc' lv st h B C) : XF p l e R s m args below meth c D nL h0 Q pc lv (xI b :: xI a :: st) h (@ite _ (a < b) inst A B) C := by
  subst hpc
  exact fun x hx hc ls H locs hl hi => lv_icmp_lt K.1 K.2.1 hd ht (fun q => kt x (by rw [if_pos q] at hx; exact hx) hc ls H locs hl hi) (fun q => kf x (by rw [if_neg q] at hx; exact hx) hc ls H locs hl hi)
theorem x_if_lt (K : XO p R s m args meth c D nL h0 cc own fr lo) {pc' : Nat} {a : Int32} {off : Int} {tgt : Nat} {A B : Option α} {inst : Decidable (a < 0)} (hd : decode cc pc = .ok (.ifCond .lt off, 3)) (hpc : pc + 3 = pc') (ht : (pc : Int) + off = (tgt : Int)) (kt : XF p l e R s m args below meth c D nL h0 Q tgt lv st h A C) (kf : XF p l e R s m args below meth c D nL h0 Q pc' lv st h B C) : XF p l e R s m args below meth c D nL h0 Q pc lv (xI a :: st) h (@ite _ (a < 0) inst A B) C := by
  subst hpc
  exact fun x hx hc ls H locs hl hi => lv_if_lt K.1 K.2.1 hd ht (fun q => kt x (by rw [if_pos q] at hx; exact hx) hc ls H locs hl hi) (fun q => kf x (by rw [if_neg q] at hx; exact hx) hc ls H locs hl hi)
theorem x_icmp_ge (K : XO p R s m args meth c D nL h0 cc own fr lo) {pc' : Nat} {a b : Int32} {off : Int} {tgt : Nat} {A B : Option α} {inst : Decidable (b ≤ a)} (hd : decode cc pc = .ok (.if_icmp .ge off, 3)) (hpc : pc + 3 = pc') (ht : (pc : Int) + off = (tgt : Int)) (kt : XF p l e R s m args below meth c D nL h0 Q tgt lv st h A C) (kf : XF p l e R s m args below meth c D nL h0 Q pc' lv st h B C) : XF p l e R s m args below meth c D nL h0 Q pc lv (xI b :: xI a :: st) h (@ite _ (b ≤ a) inst A B) C := by
  subst hpc
  exact fun x hx hc ls H locs hl hi => lv_icmp_ge K.1 K.2.1 hd ht (fun q => kt x (by rw [if_pos q] at hx; exact hx) hc ls H locs hl hi) (fun q => kf x (by rw [if_neg q] at hx; exact hx) hc ls H locs hl hi)
theorem x_if_ge (K : XO p R s m args meth c D nL h0 cc own fr lo) {pc' : Nat} {a : Int32} {off : Int} {tgt : Nat} {A B : Option α} {inst : Decidable (0 ≤ a)} (hd : decode cc pc = .ok (.ifCond .ge off, 3)) (hpc : pc + 3 = pc') (ht : (pc : Int) + off = (tgt : Int)) (kt : XF p l e R s m args below meth c D nL h0 Q tgt lv st h A C) (kf : XF p l e R s m args below meth c D nL h0 Q pc' lv st h B C) : XF p l e R s m args below meth c D nL h0 Q pc lv (xI a :: st) h (@ite _ (0 ≤ a) inst A B) C := by
  subst hpc
  exact fun x hx hc ls H locs hl hi => lv_if_ge K.1 K.2.1 hd ht (fun q => kt x (by rw [if_pos q] at hx; exact hx) hc ls H locs hl hi) (fun q => kf x (by rw [if_neg q] at hx; exact hx) hc ls H locs hl hi)
theorem x_icmp_gt (K : XO p R s m args meth c D nL h0 cc own fr lo) {pc' : Nat} {a b : Int32} {off : Int} {tgt : Nat} {A B : Option α} {inst : Decidable (b < a)} (hd : decode cc pc = .ok (.if_icmp .gt off, 3)) (hpc : pc + 3 = pc') (ht : (pc : Int) + off = (tgt : Int)) (kt : XF p l e R s m args below meth c D nL h0 Q tgt lv st h A C) (kf : XF p l e R s m args below meth c D nL h0 Q pc' lv st h B C) : XF p l e R s m args below meth c D nL h0 Q pc lv (xI b :: xI a :: st) h (@ite _ (b < a) inst A B) C := by
  subst hpc
  exact fun x hx hc ls H locs hl hi => lv_icmp_gt K.1 K.2.1 hd ht (fun q => kt x (by rw [if_pos q] at hx; exact hx) hc ls H locs hl hi) (fun q => kf x (by rw [if_neg q] at hx; exact hx) hc ls H locs hl hi)
theorem x_if_gt (K : XO p R s m args meth c D nL h0 cc own fr lo) {pc' : Nat} {a : Int32} {off : Int} {tgt : Nat} {A B : Option α} {inst : Decidable (0 < a)} (hd : decode cc pc = .ok (.ifCond .gt off, 3)) (hpc : pc + 3 = pc') (ht : (pc : Int) + off = (tgt : Int)) (kt : XF p l e R s m args below meth c D nL h0 Q tgt lv st h A C) (kf : XF p l e R s m args below meth c D nL h0 Q pc' lv st h B C) : XF p l e R s m args below meth c D nL h0 Q pc lv (xI a :: st) h (@ite _ (0 < a) inst A B) C := by
  subst hpc
  exact fun x hx hc ls H locs hl hi => lv_if_gt K.1 K.2.1 hd ht (fun q => kt x (by rw [if_pos q] at hx; exact hx) hc ls H locs hl hi) (fun q => kf x (by rw [if_neg q] at hx; exact hx) hc ls H locs hl hi)
theorem x_icmp_le (K : XO p R s m args meth c D nL h0 cc own fr lo) {pc' : Nat} {a b : Int32} {off : Int} {tgt : Nat} {A B : Option α} {inst : Decidable (a ≤ b)} (hd : decode cc pc = .ok (.if_icmp .le off, 3)) (hpc : pc + 3 = pc') (ht : (pc : Int) + off = (tgt : Int)) (kt : XF p l e R s m args below meth c D nL h0 Q tgt lv st h A C) (kf : XF p l e R s m args below meth c D nL h0 Q pc' lv st h B C) : XF p l e R s m args below meth c D nL h0 Q pc lv (xI b :: xI a :: st) h (@ite _ (a ≤ b) inst A B) C := by
  subst hpc
  exact fun x hx hc ls H locs hl hi => lv_icmp_le K.1 K.2.1 hd ht (fun q => kt x (by rw [if_pos q] at hx; exact hx) hc ls H locs hl hi) (fun q => kf x (by rw [if_neg q] at hx; exact hx) hc ls H locs hl hi)
theorem x_if_le (K : XO p R s m args meth c D nL h0 cc own fr lo) {pc' : Nat} {a : Int32} {off : Int} {tgt : Nat} {A B : Option α} {inst : Decidable (a ≤ 0)} (hd : decode cc pc = .ok (.ifCond .le off, 3)) (hpc : pc + 3 = pc') (ht : (pc : Int) + off = (tgt : Int)) (kt : XF p l e R s m args below meth c D nL h0 Q tgt lv st h A C) (kf : XF p l e R s m args below meth c D nL h0 Q pc' lv st h B C) : XF p l e R s m args below meth c D nL h0 Q pc lv (xI a :: st) h (@ite _ (a ≤ 0) inst A B) C := by
  subst hpc
  exact fun x hx hc ls H locs hl hi => lv_if_le K.1 K.2.1 hd ht (fun q => kt x (by rw [if_pos q] at hx; exact hx) hc ls H locs hl hi) (fun q => kf x (by rw [if_neg q] at hx; exact hx) hc ls H locs hl hi)
theorem x_goto (K : XO p R s m args meth c D nL h0 cc own fr lo) {off : Int} {tgt : Nat} (hd : decode cc pc = .ok (.goto off, 3)) (ht : (pc : Int) + off = (tgt : Int)) (k : XF p l e R s m args below meth c D nL h0 Q tgt lv st h res C) : XF p l e R s m args below meth c D nL h0 Q pc lv st h res C := fun x hx hc ls H locs hl hi => lv_goto K.1 K.2.1 hd ht (k x hx hc ls H locs hl hi)
theorem x_ifnull (K : XO p R s m args meth c D nL h0 cc own fr lo) {pc' : Nat} {v : Nat} {off : Int} {tgt : Nat} {A B : Option α} {inst : Decidable (v = 0)} (hd : decode cc pc = .ok (.ifnull off, 3)) (hpc : pc + 3 = pc') (ht : (pc : Int) + off = (tgt : Int)) (kt : XF p l e R s m args below meth c D nL h0 Q tgt lv st h A C) (kf : XF p l e R s m args below meth c D nL h0 Q pc' lv st h B C) : XF p l e R s m args below meth c D nL h0 Q pc lv (xR v :: st) h (@ite _ (v = 0) inst A B) C := by
  subst hpc
  intro x hx hc ls H locs hl hi
  cases v with
  | zero =>
    rw [if_pos rfl] at hx
    exact lv_ifnullN K.1 K.2.1 hd ht (kt x hx hc ls H locs hl hi)
  | succ a =>
    rw [if_neg (Nat.succ_ne_zero a)] at hx
    exact lv_ifnull K.1 K.2.1 hd (kf x hx hc ls H locs hl hi)
theorem x_ifnonnull (K : XO p R s m args meth c D nL h0 cc own fr lo) {pc' : Nat} {v : Nat} {off : Int} {tgt : Nat} {A B : Option α} {inst : Decidable (v = 0)} (hd : decode cc pc = .ok (.ifnonnull off, 3)) (hpc : pc + 3 = pc') (ht : (pc : Int) + off = (tgt : Int)) (kt : XF p l e R s m args below meth c D nL h0 Q tgt lv st h A C) (kf : XF p l e R s m args below meth c D nL h0 Q pc' lv st h B C) : XF p l e R s m args below meth c D nL h0 Q pc lv (xR v :: st) h (@ite _ (v = 0) inst B A) C := by
  subst hpc
  intro x hx hc ls H locs hl hi
  cases v with
  | zero =>
    rw [if_pos rfl] at hx
    exact lv_ifnonnullN K.1 K.2.1 hd (kf x hx hc ls H locs hl hi)
  | succ a =>
    rw [if_neg (Nat.succ_ne_zero a)] at hx
    exact lv_ifnonnull K.1 K.2.1 hd ht (kt x hx hc ls H locs hl hi)
theorem x_lcmp (K : XO p R s m args meth c D nL h0 cc own fr lo) {pc' : Nat} {a b : Int64} (hd : decode cc pc = .ok (.lcmp, 1)) (hpc : pc + 1 = pc') (k : XF p l e R s m args below meth c D nL h0 Q pc' lv (xI (lg_cmp a b) :: st) h res C) : XF p l e R s m args below meth c D nL h0 Q pc lv (xJ b :: xJ a :: st) h res C := by
  subst hpc
  exact fun x hx hc ls H locs hl hi => W.lcmp K.1 K.2.1 hd (k x hx hc ls H locs hl hi)
theorem x_sub {lv' : XS} (ks : List Nat) (hp : xpick lv ks = lv') (k : XF p l e R s m args below meth c D nL h0 Q pc lv' st h res C) : XF p l e R s m args below meth c D nL h0 Q pc lv st h res C := fun x hx hc ls H locs hl hi => k x hx hc ls H locs (xpick_has hl ks hp) hi
theorem x_none : XF p l e R s m args below meth c D nL h0 Q pc lv st h (none : Option α) C := fun x hx => absurd hx (by simp)
theorem x_check {P : Prop} {inst : Decidable P} {A : Option α} (k : P → XF p l e R s m args below meth c D nL h0 Q pc lv st h A C) : XF p l e R s m args below meth c D nL h0 Q pc lv st h (@ite _ P inst A none) C := by
  intro x hx hc
  by_cases q : P
  · rw [if_pos q] at hx
    exact k q x hx hc
  · rw [if_neg q] at hx
    exact absurd hx (by simp)
theorem xi_inj {x : Int32} {v : Int32} (h : x.toInt = v.toInt) : x = v := Int32.toInt_inj.mp h
theorem x_tsw (K : XO p R s m args meth c D nL h0 cc own fr lo) {a : Int32} (v : Int32) {dflt lo9 hi9 : Int} {offs : Array Int} {len : Nat} {off : Int} {tgt : Nat} {A B : Option α} {inst : Decidable (a = v)} (hd : decode cc pc = .ok (.tableswitch dflt lo9 hi9 offs, len)) (h1 : ¬ v.toInt < lo9 ∧ ¬ hi9 < v.toInt) (ho : offs[(v.toInt - lo9).toNat]? = some off) (ht : (pc : Int) + off = (tgt : Int)) (kt : XF p l e R s m args below meth c D nL h0 Q tgt lv st h A C) (kf : a ≠ v → XF p l e R s m args below meth c D nL h0 Q pc lv (xI a :: st) h B C) : XF p l e R s m args below meth c D nL h0 Q pc lv (xI a :: st) h (@ite _ (a = v) inst A B) C := by
  intro x hx hc ls H locs hl hi
  by_cases q : a = v
  · rw [if_pos q] at hx
    subst q
    exact lv_tableIn K.1 K.2.1 hd h1.1 h1.2 ho ht (kt x hx hc ls H locs hl hi)
  · rw [if_neg q] at hx
    exact kf q x hx hc ls H locs hl hi
theorem x_tsw0 (K : XO p R s m args meth c D nL h0 cc own fr lo) {a : Int32} {dflt lo9 hi9 : Int} {offs : Array Int} {len : Nat} {tgt : Nat} (hd : decode cc pc = .ok (.tableswitch dflt lo9 hi9 offs, len)) (ho : a.toInt < lo9 ∨ hi9 < a.toInt) (ht : (pc : Int) + dflt = (tgt : Int)) (k : XF p l e R s m args below meth c D nL h0 Q tgt lv st h res C) : XF p l e R s m args below meth c D nL h0 Q pc lv (xI a :: st) h res C := fun x hx hc ls H locs hl hi => lv_tableOut K.1 K.2.1 hd ho ht (k x hx hc ls H locs hl hi)
/-- not one of the n numbers from lo9 on -/
def xout (a : Int32) (lo9 : Int) (n : Nat) : Prop := ∀ j : Nat, j < n → a.toInt ≠ lo9 + j
theorem xout_0 {a : Int32} {lo9 : Int} : xout a lo9 0 := fun j h => absurd h (Nat.not_lt_zero j)
theorem xout_s {a v : Int32} {lo9 : Int} {n : Nat} (h : xout a lo9 n) (hv : v.toInt = lo9 + n) (q : a ≠ v) : xout a lo9 (n + 1) := fun j hj e => by
  by_cases hjn : j = n
  · subst hjn
    exact q (xi_inj (e.trans hv.symm))
  · exact h j (by omega) e
theorem xout_ok {a : Int32} {lo9 hi9 : Int} {n : Nat} (h : xout a lo9 n) (hn : lo9 + n = hi9 + 1) : a.toInt < lo9 ∨ hi9 < a.toInt := by
  by_cases h1 : a.toInt < lo9
  · exact Or.inl h1
  · by_cases h2 : hi9 < a.toInt
    · exact Or.inr h2
    · exact absurd (by omega) (h (a.toInt - lo9).toNat (by omega))
theorem x_lsw (K : XO p R s m args meth c D nL h0 cc own fr lo) {a : Int32} (v : Int32) {dflt : Int} {ps : Array (Int × Int)} {len : Nat} {off : Int} {tgt : Nat} {A B : Option α} {inst : Decidable (a = v)} (hd : decode cc pc = .ok (.lookupswitch dflt ps, len)) (hp : (ps.toList.zip (ps.toList.drop 1)).all (fun (a, next) => a.1 < next.1) = true) (ho : Op.lookupswitch.offset ps.toList dflt v.toInt = off) (ht : (pc : Int) + off = (tgt : Int)) (kt : XF p l e R s m args below meth c D nL h0 Q tgt lv st h A C) (kf : a ≠ v → XF p l e R s m args below meth c D nL h0 Q pc lv (xI a :: st) h B C) : XF p l e R s m args below meth c D nL h0 Q pc lv (xI a :: st) h (@ite _ (a = v) inst A B) C := by
  intro x hx hc ls H locs hl hi
  by_cases q : a = v
  · rw [if_pos q] at hx
    subst q
    exact lv_lookup K.1 K.2.1 hd hp ho ht (kt x hx hc ls H locs hl hi)
  · rw [if_neg q] at hx
    exact kf q x hx hc ls H locs hl hi
theorem x_lsw0 (K : XO p R s m args meth c D nL h0 cc own fr lo) {a : Int32} {dflt : Int} {ps : Array (Int × Int)} {len : Nat} {tgt : Nat} (hd : decode cc pc = .ok (.lookupswitch dflt ps, len)) (hp : (ps.toList.zip (ps.toList.drop 1)).all (fun (a, next) => a.1 < next.1) = true) (ho : Op.lookupswitch.offset ps.toList dflt a.toInt = dflt) (ht : (pc : Int) + dflt = (tgt : Int)) (k : XF p l e R s m args below meth c D nL h0 Q tgt lv st h res C) : XF p l e R s m args below meth c D nL h0 Q pc lv (xI a :: st) h res C := fun x hx hc ls H locs hl hi => lv_lookup K.1 K.2.1 hd hp ho ht (k x hx hc ls H locs hl hi)

end XRules
