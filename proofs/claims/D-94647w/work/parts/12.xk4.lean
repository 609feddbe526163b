/-! XK 4: fields and arrays, objects made, ends -/
set_option maxRecDepth 100000
theorem xu_ne {α : Type} {f : Nat → Nat → α} {a k : Nat} {v : α} {b : Nat} (h : b ≠ a) : xu f a k v b = f b := by
  unfold xu va_up
  exact if_neg h
theorem xu_same {α : Type} {f : Nat → Nat → α} {a k : Nat} {v : α} : xu f a k v a = va_up (f a) k v := by
  unfold xu
  exact if_pos rfl
theorem xent_I {D : XD} {h : AH} {r k : Nat} {v : Int32} {r' : Nat} (n : r' ≠ r) : xent D (hsI h r k v) r' = xent D h r' := by
  have e1 : hiv (hsI h r k v) r' = hiv h r' := xu_ne n
  have e2 : ∀ c, xfs (hsI h r k v) r' c = xfs h r' c := fun c => by
    unfold xfs
    refine List.map_congr_left fun j _ => ?_
    unfold xval
    rw [e1]
    rfl
  show xentk D _ r' (hkd h r') = xentk D h r' (hkd h r')
  unfold xentk
  rw [e1, e2]
  rfl
theorem xent_J {D : XD} {h : AH} {r k : Nat} {v : Int64} {r' : Nat} (n : r' ≠ r) : xent D (hsJ h r k v) r' = xent D h r' := by
  have e1 : hjv (hsJ h r k v) r' = hjv h r' := xu_ne n
  have e2 : ∀ c, xfs (hsJ h r k v) r' c = xfs h r' c := fun c => by
    unfold xfs
    refine List.map_congr_left fun j _ => ?_
    unfold xval
    rw [e1]
    rfl
  show xentk D _ r' (hkd h r') = xentk D h r' (hkd h r')
  unfold xentk
  rw [e1, e2]
  rfl
theorem xent_R {D : XD} {h : AH} {r k : Nat} {v : Nat} {r' : Nat} (n : r' ≠ r) : xent D (hsR h r k v) r' = xent D h r' := by
  have e1 : hrv (hsR h r k v) r' = hrv h r' := xu_ne n
  have e2 : ∀ c, xfs (hsR h r k v) r' c = xfs h r' c := fun c => by
    unfold xfs
    refine List.map_congr_left fun j _ => ?_
    unfold xval
    rw [e1]
    rfl
  show xentk D _ r' (hkd h r') = xentk D h r' (hkd h r')
  unfold xentk
  rw [e1, e2]
  rfl
theorem xent_A {D : XD} {h : AH} {r : Nat} {f : Nat → Int32} {r' : Nat} (n : r' ≠ r) : xent D (hsA h r f) r' = xent D h r' := by
  have e1 : hiv (hsA h r f) r' = hiv h r' := if_neg n
  have e2 : ∀ c, xfs (hsA h r f) r' c = xfs h r' c := fun c => by
    unfold xfs
    refine List.map_congr_left fun j _ => ?_
    unfold xval
    rw [e1]
    rfl
  show xentk D _ r' (hkd h r') = xentk D h r' (hkd h r')
  unfold xentk
  rw [e1, e2]
  rfl
theorem xfs_at {h : AH} {r c k : Nat} (hk : k < xN c) : (xfs h r c)[k]? = some (xval h r k (xkt (xty c k))) := by
  unfold xfs
  rw [List.getElem?_map, List.getElem?_range hk]
  rfl
theorem xfs_len {h : AH} {r c : Nat} : (xfs h r c).length = xN c := by
  unfold xfs
  rw [List.length_map, List.length_range]
theorem xfs_set {h h' : AH} {r c k : Nat} {v : Value} (hk : k < xN c) (e : xval h' r k (xkt (xty c k)) = v) (o : ∀ j, j ≠ k → xval h' r j (xkt (xty c j)) = xval h r j (xkt (xty c j))) : xfs h' r c = (xfs h r c).set k v := by
  refine List.ext_getElem? fun j => ?_
  by_cases hj : j < xN c
  · rw [xfs_at hj]
    by_cases hjk : j = k
    · subst hjk
      rw [List.getElem?_set_self (by rw [xfs_len]; exact hj), e]
    · rw [List.getElem?_set_ne (Ne.symm hjk), xfs_at hj, o j hjk]
  · rw [List.getElem?_eq_none (by rw [xfs_len]; omega), List.getElem?_eq_none (by rw [List.length_set, xfs_len]; omega)]
theorem xent_c {D : XD} {h : AH} {r c : Nat} (hk : hkd h r = c) (h1 : 1 ≤ c) (h2 : c < 17) : xent D h r = some (.inr (c, xfs h r c)) := by
  unfold xent
  rw [hk]
  unfold xentk
  show (if c = 0 then none else if c ≤ 16 then some (Sum.inr (c, xfs h r c)) else _) = _
  rw [if_neg (by omega), if_pos (by omega)]
theorem xent_i {D : XD} {h : AH} {r t : Nat} (hk : hkd h r = t) (ht : t = 100 ∨ t = 101 ∨ t = 102) : xent D h r = some (.inl (D.2.2 t, hln h r, .inl (hiv h r))) := by
  unfold xent
  rw [hk]
  unfold xentk
  show (if t = 0 then none else if t ≤ 16 then _ else if t = 100 ∨ t = 101 ∨ t = 102 then _ else _) = _
  rw [if_neg (by omega), if_neg (by omega), if_pos ht]
theorem xent_j {D : XD} {h : AH} {r : Nat} (hk : hkd h r = 103) : xent D h r = some (.inl (D.2.2 103, hln h r, .inr (.inl (hjv h r)))) := by
  unfold xent
  rw [hk]
  rfl
theorem xent_q {D : XD} {h : AH} {r t : Nat} (hk : hkd h r = t) (h1 : 104 ≤ t) (h2 : t ≤ 108) : xent D h r = some (.inl (D.2.2 t, hln h r, .inr (.inr (.inr (.inr fun j => xo (hrv h r j)))))) := by
  unfold xent
  rw [hk]
  unfold xentk
  show (if t = 0 then none else if t ≤ 16 then _ else if t = 100 ∨ t = 101 ∨ t = 102 then _ else if t = 103 then _ else if 104 ≤ t ∧ t ≤ 108 then _ else _) = _
  rw [if_neg (by omega), if_neg (by omega), if_neg (by omega), if_neg (by omega), if_pos ⟨h1, h2⟩]
theorem xrep_ad {D : XD} {h : AH} {H : Heap} (hR : XRep D h H) {r : Nat} (hk : hkd h r ≠ 0) : ∃ a, r = a + 1 := by
  cases r with
  | zero => exact absurd hR.2 hk
  | succ a => exact ⟨a, rfl⟩
/-- the picture after a write into the cell of r -/
theorem xrep_upd {D : XD} {h h' : AH} {H H1 : Heap} (hR : XRep D h H) {a : Nat} (hk : hkd h' = hkd h) (o : ∀ r', r' ≠ a + 1 → xent D h' r' = xent D h r') (oq : ∀ q : Nat, q ≠ a → H1[q]? = H[q]?) {e1 : va_E} (he : xent D h' (a + 1) = some e1) (h1 : va_at (D.1, D.2.1) xcl (a, e1) H1) : XRep D h' H1 := by
  refine ⟨fun b e hb => ?_, by rw [hk]; exact hR.2⟩
  by_cases hba : b = a
  · subst hba
    rw [he] at hb
    cases hb
    exact h1
  · rw [o (b + 1) (by omega)] at hb
    exact (hR.1 b e hb).kept (oq b hba)

/-- fields of one class lie apart -/
theorem x_decl {args : Array Value} {s : State} {C O f d : String} (h : (Cond.lays C O f d).before args s = true ∨ (Cond.laysFinal C O f d).before args s = true) : ∃ c c' k' i fd dd, s.vm.findClass C = some c ∧ s.fieldFound? O f d = some (c', k', i, fd) ∧ s.vm.findClass O = some c' ∧ Jmm.declares? s.vm fd.slot (c + 1) c = some dd ∧ dd.1.name = k'.name ∧ dd.2.name = fd.name := by
  rcases h with h | h
  · obtain ⟨c, k, c', k', i, fd, r1, r2, hi, -, -, -, -, dd, q1, q2, q3, -⟩ := Cond.lays_spec h
    exact ⟨c, c', k', i, fd, dd, r1, hi, Cond.lays_declared h hi, q1, q2, q3⟩
  · obtain ⟨c, k, c', k', i, fd, r1, r2, hi, -, -, -, r3, -, dd, q1, q2, q3, -⟩ := Cond.laysFinal_spec h
    exact ⟨c, c', k', i, fd, dd, r1, hi, r3, q1, q2, q3⟩
theorem x_fclass {s : State} {O f d : String} {c' i : Nat} {k' : Class} {fd : Field} (hi : s.fieldFound? O f d = some (c', k', i, fd)) (ho : s.vm.findClass O = some c') : k'.name = O := by
  have h1 : s.vm.classes[c']? = some k' := (State.fieldFound?_spec hi).1
  obtain ⟨k9, h9, h8⟩ := Vm.findClass_spec ho
  cases h1.symm.trans h9
  exact h8
/-- two fields of a class lie apart: their names or their declarers differ -/
theorem x_apart {args : Array Value} {s : State} {n : Nat} {cC : ClassId} {iS : Nat → Nat} (hn : n < 17) (hts : ∀ w ∈ lw_all, w.before args s = true) (hK : u_Kn s (xRn n) (xT n) (xN n) cC iS) : ∀ a b, a < xN n → b < xN n → a ≠ b → iS a ≠ iS b := by
  intro a b ha hb hab
  obtain ⟨hS, -⟩ := hK
  obtain ⟨cfa, kfa, fia, fa, hia, ea⟩ := hS a ha
  obtain ⟨cfb, kfb, fib, fb, hib, eb⟩ := hS b hb
  obtain ⟨c1, c2, k1, i1, f1, d1, p1, p2, p3, p4, p5, p6⟩ := x_decl (u_lays hts (xcl_in n hn) ha)
  obtain ⟨c1', c2', k1', i1', f1', d1', p1', p2', p3', p4', p5', p6'⟩ := x_decl (u_lays hts (xcl_in n hn) hb)
  cases p1.symm.trans p1'
  cases hia.symm.trans p2
  cases hib.symm.trans p2'
  rw [← ea, ← eb]
  intro hs
  rw [hs] at p4
  cases p4.symm.trans p4'
  rcases xcl_nm n hn a ha b hb hab with h | h
  · refine h ?_
    rw [← (State.fieldFound?_type hia (xcl_ty n hn a ha)).1, ← (State.fieldFound?_type hib (xcl_ty n hn b hb)).1, ← p6, ← p6']
  · refine h ?_
    rw [← x_fclass hia p3, ← x_fclass hib p3', ← p5, ← p5']

section XHeap
variable {p : Program} {l : Launch} {e : Env} {R : Room} {s : State} {m : MethodId} {args : Array Value} {below : List Frame} {meth : Method} {c : Code} {D : XD} {nL : Nat} {h0 : AH} {Q : State → Prop} {pc : Nat} {lv : XS} {st : List XV} {h : AH} {α : Type} {res : Option α} {C : α → Prop} {cc : ByteArray} {own : String} {fr lo : Nat}
theorem xw_get (K : XO p R s m args meth c D nL h0 cc own fr lo) {H : Heap} {locs : List Loc} {cells slots : Nat} {ls : Array Slot} {rest : List Value} (hR : XRep D h H) {r n k index : Nat} {t : String × String × String × Bool} {ref : String} (hk : hkd h r = n) (h1 : 1 ≤ n ∧ n < 17 ∧ k < xN n) (ht : xT n k = t) (hlink : (Cond.fieldLink own index ref t.2.1 t.2.2.1).before args s = true ∨ ∃ host, (Cond.fieldLinkNest own index ref t.2.1 t.2.2.1 host).before args s = true) (hsame : ∀ x, s.fieldFound? t.1 t.2.1 t.2.2.1 = some x → s.fieldFound? ref t.2.1 t.2.2.1 = some x) (hd : decode cc pc = .ok (.getfield index, 3))
    (kk : W p l e R s m args below meth c H locs cells slots Q (F0 m (pc + 3) ls (xval h r k (xkt (xty n k)) :: rest))) : W p l e R s m args below meth c H locs cells slots Q (F0 m pc ls (va_rf (xo r) :: rest)) := by
  subst ht
  obtain ⟨a, rfl⟩ := xrep_ad hR (r := r) (by rw [hk]; omega)
  obtain ⟨q, g1, cell, q1, q2, q3, q4⟩ := hR.1 a _ (xent_c hk h1.1 h1.2.1)
  obtain ⟨-, rfl⟩ := xcl_at' g1
  have hK := K.2.2.2.2.2.1.1
  have hts := K.2.2.2.2.1
  obtain ⟨hS, hfc, kC, hkC, hkind⟩ := hK.1 n _ (xcl_at h1.2.1)
  obtain ⟨cf, kf, fi, f, hi, hsl⟩ := hS k h1.2.2
  have hv : cell.slots[f.slot]? = some (xval h (a + 1) k (xkt (xty n k))) := by
    rw [hsl, q4 k h1.2.2]
    show some (vp_V (xfs h (a + 1) n) k) = _
    unfold vp_V
    rw [List.getD_eq_getElem?_getD, xfs_at h1.2.2]
    rfl
  have hst := (u_facts hfc hkC (u_lays hts (xcl_in n h1.2.1) h1.2.2) hi).1
  rcases hlink with hlink | ⟨host, hlink⟩
  · exact W.getf K.1 K.2.1 K.2.2.2.1 hlink (hsame _ hi) hst q1 (by rw [q3]; exact fun h => by cases h) hv rfl rfl hd kk
  · exact va_Wgetf K.1 K.2.1 K.2.2.2.1 hlink (hsame _ hi) hst q1 (by rw [q3]; exact fun h => by cases h) hv rfl rfl hd kk
theorem x_geti (K : XO p R s m args meth c D nL h0 cc own fr lo) {pc' : Nat} {r k index : Nat} {cs : List Nat} {t : String × String × String × Bool} {ref : String} {kf : Int32 → Option α} (hc0 : ∀ n ∈ cs, (1 ≤ n ∧ n < 17 ∧ k < xN n) ∧ xT n k = t ∧ xkt (xty n k) = 0) (hlink : (Cond.fieldLink own index ref t.2.1 t.2.2.1).before args s = true ∨ ∃ host, (Cond.fieldLinkNest own index ref t.2.1 t.2.2.1 host).before args s = true) (hsame : ∀ x, s.fieldFound? t.1 t.2.1 t.2.2.1 = some x → s.fieldFound? ref t.2.1 t.2.2.1 = some x) (hd : decode cc pc = .ok (.getfield index, 3)) (hpc : pc + 3 = pc') (kk : ∀ v : Int32, XF p l e R s m args below meth c D nL h0 Q pc' lv (xI v :: st) h (kf v) C) : XF p l e R s m args below meth c D nL h0 Q pc lv (xR r :: st) h ((xgi h r cs k).bind kf) C := by
  subst hpc
  intro x hx hc ls H locs hl hi
  unfold xgi at hx
  by_cases q : hkd h r ∈ cs
  · rw [if_pos q] at hx
    obtain ⟨h1, h2, h3⟩ := hc0 _ q
    refine xw_get K hi.1 rfl h1 h2 hlink hsame hd ?_
    rw [h3]
    exact kk _ x hx hc ls H locs hl hi
  · rw [if_neg q] at hx
    exact absurd hx (by simp)
theorem x_getj (K : XO p R s m args meth c D nL h0 cc own fr lo) {pc' : Nat} {r k index : Nat} {cs : List Nat} {t : String × String × String × Bool} {ref : String} {kf : Int64 → Option α} (hc0 : ∀ n ∈ cs, (1 ≤ n ∧ n < 17 ∧ k < xN n) ∧ xT n k = t ∧ xkt (xty n k) = 1) (hlink : (Cond.fieldLink own index ref t.2.1 t.2.2.1).before args s = true ∨ ∃ host, (Cond.fieldLinkNest own index ref t.2.1 t.2.2.1 host).before args s = true) (hsame : ∀ x, s.fieldFound? t.1 t.2.1 t.2.2.1 = some x → s.fieldFound? ref t.2.1 t.2.2.1 = some x) (hd : decode cc pc = .ok (.getfield index, 3)) (hpc : pc + 3 = pc') (kk : ∀ v : Int64, XF p l e R s m args below meth c D nL h0 Q pc' lv (xJ v :: st) h (kf v) C) : XF p l e R s m args below meth c D nL h0 Q pc lv (xR r :: st) h ((xgj h r cs k).bind kf) C := by
  subst hpc
  intro x hx hc ls H locs hl hi
  unfold xgj at hx
  by_cases q : hkd h r ∈ cs
  · rw [if_pos q] at hx
    obtain ⟨h1, h2, h3⟩ := hc0 _ q
    refine xw_get K hi.1 rfl h1 h2 hlink hsame hd ?_
    rw [h3]
    exact kk _ x hx hc ls H locs hl hi
  · rw [if_neg q] at hx
    exact absurd hx (by simp)
theorem x_getr (K : XO p R s m args meth c D nL h0 cc own fr lo) {pc' : Nat} {r k index : Nat} {cs : List Nat} {t : String × String × String × Bool} {ref : String} {kf : Nat → Option α} (hc0 : ∀ n ∈ cs, (1 ≤ n ∧ n < 17 ∧ k < xN n) ∧ xT n k = t ∧ xkt (xty n k) = 2) (hlink : (Cond.fieldLink own index ref t.2.1 t.2.2.1).before args s = true ∨ ∃ host, (Cond.fieldLinkNest own index ref t.2.1 t.2.2.1 host).before args s = true) (hsame : ∀ x, s.fieldFound? t.1 t.2.1 t.2.2.1 = some x → s.fieldFound? ref t.2.1 t.2.2.1 = some x) (hd : decode cc pc = .ok (.getfield index, 3)) (hpc : pc + 3 = pc') (kk : ∀ v : Nat, XF p l e R s m args below meth c D nL h0 Q pc' lv (xR v :: st) h (kf v) C) : XF p l e R s m args below meth c D nL h0 Q pc lv (xR r :: st) h ((xgr h r cs k).bind kf) C := by
  subst hpc
  intro x hx hc ls H locs hl hi
  unfold xgr at hx
  by_cases q : hkd h r ∈ cs
  · rw [if_pos q] at hx
    obtain ⟨h1, h2, h3⟩ := hc0 _ q
    refine xw_get K hi.1 rfl h1 h2 hlink hsame hd ?_
    rw [h3]
    exact kk _ x hx hc ls H locs hl hi
  · rw [if_neg q] at hx
    exact absurd hx (by simp)
/-- a write into a field, in the machine -/
theorem xw_put (K : XO p R s m args meth c D nL h0 cc own fr lo) {h1 : AH} {H : Heap} {locs : List Loc} {ls : Array Slot} {rest : List Value} (hi : XI D h0 h s.heap H locs) {r n k index : Nat} {t : String × String × String × Bool} {ref : String} {ty : FieldType} {v : Value} (hk : hkd h r = n) (hn : 1 ≤ n ∧ n < 17 ∧ k < xN n) (ht : xT n k = t) (hlink : (Cond.fieldLink own index ref t.2.1 t.2.2.1).before args s = true ∨ ∃ host, (Cond.fieldLinkNest own index ref t.2.1 t.2.2.1 host).before args s = true) (hsame : ∀ x, s.fieldFound? t.1 t.2.1 t.2.2.1 = some x → s.fieldFound? ref t.2.1 t.2.2.1 = some x) (hfin : t.2.2.2 = false ∨ (t.2.2.2 = true ∧ meth.name = "<init>" ∧ t.1 = own ∧ (Cond.fieldLink own index ref t.2.1 t.2.2.1).before args s = true)) (hty : xty n k = ty) (hna : narrow ty v = v) (hfit : fits ty v = true) (hkd1 : hkd h1 = hkd h) (o : ∀ r', r' ≠ r → xent D h1 r' = xent D h r') (hfs : xfs h1 r n = (xfs h r n).set k v) (hdom : XDom h0 h1) (hsz1 : hsz h1 = hsz h) (hsl1 : hsl h1 = hsl h) (hd : decode cc pc = .ok (.putfield index, 3))
    (kk : ∀ (H1 : Heap) (locs1 : List Loc), XI D h0 h1 s.heap H1 locs1 → W p l e R s m args below meth c H1 locs1 (hsz h1 - hsz h0) (hsl h1 - hsl h0) Q (F0 m (pc + 3) ls rest)) : W p l e R s m args below meth c H locs (hsz h - hsz h0) (hsl h - hsl h0) Q (F0 m pc ls (v :: va_rf (xo r) :: rest)) := by
  subst ht
  obtain ⟨hR, hsize, hS, hD⟩ := hi
  obtain ⟨a, rfl⟩ := xrep_ad hR (r := r) (by rw [hk]; omega)
  obtain ⟨q, g1, cell, q1, q2, q3, q4⟩ := hR.1 a _ (xent_c hk hn.1 hn.2.1)
  obtain ⟨-, rfl⟩ := xcl_at' g1
  have hK := K.2.2.2.2.2.1.1
  have hts := K.2.2.2.2.1
  have hKn := hK.1 n _ (xcl_at hn.2.1)
  have hap := x_apart hn.2.1 hts hKn
  obtain ⟨hSl, hfc, kC, hkC, hkind⟩ := hKn
  obtain ⟨cf, kf, fi, f, hfi, hse⟩ := hSl k hn.2.2
  have hlay := hts _ (xcl_in n hn.2.1 _ (u_in_lay hn.2.2))
  have hst := (u_facts hfc hkC (u_lays hts (xcl_in n hn.2.1) hn.2.2) hfi).1
  have hd2 : parseFieldDescriptor (xT n k).2.2.1 = some ty := by rw [← hty]; exact xcl_ty n hn.2.1 k hn.2.2
  have key : ∀ H' : Heap, H'[a]? = some (cell.setSlot f.slot v) → H'.size = H.size → (∀ q, q ≠ a → H'[q]? = H[q]?) → W p l e R s m args below meth c H' (locs ++ [⟨a, f.slot⟩]) (hsz h - hsz h0) (hsl h - hsl h0) Q (F0 m (pc + 3) ls rest) := by
    intro H' e1 e2 e3
    rw [hse] at e1
    have hx := xent_c (D := D) (h := h1) (r := a + 1) (by rw [hkd1]; exact hk) hn.1 hn.2.1
    have := kk H' (locs ++ [⟨a, f.slot⟩]) ⟨xrep_upd hR hkd1 o e3 hx ⟨_, xcl_at hn.2.1, t_OB.to (V := updV (vp_V (xfs h (a + 1) n)) k v) ⟨_, e1, q2, q3, t_set q4 hap hn.2.2 v⟩ (fun j _ => by rw [hfs]; exact vp_updV_set (by rw [xfs_len]; exact hn.2.2) v j)⟩, by rw [e2, hsz1]; exact hsize, hS.put e2 e3 (hD.1 a (by rw [hk]; omega)), hdom⟩
    rw [hsz1, hsl1] at this
    exact this
  rcases hfin with hfin | ⟨hfin, hin, hown, hl2⟩
  · unfold u_lay at hlay
    rw [if_neg (by rw [hfin]; decide)] at hlay
    have h6 := u_store hfc hkC hkind hlay hfi hd2 hna hfit
    rcases hlink with hlink | ⟨host, hlink⟩
    · exact W.putK K.1 K.2.1 (f := f) ⟨K.2.2.2.1, hlink, ⟨_, _, _, hsame _ hfi⟩, hst⟩ (by rw [q2]; exact h6) q1 q3 (by rw [hse]; exact k2_hasslot (q4 k hn.2.2)) rfl rfl hd key
    · exact va_WputK K.1 K.2.1 (f := f) K.2.2.2.1 hlink (hsame _ hfi) hst (by rw [q2]; exact h6) q1 q3 (by rw [hse]; exact k2_hasslot (q4 k hn.2.2)) rfl rfl hd key
  · unfold u_lay at hlay
    rw [if_pos hfin] at hlay
    have hcf : m.cls = cf := by
      obtain ⟨_, _, c', _, _, _, -, -, hf', -, -, -, hown2, -⟩ := Cond.laysFinal_spec hlay
      have e1 : c' = cf := by have := hfi.symm.trans hf'; simp at this; exact this.1.symm
      rw [hown] at hown2
      rw [← e1]; exact Option.some.inj (K.2.2.2.1.symm.trans hown2)
    have h6 := u_fits hfc hkC hkind (Or.inr hlay) hfi hd2 hna hfit
    exact W.putFinK K.1 K.2.1 K.2.2.2.1 hl2 (hsame _ hfi) hst hcf hin (by rw [q2]; exact h6) q1 q3 (by rw [hse]; exact k2_hasslot (q4 k hn.2.2)) rfl rfl hd key
theorem x_puti (K : XO p R s m args meth c D nL h0 cc own fr lo) {pc' : Nat} {r k index : Nat} {cs : List Nat} {t : String × String × String × Bool} {ref : String} {v : Int32} {kf : AH → Option α} (hc0 : ∀ n ∈ cs, (1 ≤ n ∧ n < 17 ∧ k < xN n) ∧ xT n k = t ∧ (xty n k = .int)) (hlink : (Cond.fieldLink own index ref t.2.1 t.2.2.1).before args s = true ∨ ∃ host, (Cond.fieldLinkNest own index ref t.2.1 t.2.2.1 host).before args s = true) (hsame : ∀ x, s.fieldFound? t.1 t.2.1 t.2.2.1 = some x → s.fieldFound? ref t.2.1 t.2.2.1 = some x) (hfin : t.2.2.2 = false ∨ (t.2.2.2 = true ∧ meth.name = "<init>" ∧ t.1 = own ∧ (Cond.fieldLink own index ref t.2.1 t.2.2.1).before args s = true)) (hd : decode cc pc = .ok (.putfield index, 3)) (hpc : pc + 3 = pc') (kk : ∀ h1 : AH, XF p l e R s m args below meth c D nL h0 Q pc' lv st h1 (kf h1) C) : XF p l e R s m args below meth c D nL h0 Q pc lv (xI v :: xR r :: st) h ((xpi h r cs k v).bind kf) C := by
  subst hpc
  intro x hx hc ls H locs hl hi
  unfold xpi at hx
  by_cases q : hkd h r ∈ cs
  · rw [if_pos q] at hx
    obtain ⟨h1, h2, h3⟩ := hc0 _ q
    refine xw_put K hi (h1 := hsI h r k v) (v := .int v) rfl h1 h2 hlink hsame hfin h3 rfl rfl rfl (fun r' n => xent_I n) ?_ hi.2.2.2 rfl rfl hd fun H1 locs1 hi1 => kk _ x hx hc ls H1 locs1 hl hi1
    refine xfs_set h1.2.2 (by rw [h3]; show _ = _; unfold xval; simp only [xkt]; rw [show hiv (hsI h r k v) r = va_up (hiv h r) k v from xu_same]; simp [va_up]) (fun j hj => ?_)
    unfold xval
    rw [show hiv (hsI h r k v) r = va_up (hiv h r) k v from xu_same]
    simp only [va_up, if_neg hj]
    rfl
  · rw [if_neg q] at hx
    exact absurd hx (by simp)
theorem x_putz (K : XO p R s m args meth c D nL h0 cc own fr lo) {pc' : Nat} {r k index : Nat} {cs : List Nat} {t : String × String × String × Bool} {ref : String} {v : Int32} {kf : AH → Option α} (hc0 : ∀ n ∈ cs, (1 ≤ n ∧ n < 17 ∧ k < xN n) ∧ xT n k = t ∧ (xty n k = .boolean)) (hlink : (Cond.fieldLink own index ref t.2.1 t.2.2.1).before args s = true ∨ ∃ host, (Cond.fieldLinkNest own index ref t.2.1 t.2.2.1 host).before args s = true) (hsame : ∀ x, s.fieldFound? t.1 t.2.1 t.2.2.1 = some x → s.fieldFound? ref t.2.1 t.2.2.1 = some x) (hfin : t.2.2.2 = false ∨ (t.2.2.2 = true ∧ meth.name = "<init>" ∧ t.1 = own ∧ (Cond.fieldLink own index ref t.2.1 t.2.2.1).before args s = true)) (hd : decode cc pc = .ok (.putfield index, 3)) (hpc : pc + 3 = pc') (kk : ∀ h1 : AH, XF p l e R s m args below meth c D nL h0 Q pc' lv st h1 (kf h1) C) : XF p l e R s m args below meth c D nL h0 Q pc lv (xI v :: xR r :: st) h ((xpz h r cs k v).bind kf) C := by
  subst hpc
  intro x hx hc ls H locs hl hi
  unfold xpz at hx
  by_cases q : hkd h r ∈ cs ∧ (v = 0 ∨ v = 1)
  · rw [if_pos q] at hx
    obtain ⟨h1, h2, h3⟩ := hc0 _ q.1
    refine xw_put K hi (h1 := hsI h r k v) (v := .int v) rfl h1 h2 hlink hsame hfin h3 (by rcases q.2 with rfl | rfl <;> rfl) (by rcases q.2 with rfl | rfl <;> rfl) rfl (fun r' n => xent_I n) ?_ hi.2.2.2 rfl rfl hd fun H1 locs1 hi1 => kk _ x hx hc ls H1 locs1 hl hi1
    refine xfs_set h1.2.2 (by rw [h3]; show _ = _; unfold xval; simp only [xkt]; rw [show hiv (hsI h r k v) r = va_up (hiv h r) k v from xu_same]; simp [va_up]) (fun j hj => ?_)
    unfold xval
    rw [show hiv (hsI h r k v) r = va_up (hiv h r) k v from xu_same]
    simp only [va_up, if_neg hj]
    rfl
  · rw [if_neg q] at hx
    exact absurd hx (by simp)
theorem x_putj (K : XO p R s m args meth c D nL h0 cc own fr lo) {pc' : Nat} {r k index : Nat} {cs : List Nat} {t : String × String × String × Bool} {ref : String} {v : Int64} {kf : AH → Option α} (hc0 : ∀ n ∈ cs, (1 ≤ n ∧ n < 17 ∧ k < xN n) ∧ xT n k = t ∧ (xty n k = .long)) (hlink : (Cond.fieldLink own index ref t.2.1 t.2.2.1).before args s = true ∨ ∃ host, (Cond.fieldLinkNest own index ref t.2.1 t.2.2.1 host).before args s = true) (hsame : ∀ x, s.fieldFound? t.1 t.2.1 t.2.2.1 = some x → s.fieldFound? ref t.2.1 t.2.2.1 = some x) (hfin : t.2.2.2 = false ∨ (t.2.2.2 = true ∧ meth.name = "<init>" ∧ t.1 = own ∧ (Cond.fieldLink own index ref t.2.1 t.2.2.1).before args s = true)) (hd : decode cc pc = .ok (.putfield index, 3)) (hpc : pc + 3 = pc') (kk : ∀ h1 : AH, XF p l e R s m args below meth c D nL h0 Q pc' lv st h1 (kf h1) C) : XF p l e R s m args below meth c D nL h0 Q pc lv (xJ v :: xR r :: st) h ((xpj h r cs k v).bind kf) C := by
  subst hpc
  intro x hx hc ls H locs hl hi
  unfold xpj at hx
  by_cases q : hkd h r ∈ cs
  · rw [if_pos q] at hx
    obtain ⟨h1, h2, h3⟩ := hc0 _ q
    refine xw_put K hi (h1 := hsJ h r k v) (v := .long v) rfl h1 h2 hlink hsame hfin h3 rfl rfl rfl (fun r' n => xent_J n) ?_ hi.2.2.2 rfl rfl hd fun H1 locs1 hi1 => kk _ x hx hc ls H1 locs1 hl hi1
    refine xfs_set h1.2.2 (by rw [h3]; show _ = _; unfold xval; simp only [xkt]; rw [show hjv (hsJ h r k v) r = va_up (hjv h r) k v from xu_same]; simp [va_up]) (fun j hj => ?_)
    unfold xval
    rw [show hjv (hsJ h r k v) r = va_up (hjv h r) k v from xu_same]
    simp only [va_up, if_neg hj]
    rfl
  · rw [if_neg q] at hx
    exact absurd hx (by simp)
theorem x_putr (K : XO p R s m args meth c D nL h0 cc own fr lo) {pc' : Nat} {r k index : Nat} {cs : List Nat} {t : String × String × String × Bool} {ref : String} {v : Nat} {kf : AH → Option α} (hc0 : ∀ n ∈ cs, (1 ≤ n ∧ n < 17 ∧ k < xN n) ∧ xT n k = t ∧ ((∃ C9, xty n k = .object C9) ∨ ∃ t9, xty n k = .array t9)) (hlink : (Cond.fieldLink own index ref t.2.1 t.2.2.1).before args s = true ∨ ∃ host, (Cond.fieldLinkNest own index ref t.2.1 t.2.2.1 host).before args s = true) (hsame : ∀ x, s.fieldFound? t.1 t.2.1 t.2.2.1 = some x → s.fieldFound? ref t.2.1 t.2.2.1 = some x) (hfin : t.2.2.2 = false ∨ (t.2.2.2 = true ∧ meth.name = "<init>" ∧ t.1 = own ∧ (Cond.fieldLink own index ref t.2.1 t.2.2.1).before args s = true)) (hd : decode cc pc = .ok (.putfield index, 3)) (hpc : pc + 3 = pc') (kk : ∀ h1 : AH, XF p l e R s m args below meth c D nL h0 Q pc' lv st h1 (kf h1) C) : XF p l e R s m args below meth c D nL h0 Q pc lv (xR v :: xR r :: st) h ((xpr h r cs k v).bind kf) C := by
  subst hpc
  intro x hx hc ls H locs hl hi
  unfold xpr at hx
  by_cases q : hkd h r ∈ cs
  · rw [if_pos q] at hx
    obtain ⟨h1, h2, h3⟩ := hc0 _ q
    have hx2 : xkt (xty (hkd h r) k) = 2 := by rcases h3 with ⟨C9, e9⟩ | ⟨t9, e9⟩ <;> rw [e9] <;> rfl
    refine xw_put K hi (h1 := hsR h r k v) (v := va_rf (xo v)) rfl h1 h2 hlink hsame hfin rfl ?_ ?_ rfl (fun r' n => xent_R n) ?_ hi.2.2.2 rfl rfl hd fun H1 locs1 hi1 => kk _ x hx hc ls H1 locs1 hl hi1
    · rcases h3 with ⟨C9, e9⟩ | ⟨t9, e9⟩ <;> rw [e9] <;> cases v <;> rfl
    · rcases h3 with ⟨C9, e9⟩ | ⟨t9, e9⟩ <;> rw [e9] <;> cases v <;> rfl
    · refine xfs_set h1.2.2 (by rw [hx2]; show va_rf (xo (hrv (hsR h r k v) r k)) = _; rw [show hrv (hsR h r k v) r = va_up (hrv h r) k v from xu_same]; simp [va_up]) (fun j hj => ?_)
      unfold xval
      rw [show hrv (hsR h r k v) r = va_up (hrv h r) k v from xu_same]
      simp only [va_up, if_neg hj]
      rfl
  · rw [if_neg q] at hx
    exact absurd hx (by simp)
end XHeap
