/-! XK 5: arrays, objects made -/
set_option maxRecDepth 100000
theorem xi_in {i : Int32} {n : Nat} (h1 : 0 ≤ i.toInt) (h2 : i.toInt < n) : vp_in i n := vp_in_iff.mpr ⟨h1, h2⟩
theorem xi_nn {i : Int32} (h1 : 0 ≤ i.toInt) : ¬ i < 0 := by
  rw [Int32.lt_iff_toInt_lt]
  exact Int.not_lt.mpr h1
theorem xi_nat {i : Int32} : i.toNatClampNeg = i.toInt.toNat := rfl
section XArr
variable {p : Program} {l : Launch} {e : Env} {R : Room} {s : State} {m : MethodId} {args : Array Value} {below : List Frame} {meth : Method} {c : Code} {D : XD} {nL : Nat} {h0 : AH} {Q : State → Prop} {pc : Nat} {lv : XS} {st : List XV} {h : AH} {α : Type} {res : Option α} {C : α → Prop} {cc : ByteArray} {own : String} {fr lo : Nat}
theorem xrep_P {H : Heap} (hR : XRep D h H) {a : Nat} {e0 : va_E} (he : xent D h (a + 1) = some e0) : va_P (D.1, D.2.1) xcl [(a, e0)] H := by
  intro k q hk
  cases k with
  | zero =>
    cases hk
    exact hR.1 a e0 he
  | succ k => cases hk
theorem x_iald (K : XO p R s m args meth c D nL h0 cc own fr lo) {pc' : Nat} {r : Nat} {i : Int32} {kf : Int32 → Option α} (hd : decode cc pc = .ok (.iaload, 1)) (hpc : pc + 1 = pc') (kk : ∀ v : Int32, XF p l e R s m args below meth c D nL h0 Q pc' lv (xI v :: st) h (kf v) C) : XF p l e R s m args below meth c D nL h0 Q pc lv (xI i :: xR r :: st) h ((xai h r 100 i).bind kf) C := by
  subst hpc
  intro x hx hc ls H locs hl hi
  unfold xai at hx
  by_cases q : hkd h r = 100 ∧ 0 ≤ i.toInt ∧ i.toInt < hln h r
  · rw [if_pos q] at hx
    obtain ⟨a, rfl⟩ := xrep_ad hi.1 (r := r) (by rw [q.1]; decide)
    exact va_iald K.1 K.2.1 K.2.2.2.2.2.1.1 (xrep_P hi.1 (xent_i q.1 (by decide))) 0 0 rfl (xtys_at D (k := 100) (by decide) (by decide)) (xi_in q.2.1 q.2.2) hd (kk _ x hx hc ls H locs hl hi)
  · rw [if_neg q] at hx
    exact absurd hx (by simp)
theorem x_zald (K : XO p R s m args meth c D nL h0 cc own fr lo) {pc' : Nat} {r : Nat} {i : Int32} {kf : Int32 → Option α} (hd : decode cc pc = .ok (.baload, 1)) (hpc : pc + 1 = pc') (kk : ∀ v : Int32, XF p l e R s m args below meth c D nL h0 Q pc' lv (xI v :: st) h (kf v) C) : XF p l e R s m args below meth c D nL h0 Q pc lv (xI i :: xR r :: st) h ((xai h r 101 i).bind kf) C := by
  subst hpc
  intro x hx hc ls H locs hl hi
  unfold xai at hx
  by_cases q : hkd h r = 101 ∧ 0 ≤ i.toInt ∧ i.toInt < hln h r
  · rw [if_pos q] at hx
    obtain ⟨a, rfl⟩ := xrep_ad hi.1 (r := r) (by rw [q.1]; decide)
    exact va_zald K.1 K.2.1 K.2.2.2.2.2.1.1 (xrep_P hi.1 (xent_i q.1 (by decide))) 0 1 rfl (xtys_at D (k := 101) (by decide) (by decide)) (xi_in q.2.1 q.2.2) hd (kk _ x hx hc ls H locs hl hi)
  · rw [if_neg q] at hx
    exact absurd hx (by simp)
theorem x_bald (K : XO p R s m args meth c D nL h0 cc own fr lo) {pc' : Nat} {r : Nat} {i : Int32} {kf : Int32 → Option α} (hd : decode cc pc = .ok (.baload, 1)) (hpc : pc + 1 = pc') (kk : ∀ v : Int32, XF p l e R s m args below meth c D nL h0 Q pc' lv (xI v :: st) h (kf v) C) : XF p l e R s m args below meth c D nL h0 Q pc lv (xI i :: xR r :: st) h ((xai h r 102 i).bind kf) C := by
  subst hpc
  intro x hx hc ls H locs hl hi
  unfold xai at hx
  by_cases q : hkd h r = 102 ∧ 0 ≤ i.toInt ∧ i.toInt < hln h r
  · rw [if_pos q] at hx
    obtain ⟨a, rfl⟩ := xrep_ad hi.1 (r := r) (by rw [q.1]; decide)
    exact va_bald K.1 K.2.1 K.2.2.2.2.2.1.1 (xrep_P hi.1 (xent_i q.1 (by decide))) 0 2 rfl (xtys_at D (k := 102) (by decide) (by decide)) (xi_in q.2.1 q.2.2) hd (kk _ x hx hc ls H locs hl hi)
  · rw [if_neg q] at hx
    exact absurd hx (by simp)
theorem x_lald (K : XO p R s m args meth c D nL h0 cc own fr lo) {pc' : Nat} {r : Nat} {i : Int32} {kf : Int64 → Option α} (hd : decode cc pc = .ok (.laload, 1)) (hpc : pc + 1 = pc') (kk : ∀ v : Int64, XF p l e R s m args below meth c D nL h0 Q pc' lv (xJ v :: st) h (kf v) C) : XF p l e R s m args below meth c D nL h0 Q pc lv (xI i :: xR r :: st) h ((xaj h r i).bind kf) C := by
  subst hpc
  intro x hx hc ls H locs hl hi
  unfold xaj at hx
  by_cases q : hkd h r = 103 ∧ 0 ≤ i.toInt ∧ i.toInt < hln h r
  · rw [if_pos q] at hx
    obtain ⟨a, rfl⟩ := xrep_ad hi.1 (r := r) (by rw [q.1]; decide)
    exact va_lald K.1 K.2.1 K.2.2.2.2.2.1.1 (xrep_P hi.1 (xent_j q.1)) 0 3 rfl (xtys_at D (k := 103) (by decide) (by decide)) (xi_in q.2.1 q.2.2) hd (kk _ x hx hc ls H locs hl hi)
  · rw [if_neg q] at hx
    exact absurd hx (by simp)
theorem xat_q {t : Nat} (h1 : 104 ≤ t) (h2 : t ≤ 108) : ∃ C9, xat_ t = .object C9 := by
  rcases (show t = 104 ∨ t = 105 ∨ t = 106 ∨ t = 107 ∨ t = 108 by omega) with rfl | rfl | rfl | rfl | rfl <;> exact ⟨_, rfl⟩
theorem x_rald (K : XO p R s m args meth c D nL h0 cc own fr lo) {pc' : Nat} {r : Nat} {i : Int32} {ts : List Nat} {kf : Nat → Option α} (ht : ∀ t ∈ ts, 104 ≤ t ∧ t ≤ 108) (hd : decode cc pc = .ok (.aaload, 1)) (hpc : pc + 1 = pc') (kk : ∀ v : Nat, XF p l e R s m args below meth c D nL h0 Q pc' lv (xR v :: st) h (kf v) C) : XF p l e R s m args below meth c D nL h0 Q pc lv (xI i :: xR r :: st) h ((xar h r ts i).bind kf) C := by
  subst hpc
  intro x hx hc ls H locs hl hi
  unfold xar at hx
  by_cases q : hkd h r ∈ ts ∧ 0 ≤ i.toInt ∧ i.toInt < hln h r
  · rw [if_pos q] at hx
    obtain ⟨h1, h2⟩ := ht _ q.1
    obtain ⟨C9, e9⟩ := xat_q h1 h2
    obtain ⟨a, rfl⟩ := xrep_ad hi.1 (r := r) (by omega)
    have e8 := xtys_at D (Nat.le_trans (by decide) h1) h2
    rw [e9] at e8
    exact va_aldq K.1 K.2.1 K.2.2.2.2.2.1.1 (xrep_P hi.1 (xent_q rfl h1 h2)) 0 _ rfl e8 (xi_in q.2.1 q.2.2) hd (kk _ x hx hc ls H locs hl hi)
  · rw [if_neg q] at hx
    exact absurd hx (by simp)
theorem x_alen (K : XO p R s m args meth c D nL h0 cc own fr lo) {pc' : Nat} {r : Nat} {ts : List Nat} {kf : Int32 → Option α} (ht : ∀ t ∈ ts, 100 ≤ t ∧ t ≤ 108) (hd : decode cc pc = .ok (.arraylength, 1)) (hpc : pc + 1 = pc') (kk : ∀ v : Int32, XF p l e R s m args below meth c D nL h0 Q pc' lv (xI v :: st) h (kf v) C) : XF p l e R s m args below meth c D nL h0 Q pc lv (xR r :: st) h ((xal h r ts).bind kf) C := by
  subst hpc
  intro x hx hc ls H locs hl hi
  unfold xal at hx
  by_cases q : hkd h r ∈ ts
  · rw [if_pos q] at hx
    obtain ⟨h1, h2⟩ := ht _ q
    obtain ⟨a, rfl⟩ := xrep_ad hi.1 (r := r) (by omega)
    have e8 := xtys_at D h1 h2
    have key : ∃ cx, xent D h (a + 1) = some (.inl (D.2.2 (hkd h (a + 1)), hln h (a + 1), cx)) := by
      by_cases g1 : hkd h (a + 1) = 103
      · exact ⟨_, by rw [xent_j g1, g1]⟩
      · by_cases g2 : 104 ≤ hkd h (a + 1)
        · exact ⟨_, xent_q rfl g2 h2⟩
        · exact ⟨_, xent_i rfl (by omega)⟩
    obtain ⟨cx, he⟩ := key
    exact va_alen (v := Int32.ofNat (hln h (a + 1))) K.1 K.2.1 K.2.2.2.2.2.1.1 (xrep_P hi.1 he) 0 _ rfl e8 rfl hd (kk _ x hx hc ls H locs hl hi)
  · rw [if_neg q] at hx
    exact absurd hx (by simp)
theorem x_iast (K : XO p R s m args meth c D nL h0 cc own fr lo) {pc' : Nat} {r : Nat} {i : Int32} {v : Int32} {kf : AH → Option α} (hd : decode cc pc = .ok (.iastore, 1)) (hpc : pc + 1 = pc') (kk : ∀ h1 : AH, XF p l e R s m args below meth c D nL h0 Q pc' lv st h1 (kf h1) C) : XF p l e R s m args below meth c D nL h0 Q pc lv (xI v :: xI i :: xR r :: st) h ((xsi h r i v).bind kf) C := by
  subst hpc
  intro x hx hc ls H locs hl hi
  unfold xsi at hx
  by_cases q : hkd h r = 100 ∧ 0 ≤ i.toInt ∧ i.toInt < hln h r
  · rw [if_pos q] at hx
    obtain ⟨hR, hsize, hS, hD⟩ := id hi
    obtain ⟨a, rfl⟩ := xrep_ad hR (r := r) (by rw [q.1]; decide)
    refine W.iast K.1 K.2.1 (hR.1 a _ (xent_i q.1 (by decide))) ((K.2.2.2.2.2.1.1.2 _ _ (xtys_at D (k := 100) (by decide) (by decide))).1 _ (fun j => .int (hiv h (a + 1) j))) (fun z => by cases z) (by show ¬ (i < 0 ∨ (arrV _ _ _).slots.size ≤ _); rw [arrV_size]; exact xi_in q.2.1 q.2.2) rfl rfl hd fun H1 e1 e2 e3 => ?_
    refine kk (hsI h (a + 1) i.toNatClampNeg (v)) x hx hc ls H1 _ hl ⟨xrep_upd hR rfl (fun r' n => xent_I n) e3 (xent_i (h := hsI h (a + 1) i.toNatClampNeg (v)) q.1 (by decide)) ?_, by rw [e2]; exact hsize, hS.put e2 e3 (hD.1 a (by rw [q.1]; decide)), hD⟩
    show H1[a]? = some (vp_cell _ _)
    rw [e1]
    rw [vp_cell_i, vp_cell_i, arrV_store]
    congr 2
    funext j
    rw [show hiv (hsI h (a + 1) i.toNatClampNeg (v)) (a + 1) = va_up (hiv h (a + 1)) i.toNatClampNeg (v) from xu_same]
    by_cases hj : j = i.toNatClampNeg
    · subst hj
      simp [updV, va_up]
    · simp [updV, va_up, hj]
  · rw [if_neg q] at hx
    exact absurd hx (by simp)
theorem x_zast (K : XO p R s m args meth c D nL h0 cc own fr lo) {pc' : Nat} {r : Nat} {i : Int32} {v : Int32} {kf : AH → Option α} (hd : decode cc pc = .ok (.bastore, 1)) (hpc : pc + 1 = pc') (kk : ∀ h1 : AH, XF p l e R s m args below meth c D nL h0 Q pc' lv st h1 (kf h1) C) : XF p l e R s m args below meth c D nL h0 Q pc lv (xI v :: xI i :: xR r :: st) h ((xsz h r i v).bind kf) C := by
  subst hpc
  intro x hx hc ls H locs hl hi
  unfold xsz at hx
  by_cases q : hkd h r = 101 ∧ 0 ≤ i.toInt ∧ i.toInt < hln h r ∧ (v = 0 ∨ v = 1)
  · rw [if_pos q] at hx
    obtain ⟨hR, hsize, hS, hD⟩ := id hi
    obtain ⟨a, rfl⟩ := xrep_ad hR (r := r) (by rw [q.1]; decide)
    refine W.zast K.1 K.2.1 (hR.1 a _ (xent_i q.1 (by decide))) ((K.2.2.2.2.2.1.1.2 _ _ (xtys_at D (k := 101) (by decide) (by decide))).1 _ (fun j => .int (hiv h (a + 1) j))) (fun z => by cases z) (by show ¬ (i < 0 ∨ (arrV _ _ _).slots.size ≤ _); rw [arrV_size]; exact xi_in q.2.1 q.2.2.1) rfl rfl hd fun H1 e1 e2 e3 => ?_
    refine kk (hsI h (a + 1) i.toNatClampNeg (v)) x hx hc ls H1 _ hl ⟨xrep_upd hR rfl (fun r' n => xent_I n) e3 (xent_i (h := hsI h (a + 1) i.toNatClampNeg (v)) q.1 (by decide)) ?_, by rw [e2]; exact hsize, hS.put e2 e3 (hD.1 a (by rw [q.1]; decide)), hD⟩
    show H1[a]? = some (vp_cell _ _)
    rw [e1]
    rw [vp_cell_i, vp_cell_i, arrV_store]
    congr 2
    funext j
    rw [show hiv (hsI h (a + 1) i.toNatClampNeg (v)) (a + 1) = va_up (hiv h (a + 1)) i.toNatClampNeg (v) from xu_same]
    by_cases hj : j = i.toNatClampNeg
    · subst hj
      rcases q.2.2.2 with rfl | rfl <;> simp [updV, va_up] <;> rfl
    · simp [updV, va_up, hj]
  · rw [if_neg q] at hx
    exact absurd hx (by simp)
theorem x_bast (K : XO p R s m args meth c D nL h0 cc own fr lo) {pc' : Nat} {r : Nat} {i : Int32} {v : Int32} {kf : AH → Option α} (hd : decode cc pc = .ok (.bastore, 1)) (hpc : pc + 1 = pc') (kk : ∀ h1 : AH, XF p l e R s m args below meth c D nL h0 Q pc' lv st h1 (kf h1) C) : XF p l e R s m args below meth c D nL h0 Q pc lv (xI v :: xI i :: xR r :: st) h ((xsb h r i v).bind kf) C := by
  subst hpc
  intro x hx hc ls H locs hl hi
  unfold xsb at hx
  by_cases q : hkd h r = 102 ∧ 0 ≤ i.toInt ∧ i.toInt < hln h r
  · rw [if_pos q] at hx
    obtain ⟨hR, hsize, hS, hD⟩ := id hi
    obtain ⟨a, rfl⟩ := xrep_ad hR (r := r) (by rw [q.1]; decide)
    refine W.bast K.1 K.2.1 (hR.1 a _ (xent_i q.1 (by decide))) ((K.2.2.2.2.2.1.1.2 _ _ (xtys_at D (k := 102) (by decide) (by decide))).1 _ (fun j => .int (hiv h (a + 1) j))) (fun z => by cases z) (by show ¬ (i < 0 ∨ (arrV _ _ _).slots.size ≤ _); rw [arrV_size]; exact xi_in q.2.1 q.2.2) rfl rfl hd fun H1 e1 e2 e3 => ?_
    refine kk (hsI h (a + 1) i.toNatClampNeg (v.toInt8.toInt32)) x hx hc ls H1 _ hl ⟨xrep_upd hR rfl (fun r' n => xent_I n) e3 (xent_i (h := hsI h (a + 1) i.toNatClampNeg (v.toInt8.toInt32)) q.1 (by decide)) ?_, by rw [e2]; exact hsize, hS.put e2 e3 (hD.1 a (by rw [q.1]; decide)), hD⟩
    show H1[a]? = some (vp_cell _ _)
    rw [e1]
    rw [vp_cell_i, vp_cell_i, arrV_store]
    congr 2
    funext j
    rw [show hiv (hsI h (a + 1) i.toNatClampNeg (v.toInt8.toInt32)) (a + 1) = va_up (hiv h (a + 1)) i.toNatClampNeg (v.toInt8.toInt32) from xu_same]
    by_cases hj : j = i.toNatClampNeg
    · subst hj
      simp [updV, va_up]
      try rfl
    · simp [updV, va_up, hj]
  · rw [if_neg q] at hx
    exact absurd hx (by simp)
theorem x_last (K : XO p R s m args meth c D nL h0 cc own fr lo) {pc' : Nat} {r : Nat} {i : Int32} {v : Int64} {kf : AH → Option α} (hd : decode cc pc = .ok (.lastore, 1)) (hpc : pc + 1 = pc') (kk : ∀ h1 : AH, XF p l e R s m args below meth c D nL h0 Q pc' lv st h1 (kf h1) C) : XF p l e R s m args below meth c D nL h0 Q pc lv (xJ v :: xI i :: xR r :: st) h ((xsj h r i v).bind kf) C := by
  subst hpc
  intro x hx hc ls H locs hl hi
  unfold xsj at hx
  by_cases q : hkd h r = 103 ∧ 0 ≤ i.toInt ∧ i.toInt < hln h r
  · rw [if_pos q] at hx
    obtain ⟨hR, hsize, hS, hD⟩ := id hi
    obtain ⟨a, rfl⟩ := xrep_ad hR (r := r) (by rw [q.1]; decide)
    refine W.last K.1 K.2.1 (hR.1 a _ (xent_j q.1)) ((K.2.2.2.2.2.1.1.2 _ _ (xtys_at D (k := 103) (by decide) (by decide))).1 _ (fun j => .long (hjv h (a + 1) j))) (fun z => by cases z) (by show ¬ (i < 0 ∨ (arrV _ _ _).slots.size ≤ _); rw [arrV_size]; exact xi_in q.2.1 q.2.2) rfl rfl hd fun H1 e1 e2 e3 => ?_
    refine kk (hsJ h (a + 1) i.toNatClampNeg (v)) x hx hc ls H1 _ hl ⟨xrep_upd hR rfl (fun r' n => xent_J n) e3 (xent_j (h := hsJ h (a + 1) i.toNatClampNeg (v)) q.1) ?_, by rw [e2]; exact hsize, hS.put e2 e3 (hD.1 a (by rw [q.1]; decide)), hD⟩
    show H1[a]? = some (vp_cell _ _)
    rw [e1]
    rw [vp_cell_l, vp_cell_l, arrV_store]
    congr 2
    funext j
    rw [show hjv (hsJ h (a + 1) i.toNatClampNeg (v)) (a + 1) = va_up (hjv h (a + 1)) i.toNatClampNeg (v) from xu_same]
    by_cases hj : j = i.toNatClampNeg
    · subst hj
      simp [updV, va_up]
    · simp [updV, va_up, hj]
  · rw [if_neg q] at hx
    exact absurd hx (by simp)
theorem x_rast (K : XO p R s m args meth c D nL h0 cc own fr lo) {pc' : Nat} {r : Nat} {i : Int32} {v t n : Nat} {kf : AH → Option α} (ht : 104 ≤ t ∧ t ≤ 108) (hn : 1 ≤ n ∧ n < 17) (htn : xat_ t = .object (xRn n)) (hd : decode cc pc = .ok (.aastore, 1)) (hpc : pc + 1 = pc') (kk : ∀ h1 : AH, XF p l e R s m args below meth c D nL h0 Q pc' lv st h1 (kf h1) C) : XF p l e R s m args below meth c D nL h0 Q pc lv (xR v :: xI i :: xR r :: st) h ((xsr h r t [n] i v).bind kf) C := by
  subst hpc
  intro x hx hc ls H locs hl hi
  unfold xsr at hx
  by_cases q : hkd h r = t ∧ 0 ≤ i.toInt ∧ i.toInt < hln h r ∧ (v = 0 ∨ hkd h v ∈ [n])
  · rw [if_pos q] at hx
    obtain ⟨hR, hsize, hS, hD⟩ := id hi
    obtain ⟨a, rfl⟩ := xrep_ad hR (r := r) (by rw [q.1]; omega)
    have hin := xi_in q.2.1 q.2.2.1
    have hcell := hR.1 a _ (xent_q q.1 ht.1 ht.2)
    have hK := K.2.2.2.2.2.1.1
    have htt := hK.2 _ _ (xtys_at D (Nat.le_trans (by decide) ht.1) ht.2)
    rw [htn] at htt
    have fin : ∀ (H1 : Heap), H1[a]? = some ((vp_cell (D.2.2 t) (hln h (a + 1), .inr (.inr (.inr (.inr fun j => xo (hrv h (a + 1) j)))))).setSlot i.toNatClampNeg (va_rf (xo v))) → H1.size = H.size → (∀ q, q ≠ a → H1[q]? = H[q]?) → W p l e R s m args below meth c H1 (locs ++ [⟨a, i.toNatClampNeg⟩]) (hsz h - hsz h0) (hsl h - hsl h0) Q (F0 m (pc + 1) ls (st.map xv)) := by
      intro H1 e1 e2 e3
      refine kk (hsR h (a + 1) i.toNatClampNeg v) x hx hc ls H1 _ hl ⟨xrep_upd hR rfl (fun r' n => xent_R n) e3 (xent_q (h := hsR h (a + 1) i.toNatClampNeg v) q.1 ht.1 ht.2) ?_, by rw [e2]; exact hsize, hS.put e2 e3 (hD.1 a (by rw [q.1]; omega)), hD⟩
      show H1[a]? = some (vp_cell _ _)
      rw [e1, vp_cell_q, vp_cell_q, arrV_store]
      congr 2
      funext j
      rw [show hrv (hsR h (a + 1) i.toNatClampNeg v) (a + 1) = va_up (hrv h (a + 1)) i.toNatClampNeg v from xu_same]
      by_cases hj : j = i.toNatClampNeg
      · subst hj
        simp [updV, va_up]
      · simp [updV, va_up, hj]
    have hlt : i.toNatClampNeg < hln h (a + 1) := Nat.not_le.mp fun q => hin (Or.inr q)
    have hn0 : ¬ i < 0 := fun q => hin (Or.inl q)
    rcases q.2.2.2 with rfl | hv
    · exact va_WaastN (C := xRn n) K.1 K.2.1 hcell (htt.1 _ (fun j => va_rf (xo (hrv h (a + 1) j)))) (fun z => by cases z) (by show ¬ (i < 0 ∨ (arrV _ _ _).slots.size ≤ _); rw [arrV_size]; exact hin) rfl rfl hd fin
    · have hv : hkd h v = n := by simpa using hv
      obtain ⟨b, rfl⟩ := xrep_ad hR (r := v) (by omega)
      obtain ⟨r', g0, cellV, g1, g2, g3, -⟩ := hR.1 b _ (xent_c hv hn.1 hn.2)
      have hcls := (hK.1 n _ (xcl_at hn.2)).2
      obtain ⟨kA, comp, k1, k2, k3, -⟩ := htt.2
      have hcomp : comp = D.1 n := Option.some.inj (k3.symm.trans hcls.1)
      subst hcomp
      obtain ⟨kC, hkC, -⟩ := hcls.2
      exact W.aast K.1 K.2.1 hcell (fun q h => by cases h) (fun h => by cases h) k1 k2 rfl hkC ⟨hn0, by show _ < (arrV _ _ _).slots.size; rw [arrV_size]; exact hlt⟩ g1 (fun q h => by rw [g3] at h; cases h) (by rw [g2]; exact hkC) (by rw [g2]; exact va_assign hcls) rfl rfl hd fin
  · rw [if_neg q] at hx
    exact absurd hx (by simp)
theorem xrep_new {H H1 : Heap} (hR : XRep D h H) (hsize : H.size = hsz h) {k n w9 : Nat} (oq : ∀ q : Nat, q < H.size → H1[q]? = H[q]?) {e1 : va_E} (he : xent D (hnew h k n w9) (hsz h + 1) = some e1) (h1 : va_at (D.1, D.2.1) xcl (hsz h, e1) H1) : XRep D (hnew h k n w9) H1 := by
  have hne : ∀ r', r' ≠ hsz h + 1 → xent D (hnew h k n w9) r' = xent D h r' := by
    intro r' hr
    have a1 : hkd (hnew h k n w9) r' = hkd h r' := if_neg hr
    have a2 : hln (hnew h k n w9) r' = hln h r' := if_neg hr
    have a3 : hiv (hnew h k n w9) r' = hiv h r' := if_neg hr
    have a4 : hjv (hnew h k n w9) r' = hjv h r' := if_neg hr
    have a5 : hrv (hnew h k n w9) r' = hrv h r' := if_neg hr
    have a6 : ∀ c, xfs (hnew h k n w9) r' c = xfs h r' c := fun c => by
      unfold xfs
      refine List.map_congr_left fun j _ => ?_
      unfold xval
      rw [a3, a4, a5]
    unfold xent
    rw [a1]
    unfold xentk
    rw [a2, a3, a4, a5, a6]
  refine ⟨fun b e hb => ?_, ?_⟩
  · by_cases hba : b = hsz h
    · subst hba
      rw [he] at hb
      cases hb
      exact h1
    · rw [hne (b + 1) (by omega)] at hb
      have h2 := hR.1 b e hb
      exact h2.kept (oq b h2.lt)
  · show va_up (hkd h) (hsz h + 1) k 0 = 0
    rw [va_up, if_neg (by omega)]
    exact hR.2
theorem xdom_new {k n w9 : Nat} (hD : XDom h0 h) (hc1 : hsz h + 1 ≤ hcap h) (hs1 : hsl h + w9 ≤ hscap h) : XDom h0 (hnew h k n w9) := by
  obtain ⟨d1, d2, d3, d4, d5, d6, d7, d8⟩ := hD
  refine ⟨fun q hq => ?_, by show hsz h0 ≤ hsz h + 1; omega, by show hsl h0 ≤ hsl h + w9; omega, hc1, hs1, d6, d7, d8⟩
  by_cases hq1 : q = hsz h
  · subst hq1
    exact Or.inr d2
  · refine d1 q ?_
    have a1 : hkd (hnew h k n w9) (q + 1) = hkd h (q + 1) := if_neg (fun z => hq1 (Nat.succ.inj z))
    rw [← a1]
    exact hq
theorem xty_c0 {N : Nat} {ty : Nat → FieldType} (h : ((List.range N).all fun j => match ty j with | .int => true | .boolean => true | .long => true | .object _ => true | .array _ => true | _ => false) = true) : ∀ j, j < N → ty j = .int ∨ ty j = .boolean ∨ ty j = .long ∨ (∃ C9, ty j = .object C9) ∨ ∃ t9, ty j = .array t9 := by
  intro j hj
  have := List.all_eq_true.mp h j (List.mem_range.mpr hj)
  cases e : ty j <;> simp [e] at this ⊢
theorem xty_cases : ∀ n, n < 17 → ∀ j, j < xN n → xty n j = .int ∨ xty n j = .boolean ∨ xty n j = .long ∨ (∃ C9, xty n j = .object C9) ∨ ∃ t9, xty n j = .array t9 := by
  intro n hn
  match n, hn with
  | 0, _ => exact xty_c0 (by decide)
  | 1, _ => exact xty_c0 (by decide)
  | 2, _ => exact xty_c0 (by decide)
  | 3, _ => exact xty_c0 (by decide)
  | 4, _ => exact xty_c0 (by decide)
  | 5, _ => exact xty_c0 (by decide)
  | 6, _ => exact xty_c0 (by decide)
  | 7, _ => exact xty_c0 (by decide)
  | 8, _ => exact xty_c0 (by decide)
  | 9, _ => exact xty_c0 (by decide)
  | 10, _ => exact xty_c0 (by decide)
  | 11, _ => exact xty_c0 (by decide)
  | 12, _ => exact xty_c0 (by decide)
  | 13, _ => exact xty_c0 (by decide)
  | 14, _ => exact xty_c0 (by decide)
  | 15, _ => exact xty_c0 (by decide)
  | 16, _ => exact xty_c0 (by decide)
  | n + 17, h => omega
theorem x_new (K : XO p R s m args meth c D nL h0 cc own fr lo) {pc' : Nat} {n w9 index : Nat} {kf : Nat → AH → Option α} (hn : 1 ≤ n ∧ n < 17) (hcl : Cond.classLink own index (xRn n) ∈ lw_all) (hin : Cond.instantiable (xRn n) w9 ∈ lw_all) (hini : Cond.initialized (xRn n) ∈ lw_all) (hd : decode cc pc = .ok (.new index, 3)) (hpc : pc + 3 = pc') (kk : ∀ (r : Nat) (h1 : AH), XF p l e R s m args below meth c D nL h0 Q pc' lv (xR r :: st) h1 (kf r h1) C) : XF p l e R s m args below meth c D nL h0 Q pc lv st h (xb2 (xnew h n w9) kf) C := by
  subst hpc
  intro x hx hc ls H locs hl hi
  unfold xb2 xnew at hx
  by_cases q : hsz h + 1 ≤ hcap h ∧ hsl h + w9 ≤ hscap h
  · rw [if_pos q] at hx
    obtain ⟨hR, hsize, hS, hD⟩ := id hi
    have hts := K.2.2.2.2.1
    have hKn := K.2.2.2.2.2.1.1.1 n _ (xcl_at hn.2)
    have hRm := K.2.2.2.2.2.2.1
    obtain ⟨d1, d2, d3, d4, d5, d6, d7, d8⟩ := id hD
    refine W.newcK K.1 K.2.1 K.2.2.2.1 (hts _ hcl) (hts _ hin) (hts _ hini) rfl hd (by rw [hRm]; show _ ≤ hcap h0 - hsz h0; omega) (by rw [hRm]; show _ ≤ hscap h0 - hsl h0; omega) hKn.2.1 rfl fun H1 kC hkC e1 e2 e3 => ?_
    have hent := xent_c (D := D) (h := hnew h n 0 w9) (r := hsz h + 1) (c := n) (if_pos rfl) hn.1 hn.2
    have hb := u_born (xty n) hts (xcl_in n hn.2) hKn hkC e1 (xcl_ty n hn.2)
    refine W.cs (cells' := hsz (hnew h n 0 w9) - hsz h0) (slots' := hsl (hnew h n 0 w9) - hsl h0) (by show _ = hsz h + 1 - hsz h0; omega) (by show _ = hsl h + w9 - hsl h0; omega) ?_
    have := kk (hsz h + 1) (hnew h n 0 w9) x hx hc ls H1 locs hl ⟨xrep_new hR hsize e3 hent ⟨_, xcl_at hn.2, ?_⟩, by rw [e2, hsize]; rfl, ⟨Nat.le_trans hS.1 (by omega), fun q1 g1 g2 => (e3 q1 (Nat.lt_of_lt_of_le g1 hS.1)).trans (hS.2.1 q1 g1 g2), hS.2.2⟩, xdom_new hD q.1 q.2⟩
    · show W p l e R s m args below meth c H1 locs _ _ Q (F0 m (pc + 3) ls (.ref H.size :: st.map xv))
      rw [hsize]
      exact this
    · show t_OB (hsz h) _ _ _ _ _
      rw [← hsize]
      refine hb.to fun j hj => ?_
      show defaultValue (xty n j) = vp_V (xfs (hnew h n 0 w9) (H.size + 1) n) j
      unfold vp_V
      rw [List.getD_eq_getElem?_getD, xfs_at hj]
      show _ = xval (hnew h n 0 w9) (H.size + 1) j (xkt (xty n j))
      rw [hsize]
      have a3 : hiv (hnew h n 0 w9) (hsz h + 1) = fun _ => 0 := if_pos rfl
      have a4 : hjv (hnew h n 0 w9) (hsz h + 1) = fun _ => 0 := if_pos rfl
      have a5 : hrv (hnew h n 0 w9) (hsz h + 1) = fun _ => 0 := if_pos rfl
      unfold xval
      rw [a3, a4, a5]
      have ht9 : ∀ j, j < xN n → xty n j = .int ∨ xty n j = .boolean ∨ xty n j = .long ∨ (∃ C9, xty n j = .object C9) ∨ ∃ t9, xty n j = .array t9 := xty_cases n hn.2
      rcases ht9 j hj with e9 | e9 | e9 | ⟨C9, e9⟩ | ⟨t9, e9⟩ <;> rw [e9] <;> rfl
  · rw [if_neg q] at hx
    exact absurd hx (by simp)
theorem x_iarr (K : XO p R s m args meth c D nL h0 cc own fr lo) {pc' : Nat} {n : Int32} {kf : Nat → AH → Option α} (hq : Cond.arrayClass .int ∈ lw_all) (hd : decode cc pc = .ok (.newarray .int, 2)) (hpc : pc + 2 = pc') (kk : ∀ (r : Nat) (h1 : AH), XF p l e R s m args below meth c D nL h0 Q pc' lv (xR r :: st) h1 (kf r h1) C) : XF p l e R s m args below meth c D nL h0 Q pc lv (xI n :: st) h (xb2 (xnewa h 100 n) kf) C := by
  subst hpc
  intro x hx hc ls H locs hl hi
  unfold xb2 xnewa at hx
  by_cases q : 0 ≤ n.toInt ∧ n.toInt ≤ 60000 ∧ hsz h + 1 ≤ hcap h ∧ hsl h + n.toNatClampNeg ≤ hscap h
  · rw [if_pos q] at hx
    obtain ⟨hR, hsize, hS, hD⟩ := id hi
    have hts := K.2.2.2.2.1
    have hRm := K.2.2.2.2.2.2.1
    obtain ⟨d1, d2, d3, d4, d5, d6, d7, d8⟩ := id hD
    have hle : n.toNatClampNeg ≤ 60000 := by
      have := q.2.1
      rw [xi_nat]
      omega
    refine W.newa K.1 K.2.1 (atype := .int) (hts _ hq) rfl hd rfl (xi_nn q.1) (Nat.le_trans (Nat.mul_le_mul hle (show componentBytes (newarray.typeOf .int) ≤ 8 by decide)) (by decide)) (by rw [hRm]; show _ ≤ hcap h0 - hsz h0; omega) (by rw [hRm]; show _ ≤ hscap h0 - hsl h0; omega) fun cA kA comp f1 f2 f3 => ?_
    have hcA : cA = D.2.2 100 := Option.some.inj (f1.symm.trans (K.2.2.2.2.2.1.1.2 _ _ (xtys_at D (k := 100) (by decide) (by decide))).2)
    subst hcA
    generalize hH1 : H.push _ = H1
    have e2 : H1.size = H.size + 1 := by rw [← hH1, Array.size_push]
    have e1 : H1[H.size]? = some (arrV (D.2.2 100) n.toNatClampNeg (fun _ => defaultValue .int)) := by rw [← hH1, Array.getElem?_push_size, ← arrV_new]; rfl
    have e3 : ∀ q : Nat, q < H.size → H1[q]? = H[q]? := fun q hq => by rw [← hH1, Array.getElem?_push, if_neg (Nat.ne_of_lt hq)]
    have hent := xent_i (D := D) (h := hnew h 100 n.toNatClampNeg n.toNatClampNeg) (r := hsz h + 1) (if_pos rfl) (by decide)
    refine W.cs (cells' := hsz (hnew h 100 n.toNatClampNeg n.toNatClampNeg) - hsz h0) (slots' := hsl (hnew h 100 n.toNatClampNeg n.toNatClampNeg) - hsl h0) (by show _ = hsz h + 1 - hsz h0; omega) (by show _ = hsl h + n.toNatClampNeg - hsl h0; omega) ?_
    have := kk (hsz h + 1) (hnew h 100 n.toNatClampNeg n.toNatClampNeg) x hx hc ls H1 locs hl ⟨xrep_new hR hsize e3 hent ?_, by rw [e2, hsize]; rfl, ⟨Nat.le_trans hS.1 (by omega), fun q1 g1 g2 => (e3 q1 (Nat.lt_of_lt_of_le g1 hS.1)).trans (hS.2.1 q1 g1 g2), hS.2.2⟩, xdom_new hD q.2.2.1 q.2.2.2⟩
    · show W p l e R s m args below meth c H1 locs _ _ Q (F0 m (pc + 2) ls (.ref H.size :: st.map xv))
      rw [hsize]
      exact this
    · show H1[hsz h]? = some (vp_cell _ _)
      rw [← hsize, e1, vp_cell_i]
      have b1 : hln (hnew h 100 n.toNatClampNeg n.toNatClampNeg) (H.size + 1) = n.toNatClampNeg := by rw [hsize]; exact if_pos rfl
      have b2 : hiv (hnew h 100 n.toNatClampNeg n.toNatClampNeg) (H.size + 1) = fun _ => 0 := by rw [hsize]; exact if_pos rfl
      rw [b1, b2]
      rfl
  · rw [if_neg q] at hx
    exact absurd hx (by simp)
theorem x_zarr (K : XO p R s m args meth c D nL h0 cc own fr lo) {pc' : Nat} {n : Int32} {kf : Nat → AH → Option α} (hq : Cond.arrayClass .boolean ∈ lw_all) (hd : decode cc pc = .ok (.newarray .boolean, 2)) (hpc : pc + 2 = pc') (kk : ∀ (r : Nat) (h1 : AH), XF p l e R s m args below meth c D nL h0 Q pc' lv (xR r :: st) h1 (kf r h1) C) : XF p l e R s m args below meth c D nL h0 Q pc lv (xI n :: st) h (xb2 (xnewa h 101 n) kf) C := by
  subst hpc
  intro x hx hc ls H locs hl hi
  unfold xb2 xnewa at hx
  by_cases q : 0 ≤ n.toInt ∧ n.toInt ≤ 60000 ∧ hsz h + 1 ≤ hcap h ∧ hsl h + n.toNatClampNeg ≤ hscap h
  · rw [if_pos q] at hx
    obtain ⟨hR, hsize, hS, hD⟩ := id hi
    have hts := K.2.2.2.2.1
    have hRm := K.2.2.2.2.2.2.1
    obtain ⟨d1, d2, d3, d4, d5, d6, d7, d8⟩ := id hD
    have hle : n.toNatClampNeg ≤ 60000 := by
      have := q.2.1
      rw [xi_nat]
      omega
    refine W.newa K.1 K.2.1 (atype := .boolean) (hts _ hq) rfl hd rfl (xi_nn q.1) (Nat.le_trans (Nat.mul_le_mul hle (show componentBytes (newarray.typeOf .boolean) ≤ 8 by decide)) (by decide)) (by rw [hRm]; show _ ≤ hcap h0 - hsz h0; omega) (by rw [hRm]; show _ ≤ hscap h0 - hsl h0; omega) fun cA kA comp f1 f2 f3 => ?_
    have hcA : cA = D.2.2 101 := Option.some.inj (f1.symm.trans (K.2.2.2.2.2.1.1.2 _ _ (xtys_at D (k := 101) (by decide) (by decide))).2)
    subst hcA
    generalize hH1 : H.push _ = H1
    have e2 : H1.size = H.size + 1 := by rw [← hH1, Array.size_push]
    have e1 : H1[H.size]? = some (arrV (D.2.2 101) n.toNatClampNeg (fun _ => defaultValue .boolean)) := by rw [← hH1, Array.getElem?_push_size, ← arrV_new]; rfl
    have e3 : ∀ q : Nat, q < H.size → H1[q]? = H[q]? := fun q hq => by rw [← hH1, Array.getElem?_push, if_neg (Nat.ne_of_lt hq)]
    have hent := xent_i (D := D) (h := hnew h 101 n.toNatClampNeg n.toNatClampNeg) (r := hsz h + 1) (if_pos rfl) (by decide)
    refine W.cs (cells' := hsz (hnew h 101 n.toNatClampNeg n.toNatClampNeg) - hsz h0) (slots' := hsl (hnew h 101 n.toNatClampNeg n.toNatClampNeg) - hsl h0) (by show _ = hsz h + 1 - hsz h0; omega) (by show _ = hsl h + n.toNatClampNeg - hsl h0; omega) ?_
    have := kk (hsz h + 1) (hnew h 101 n.toNatClampNeg n.toNatClampNeg) x hx hc ls H1 locs hl ⟨xrep_new hR hsize e3 hent ?_, by rw [e2, hsize]; rfl, ⟨Nat.le_trans hS.1 (by omega), fun q1 g1 g2 => (e3 q1 (Nat.lt_of_lt_of_le g1 hS.1)).trans (hS.2.1 q1 g1 g2), hS.2.2⟩, xdom_new hD q.2.2.1 q.2.2.2⟩
    · show W p l e R s m args below meth c H1 locs _ _ Q (F0 m (pc + 2) ls (.ref H.size :: st.map xv))
      rw [hsize]
      exact this
    · show H1[hsz h]? = some (vp_cell _ _)
      rw [← hsize, e1, vp_cell_i]
      have b1 : hln (hnew h 101 n.toNatClampNeg n.toNatClampNeg) (H.size + 1) = n.toNatClampNeg := by rw [hsize]; exact if_pos rfl
      have b2 : hiv (hnew h 101 n.toNatClampNeg n.toNatClampNeg) (H.size + 1) = fun _ => 0 := by rw [hsize]; exact if_pos rfl
      rw [b1, b2]
      rfl
  · rw [if_neg q] at hx
    exact absurd hx (by simp)
theorem x_barr (K : XO p R s m args meth c D nL h0 cc own fr lo) {pc' : Nat} {n : Int32} {kf : Nat → AH → Option α} (hq : Cond.arrayClass .byte ∈ lw_all) (hd : decode cc pc = .ok (.newarray .byte, 2)) (hpc : pc + 2 = pc') (kk : ∀ (r : Nat) (h1 : AH), XF p l e R s m args below meth c D nL h0 Q pc' lv (xR r :: st) h1 (kf r h1) C) : XF p l e R s m args below meth c D nL h0 Q pc lv (xI n :: st) h (xb2 (xnewa h 102 n) kf) C := by
  subst hpc
  intro x hx hc ls H locs hl hi
  unfold xb2 xnewa at hx
  by_cases q : 0 ≤ n.toInt ∧ n.toInt ≤ 60000 ∧ hsz h + 1 ≤ hcap h ∧ hsl h + n.toNatClampNeg ≤ hscap h
  · rw [if_pos q] at hx
    obtain ⟨hR, hsize, hS, hD⟩ := id hi
    have hts := K.2.2.2.2.1
    have hRm := K.2.2.2.2.2.2.1
    obtain ⟨d1, d2, d3, d4, d5, d6, d7, d8⟩ := id hD
    have hle : n.toNatClampNeg ≤ 60000 := by
      have := q.2.1
      rw [xi_nat]
      omega
    refine W.newa K.1 K.2.1 (atype := .byte) (hts _ hq) rfl hd rfl (xi_nn q.1) (Nat.le_trans (Nat.mul_le_mul hle (show componentBytes (newarray.typeOf .byte) ≤ 8 by decide)) (by decide)) (by rw [hRm]; show _ ≤ hcap h0 - hsz h0; omega) (by rw [hRm]; show _ ≤ hscap h0 - hsl h0; omega) fun cA kA comp f1 f2 f3 => ?_
    have hcA : cA = D.2.2 102 := Option.some.inj (f1.symm.trans (K.2.2.2.2.2.1.1.2 _ _ (xtys_at D (k := 102) (by decide) (by decide))).2)
    subst hcA
    generalize hH1 : H.push _ = H1
    have e2 : H1.size = H.size + 1 := by rw [← hH1, Array.size_push]
    have e1 : H1[H.size]? = some (arrV (D.2.2 102) n.toNatClampNeg (fun _ => defaultValue .byte)) := by rw [← hH1, Array.getElem?_push_size, ← arrV_new]; rfl
    have e3 : ∀ q : Nat, q < H.size → H1[q]? = H[q]? := fun q hq => by rw [← hH1, Array.getElem?_push, if_neg (Nat.ne_of_lt hq)]
    have hent := xent_i (D := D) (h := hnew h 102 n.toNatClampNeg n.toNatClampNeg) (r := hsz h + 1) (if_pos rfl) (by decide)
    refine W.cs (cells' := hsz (hnew h 102 n.toNatClampNeg n.toNatClampNeg) - hsz h0) (slots' := hsl (hnew h 102 n.toNatClampNeg n.toNatClampNeg) - hsl h0) (by show _ = hsz h + 1 - hsz h0; omega) (by show _ = hsl h + n.toNatClampNeg - hsl h0; omega) ?_
    have := kk (hsz h + 1) (hnew h 102 n.toNatClampNeg n.toNatClampNeg) x hx hc ls H1 locs hl ⟨xrep_new hR hsize e3 hent ?_, by rw [e2, hsize]; rfl, ⟨Nat.le_trans hS.1 (by omega), fun q1 g1 g2 => (e3 q1 (Nat.lt_of_lt_of_le g1 hS.1)).trans (hS.2.1 q1 g1 g2), hS.2.2⟩, xdom_new hD q.2.2.1 q.2.2.2⟩
    · show W p l e R s m args below meth c H1 locs _ _ Q (F0 m (pc + 2) ls (.ref H.size :: st.map xv))
      rw [hsize]
      exact this
    · show H1[hsz h]? = some (vp_cell _ _)
      rw [← hsize, e1, vp_cell_i]
      have b1 : hln (hnew h 102 n.toNatClampNeg n.toNatClampNeg) (H.size + 1) = n.toNatClampNeg := by rw [hsize]; exact if_pos rfl
      have b2 : hiv (hnew h 102 n.toNatClampNeg n.toNatClampNeg) (H.size + 1) = fun _ => 0 := by rw [hsize]; exact if_pos rfl
      rw [b1, b2]
      rfl
  · rw [if_neg q] at hx
    exact absurd hx (by simp)
theorem x_jarr (K : XO p R s m args meth c D nL h0 cc own fr lo) {pc' : Nat} {n : Int32} {kf : Nat → AH → Option α} (hq : Cond.arrayClass .long ∈ lw_all) (hd : decode cc pc = .ok (.newarray .long, 2)) (hpc : pc + 2 = pc') (kk : ∀ (r : Nat) (h1 : AH), XF p l e R s m args below meth c D nL h0 Q pc' lv (xR r :: st) h1 (kf r h1) C) : XF p l e R s m args below meth c D nL h0 Q pc lv (xI n :: st) h (xb2 (xnewa h 103 n) kf) C := by
  subst hpc
  intro x hx hc ls H locs hl hi
  unfold xb2 xnewa at hx
  by_cases q : 0 ≤ n.toInt ∧ n.toInt ≤ 60000 ∧ hsz h + 1 ≤ hcap h ∧ hsl h + n.toNatClampNeg ≤ hscap h
  · rw [if_pos q] at hx
    obtain ⟨hR, hsize, hS, hD⟩ := id hi
    have hts := K.2.2.2.2.1
    have hRm := K.2.2.2.2.2.2.1
    obtain ⟨d1, d2, d3, d4, d5, d6, d7, d8⟩ := id hD
    have hle : n.toNatClampNeg ≤ 60000 := by
      have := q.2.1
      rw [xi_nat]
      omega
    refine W.newa K.1 K.2.1 (atype := .long) (hts _ hq) rfl hd rfl (xi_nn q.1) (Nat.le_trans (Nat.mul_le_mul hle (show componentBytes (newarray.typeOf .long) ≤ 8 by decide)) (by decide)) (by rw [hRm]; show _ ≤ hcap h0 - hsz h0; omega) (by rw [hRm]; show _ ≤ hscap h0 - hsl h0; omega) fun cA kA comp f1 f2 f3 => ?_
    have hcA : cA = D.2.2 103 := Option.some.inj (f1.symm.trans (K.2.2.2.2.2.1.1.2 _ _ (xtys_at D (k := 103) (by decide) (by decide))).2)
    subst hcA
    generalize hH1 : H.push _ = H1
    have e2 : H1.size = H.size + 1 := by rw [← hH1, Array.size_push]
    have e1 : H1[H.size]? = some (arrV (D.2.2 103) n.toNatClampNeg (fun _ => defaultValue .long)) := by rw [← hH1, Array.getElem?_push_size, ← arrV_new]; rfl
    have e3 : ∀ q : Nat, q < H.size → H1[q]? = H[q]? := fun q hq => by rw [← hH1, Array.getElem?_push, if_neg (Nat.ne_of_lt hq)]
    have hent := xent_j (D := D) (h := hnew h 103 n.toNatClampNeg n.toNatClampNeg) (r := hsz h + 1) (if_pos rfl)
    refine W.cs (cells' := hsz (hnew h 103 n.toNatClampNeg n.toNatClampNeg) - hsz h0) (slots' := hsl (hnew h 103 n.toNatClampNeg n.toNatClampNeg) - hsl h0) (by show _ = hsz h + 1 - hsz h0; omega) (by show _ = hsl h + n.toNatClampNeg - hsl h0; omega) ?_
    have := kk (hsz h + 1) (hnew h 103 n.toNatClampNeg n.toNatClampNeg) x hx hc ls H1 locs hl ⟨xrep_new hR hsize e3 hent ?_, by rw [e2, hsize]; rfl, ⟨Nat.le_trans hS.1 (by omega), fun q1 g1 g2 => (e3 q1 (Nat.lt_of_lt_of_le g1 hS.1)).trans (hS.2.1 q1 g1 g2), hS.2.2⟩, xdom_new hD q.2.2.1 q.2.2.2⟩
    · show W p l e R s m args below meth c H1 locs _ _ Q (F0 m (pc + 2) ls (.ref H.size :: st.map xv))
      rw [hsize]
      exact this
    · show H1[hsz h]? = some (vp_cell _ _)
      rw [← hsize, e1, vp_cell_l]
      have b1 : hln (hnew h 103 n.toNatClampNeg n.toNatClampNeg) (H.size + 1) = n.toNatClampNeg := by rw [hsize]; exact if_pos rfl
      have b2 : hjv (hnew h 103 n.toNatClampNeg n.toNatClampNeg) (H.size + 1) = fun _ => 0 := by rw [hsize]; exact if_pos rfl
      rw [b1, b2]
      rfl
  · rw [if_neg q] at hx
    exact absurd hx (by simp)
theorem x_rarr (K : XO p R s m args meth c D nL h0 cc own fr lo) {pc' : Nat} {n : Int32} {t index : Nat} {C9 : String} {kf : Nat → AH → Option α} (ht : 104 ≤ t ∧ t ≤ 108) (htC : xat_ t = .object C9) (hcl : Cond.classLink own index C9 ∈ lw_all) (hq : Cond.arrayOver (.object C9) ∈ lw_tbl) (hd : decode cc pc = .ok (.anewarray index, 3)) (hpc : pc + 3 = pc') (kk : ∀ (r : Nat) (h1 : AH), XF p l e R s m args below meth c D nL h0 Q pc' lv (xR r :: st) h1 (kf r h1) C) : XF p l e R s m args below meth c D nL h0 Q pc lv (xI n :: st) h (xb2 (xnewa h t n) kf) C := by
  subst hpc
  intro x hx hc ls H locs hl hi
  unfold xb2 xnewa at hx
  by_cases q : 0 ≤ n.toInt ∧ n.toInt ≤ 60000 ∧ hsz h + 1 ≤ hcap h ∧ hsl h + n.toNatClampNeg ≤ hscap h
  · rw [if_pos q] at hx
    obtain ⟨hR, hsize, hS, hD⟩ := id hi
    have hts := K.2.2.2.2.1
    have hRm := K.2.2.2.2.2.2.1
    obtain ⟨d1, d2, d3, d4, d5, d6, d7, d8⟩ := id hD
    have hle : n.toNatClampNeg ≤ 60000 := by
      have := q.2.1
      rw [xi_nat]
      omega
    refine W.anew K.1 K.2.1 K.2.2.2.1 (hts _ hcl) (K.2.2.2.2.2.1.2 _ hq rfl) rfl hd rfl (xi_nn q.1) (Nat.le_trans (Nat.mul_le_mul hle (Nat.le_refl 4)) (by decide)) (by rw [hRm]; show _ ≤ hcap h0 - hsz h0; omega) (by rw [hRm]; show _ ≤ hscap h0 - hsl h0; omega) fun cA kA comp f1 f2 f3 f4 => ?_
    have htt := (K.2.2.2.2.2.1.1.2 _ _ (xtys_at D (Nat.le_trans (by decide) ht.1) ht.2)).2
    rw [htC] at htt
    obtain ⟨kA2, comp2, g1, g2, g3, g4⟩ := htt
    have hcA : cA = D.2.2 t := Option.some.inj (f1.symm.trans g4)
    subst hcA
    generalize hH1 : H.push _ = H1
    have e2 : H1.size = H.size + 1 := by rw [← hH1, Array.size_push]
    have e1 : H1[H.size]? = some (arrV (D.2.2 t) n.toNatClampNeg (fun _ => .null)) := by rw [← hH1, Array.getElem?_push_size, ← arrV_new]
    have e3 : ∀ q : Nat, q < H.size → H1[q]? = H[q]? := fun q hq => by rw [← hH1, Array.getElem?_push, if_neg (Nat.ne_of_lt hq)]
    have hent := xent_q (D := D) (h := hnew h t n.toNatClampNeg n.toNatClampNeg) (r := hsz h + 1) (t := t) (if_pos rfl) ht.1 ht.2
    refine W.cs (cells' := hsz (hnew h t n.toNatClampNeg n.toNatClampNeg) - hsz h0) (slots' := hsl (hnew h t n.toNatClampNeg n.toNatClampNeg) - hsl h0) (by show _ = hsz h + 1 - hsz h0; omega) (by show _ = hsl h + n.toNatClampNeg - hsl h0; omega) ?_
    have := kk (hsz h + 1) (hnew h t n.toNatClampNeg n.toNatClampNeg) x hx hc ls H1 locs hl ⟨xrep_new hR hsize e3 hent ?_, by rw [e2, hsize]; rfl, ⟨Nat.le_trans hS.1 (by omega), fun q1 g1 g2 => (e3 q1 (Nat.lt_of_lt_of_le g1 hS.1)).trans (hS.2.1 q1 g1 g2), hS.2.2⟩, xdom_new hD q.2.2.1 q.2.2.2⟩
    · show W p l e R s m args below meth c H1 locs _ _ Q (F0 m (pc + 3) ls (.ref H.size :: st.map xv))
      rw [hsize]
      exact this
    · show H1[hsz h]? = some (vp_cell _ _)
      rw [← hsize, e1, vp_cell_q]
      have b1 : hln (hnew h t n.toNatClampNeg n.toNatClampNeg) (H.size + 1) = n.toNatClampNeg := by rw [hsize]; exact if_pos rfl
      have b2 : hrv (hnew h t n.toNatClampNeg n.toNatClampNeg) (H.size + 1) = fun _ => 0 := by rw [hsize]; exact if_pos rfl
      rw [b1, b2]
      rfl
  · rw [if_neg q] at hx
    exact absurd hx (by simp)
end XArr
