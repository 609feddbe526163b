/-! XK 9: switches' defaults; throws under a loop; Math.min of longs -/
set_option maxRecDepth 100000
theorem lsw_n {a : Int32} {dflt : Int} : Op.lookupswitch.offset [] dflt a.toInt = dflt := rfl
theorem lsw_c {a v : Int32} {dflt x o : Int} {r : List (Int × Int)} (h : Op.lookupswitch.offset r dflt a.toInt = dflt) (q : a ≠ v) (hv : v.toInt = x) : Op.lookupswitch.offset ((x, o) :: r) dflt a.toInt = dflt := by
  rw [Op.lookupswitch.offset_cons, if_neg, h]
  intro e
  exact q (xi_inj (by first | exact e.trans hv.symm | exact e.symm.trans hv.symm | exact (hv.trans e).symm | exact (hv.trans e.symm).symm))
theorem x_ex2 {X α : Type} {k : X → Option α} {CE : X → Prop} {C : α → Prop} (h : ∀ r x, k r = some x → C x → CE r) : ∀ (z : X ⊕ α) (x : α), Sum.elim k some z = some x → C x → Sum.elim CE C z := by
  intro z x hx hc
  rcases z with r | y
  · exact h r x hx hc
  · cases hx
    exact hc
section XXG
variable {p : Program} {l : Launch} {e : Env} {R : Room} {s : State} {m : MethodId} {args : Array Value} {below : List Frame} {meth : Method} {c : Code} {D : XD} {nL : Nat} {h0 : AH} {Q : State → Prop} {pc : Nat} {lv : XS} {st : List XV} {r : Nat} {h : AH}
theorem xx_g {β γ : Type} {y : β} {C9 : γ → Prop} (g : β → γ) (k : XX p l e R s m args below meth c D nL h0 Q pc lv st r h (some y) (fun z => C9 (g z))) : XX p l e R s m args below meth c D nL h0 Q pc lv st r h (some (g y)) C9 := fun x hx hc => by
  cases hx
  exact k y rfl hc
theorem xx_C {β : Type} {r9 : Option β} {C8 C9 : β → Prop} (hC : ∀ z, C9 z → C8 z) (k : XX p l e R s m args below meth c D nL h0 Q pc lv st r h r9 C8) : XX p l e R s m args below meth c D nL h0 Q pc lv st r h r9 C9 := fun x hx hc => k x hx (hC x hc)
end XXG
section XML
variable {p : Program} {l : Launch} {e : Env} {R : Room} {s : State} {m : MethodId} {args : Array Value} {below : List Frame} {meth : Method} {c : Code} {D : XD} {nL : Nat} {h0 : AH} {Q : State → Prop} {pc : Nat} {lv : XS} {st : List XV} {h : AH} {α : Type} {res : Option α} {C : α → Prop} {cc : ByteArray} {own : String} {fr lo : Nat}
theorem x_mminL (K : XO p R s m args meth c D nL h0 cc own fr lo) {pc' : Nat} {a b : Int64} {index : Nat} (hlink : Cond.methodLink own index Lib.MathLoose.min_long.x ∈ lw_all) (hstat : Cond.static Lib.MathLoose.min_long.x ∈ lw_all) (hini : Cond.initialized "java/lang/Math" ∈ lw_all) (hcode : Cond.code Lib.MathLoose.min_long.x Lib.MathLoose.min_long.code 4 (some .long) ∈ lw_all) (hfr : 1 ≤ fr) (hlo : (st.map xc).sum + 15 ≤ lo) (hd : decode cc pc = .ok (.invokestatic index, 3)) (hpc : pc + 3 = pc') (k : XF p l e R s m args below meth c D nL h0 Q pc' lv (xJ (if b < a then b else a) :: st) h res C) : XF p l e R s m args below meth c D nL h0 Q pc lv (xJ b :: xJ a :: st) h res C := by
  subst hpc
  intro x hx hc ls H locs hl hi
  have hts := K.2.2.2.2.1
  have hRm := K.2.2.2.2.2.2.1
  obtain ⟨d1, d2, d3, d4, d5, d6, d7, d8⟩ := hi.2.2.2
  exact va_mmin_long K.1 K.2.1 (K.2.2.1.trans hl.1.symm) K.2.2.2.1 (hts _ hlink) (hts _ hstat) (hts _ hini) (hts _ hcode) (by rw [hRm]; exact hfr) (by rw [hRm, xv_sum]; exact hlo) (by rw [hRm]; show _ ≤ hcap h0 - hsz h0; omega) (by rw [hRm]; show _ ≤ hscap h0 - hsl h0; omega) hd (k x hx hc ls H locs hl hi)
end XML
