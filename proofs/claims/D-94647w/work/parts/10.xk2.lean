/-! XK 2: the classes by number, the memory's picture in the machine's heap, the judgement -/
set_option maxRecDepth 100000
def xRn (c : Nat) : String := match c with
  | 1 => RX1 | 2 => RX2 | 3 => RX3 | 4 => RX4 | 5 => RX6 | 6 => RX7 | 7 => RX10 | 8 => RX11 | 9 => RX13 | 10 => RX14 | 11 => RX15 | 12 => RX16 | 13 => RX17 | 14 => RX8 | _ => RJ7
def xT (c : Nat) : u_T := match c with
  | 1 => TX1 | 2 => TX2 | 3 => TX3 | 4 => TX4 | 5 => TX6 | 6 => TX7 | 7 => TX10 | 8 => TX11 | 9 => TX13 | 10 => TX14 | 11 => TX15 | 12 => TX16 | 13 => TX17 | 14 => TX8 | _ => TJ7
def xN (c : Nat) : Nat := match c with
  | 1 => 29 | 2 => 8 | 3 => 31 | 4 => 9 | 5 => 11 | 6 => 12 | 7 => 4 | 8 => 3 | 9 => 1 | 10 => 2 | 11 => 3 | 12 => 2 | 13 => 2 | 14 => 47 | _ => 0
def xty (c : Nat) : Nat → FieldType := match c with
  | 1 => tyX1 | 2 => tyX2 | 3 => tyX3 | 4 => tyX4 | 5 => tyX6 | 6 => tyX7 | 7 => tyX10 | 8 => tyX11 | 9 => tyX13 | 10 => tyX14 | 11 => tyX15 | 12 => tyX16 | 13 => tyX17 | 14 => tyX8 | _ => tyJ7
def xcl : List vw_C := (List.range 17).map fun c => (xRn c, xT c, xN c)
theorem xcl_at {c : Nat} (h : c < 17) : xcl[c]? = some (xRn c, xT c, xN c) := by
  unfold xcl
  rw [List.getElem?_map, List.getElem?_range h]
  rfl
theorem xcl_at' {c : Nat} {q : vw_C} (h : xcl[c]? = some q) : c < 17 ∧ q = (xRn c, xT c, xN c) := by
  have h1 : c < 17 := by
    have := (List.getElem?_eq_some_iff.mp h).1
    simpa [xcl] using this
  exact ⟨h1, (Option.some.inj ((xcl_at h1).symm.trans h)).symm⟩
theorem xin0 : ∀ w ∈ u_ws RJ7 TJ7 0, w ∈ lw_all := fun w h => absurd h List.not_mem_nil
theorem xcl_in : ∀ c, c < 17 → ∀ w ∈ u_ws (xRn c) (xT c) (xN c), w ∈ lw_all
  | 0, _ => xin0 | 1, _ => in_X1 | 2, _ => in_X2 | 3, _ => in_X3 | 4, _ => in_X4 | 5, _ => in_X6 | 6, _ => in_X7 | 7, _ => in_X10 | 8, _ => in_X11 | 9, _ => in_X13 | 10, _ => in_X14 | 11, _ => in_X15 | 12, _ => in_X16 | 13, _ => in_X17 | 14, _ => in_X8 | 15, _ => xin0 | 16, _ => xin0
  | n + 17, h => absurd h (by omega)
theorem xcl_ty : ∀ c, c < 17 → ∀ k, k < xN c → parseFieldDescriptor (xT c k).2.2.1 = some (xty c k)
  | 0, _ => (fun k h => absurd h (Nat.not_lt_zero k)) | 1, _ => tyX1_ok | 2, _ => tyX2_ok | 3, _ => tyX3_ok | 4, _ => tyX4_ok | 5, _ => tyX6_ok | 6, _ => tyX7_ok | 7, _ => tyX10_ok | 8, _ => tyX11_ok | 9, _ => tyX13_ok | 10, _ => tyX14_ok | 11, _ => tyX15_ok | 12, _ => tyX16_ok | 13, _ => tyX17_ok | 14, _ => tyX8_ok | 15, _ => fun k h => absurd h (Nat.not_lt_zero k) | 16, _ => fun k h => absurd h (Nat.not_lt_zero k)
  | n + 17, h => absurd h (by omega)
theorem xor_l {N : Nat} {T : u_T} (h : ∀ a, a < N → ∀ b, b < N → a ≠ b → (T a).2.1 ≠ (T b).2.1) : ∀ a, a < N → ∀ b, b < N → a ≠ b → (T a).2.1 ≠ (T b).2.1 ∨ (T a).1 ≠ (T b).1 := fun a ha b hb n => Or.inl (h a ha b hb n)
theorem xnm6 : ∀ a, a < 11 → ∀ b, b < 11 → a ≠ b → (TX6 a).2.1 ≠ (TX6 b).2.1 ∨ (TX6 a).1 ≠ (TX6 b).1 := by decide +kernel
theorem xnm7 : ∀ a, a < 12 → ∀ b, b < 12 → a ≠ b → (TX7 a).2.1 ≠ (TX7 b).2.1 ∨ (TX7 a).1 ≠ (TX7 b).1 := by decide +kernel
theorem xcl_nm : ∀ c, c < 17 → ∀ a, a < xN c → ∀ b, b < xN c → a ≠ b → (xT c a).2.1 ≠ (xT c b).2.1 ∨ (xT c a).1 ≠ (xT c b).1
  | 0, _ => fun a h => absurd h (Nat.not_lt_zero a) | 1, _ => xor_l nmX1 | 2, _ => xor_l nmX2 | 3, _ => xor_l nmX3 | 4, _ => xor_l nmX4 | 5, _ => xnm6 | 6, _ => xnm7 | 7, _ => xor_l nmX10 | 8, _ => xor_l nmX11 | 9, _ => xor_l nmX13 | 10, _ => xor_l nmX14 | 11, _ => xor_l nmX15 | 12, _ => xor_l nmX16 | 13, _ => xor_l nmX17 | 14, _ => xor_l nmX8 | 15, _ => fun a h => absurd h (Nat.not_lt_zero a) | 16, _ => fun a h => absurd h (Nat.not_lt_zero a)
  | n + 17, h => absurd h (by omega)
/-- of a type: 0 an int, 1 a long, 2 a reference -/
def xkt (t : FieldType) : Nat := match t with
  | .long => 1
  | .object _ => 2
  | .array _ => 2
  | _ => 0
def xval (h : AH) (r k t : Nat) : Value := match t with
  | 0 => .int (hiv h r k)
  | 1 => .long (hjv h r k)
  | _ => va_rf (xo (hrv h r k))
abbrev XD : Type := (Nat → ClassId) × (Nat → Nat → Nat) × (Nat → ClassId)
def xfs (h : AH) (r c : Nat) : List Value := (List.range (xN c)).map fun k => xval h r k (xkt (xty c k))
/-- what a cell of the memory is in the machine -/
def xentk (D : XD) (h : AH) (r k : Nat) : Option va_E :=
  if k = 0 then none else if k ≤ 16 then some (.inr (k, xfs h r k))
  else if k = 100 ∨ k = 101 ∨ k = 102 then some (.inl (D.2.2 k, hln h r, .inl (hiv h r)))
  else if k = 103 then some (.inl (D.2.2 k, hln h r, .inr (.inl (hjv h r))))
  else if 104 ≤ k ∧ k ≤ 108 then some (.inl (D.2.2 k, hln h r, .inr (.inr (.inr (.inr fun j => xo (hrv h r j))))))
  else none
def xent (D : XD) (h : AH) (r : Nat) : Option va_E := xentk D h r (hkd h r)
def XRep (D : XD) (h : AH) (H : Heap) : Prop := (∀ (a : Nat) (e : va_E), xent D h (a + 1) = some e → va_at (D.1, D.2.1) xcl (a, e) H) ∧ hkd h 0 = 0
/-- element types of the kinds of arrays -/
def xat_ (k : Nat) : FieldType := match k with
  | 100 => .int | 101 => .boolean | 102 => .byte | 103 => .long | 104 => .object "java/lang/String" | 105 => .object "FaceCoins$Who" | 106 => .object "FaceCoins$Mint" | 107 => .object "FaceCoins$State" | _ => .object "FaceCoins$Cond"
def xtys (D : XD) : List (ClassId × FieldType) := (List.range 9).map fun i => (D.2.2 (100 + i), xat_ (100 + i))
theorem xtys_at (D : XD) {k : Nat} (h : 100 ≤ k) (h2 : k ≤ 108) : (xtys D)[k - 100]? = some (D.2.2 k, xat_ k) := by
  unfold xtys
  rw [List.getElem?_map, List.getElem?_range (by omega)]
  simp only [Option.map_some]
  rw [show 100 + (k - 100) = k by omega]
/-- words of the tables that don't ride in the lists: nest mates, casts, abstract methods, arrays of objects -/
def xnw (w : Cond) : Bool := match w with
  | .fieldLinkNest _ _ _ _ _ _ => true
  | .methodLinkNest _ _ _ _ => true
  | .declares _ => true
  | .castable _ _ => true
  | .privateMethod _ => true
  | .arrayOver (.object _) => true
  | _ => false
def XKK (D : XD) (U : State) : Prop := va_K (D.1, D.2.1) xcl (xtys D) U ∧ ∀ w ∈ lw_tbl, xnw w = true → va_Nw w U
theorem xnw_priv {x : MethodName} {s U : State} (hW : s.WarmedH U.vm) (hZ : va_Nw (.privateMethod x) s) : va_Nw (.privateMethod x) U := va_tabs rfl (rfl : (s.setVm U.vm).vm = U.vm) (by
  rw [Cond.privateMethod_setVm hW.alike]
  exact hZ)
theorem XKK.warm {D : XD} {s U : State} (h : XKK D s) (hW : s.WarmedH U.vm) : XKK D U := by
  refine ⟨va_K.moved hW.alike h.1, fun w hw hn => ?_⟩
  have h1 := h.2 w hw hn
  unfold xnw at hn
  split at hn
  · exact va_Nw.warmF hW h1
  · exact va_Nw.warmM hW h1
  · exact va_Nw.warmD hW h1
  · exact va_Nw.warmC hW h1
  · exact xnw_priv hW h1
  · exact va_AO.moved hW.alike h1
  · exact absurd hn (by decide)
theorem XKK.nw {D : XD} {s : State} (h : XKK D s) {w : Cond} {args : Array Value} (hw : w ∈ lw_tbl) (hn : xnw w = true) (ho : w.onTables = true) : w.before args s = true := va_Nw.use ho (h.2 w hw hn)
/-- a kind that may be written -/
def xw (k : Nat) : Prop := k ≠ 0
def XAr (h : AH) (q : Nat) : Prop := hkd h (q + 1) ≠ 0 ∨ hsz h ≤ q
def XDom (h0 h : AH) : Prop := (∀ q : Nat, hkd h (q + 1) ≠ 0 → XAr h0 q) ∧ hsz h0 ≤ hsz h ∧ hsl h0 ≤ hsl h ∧ hsz h ≤ hcap h ∧ hsl h ≤ hscap h ∧ hcap h = hcap h0 ∧ hscap h = hscap h0 ∧ hcs h = hcs h0
def XI (D : XD) (h0 h : AH) (H0 H : Heap) (locs : List Loc) : Prop := XRep D h H ∧ H.size = hsz h ∧ va_S (XAr h0) H0 H locs ∧ XDom h0 h
/-! the environment: three statics that hold references, one that says how Strings are kept; the String constants, by number -/
def xsN : Nat := 19
def xslen : List Nat := [3, 4, 5, 5, 4, 4, 5, 4, 4, 2, 3, 3, 5, 5, 4, 5, 6, 6, 6]
def xsbyt : List (List Int32) := [[119, 104, 111], [109, 105, 110, 116], [116, 97, 107, 101, 115], [108, 117, 99, 107, 121], [100, 101, 97, 100], [116, 104, 105, 110], [102, 97, 99, 101, 115], [98, 101, 103, 115], [111, 119, 101, 115], [111, 114], [97, 110, 100], [110, 111, 116], [98, 101, 97, 114, 115], [115, 104, 111, 119, 115], [104, 101, 108, 100], [102, 97, 108, 115, 101], [103, 114, 97, 105, 110, 115], [108, 97, 121, 101, 114, 115], [115, 116, 114, 117, 99, 107]]
def xsrefs : List (String × Nat × String × Nat) := [("FaceCoins", 22, "who", 0), ("FaceCoins", 24, "mint", 1), ("FaceCoins", 26, "takes", 2), ("FaceCoins", 28, "lucky", 3), ("FaceCoins", 30, "dead", 4), ("FaceCoins", 32, "thin", 5), ("FaceCoins", 34, "faces", 6), ("FaceCoins", 40, "begs", 7), ("FaceCoins", 42, "owes", 8), ("FaceCoins", 44, "or", 9), ("FaceCoins", 46, "and", 10), ("FaceCoins", 48, "not", 11), ("FaceCoins", 50, "bears", 12), ("FaceCoins", 52, "shows", 13), ("FaceCoins", 54, "held", 14), ("FaceCoins", 56, "false", 15), ("FaceCoins", 58, "grains", 16), ("FaceCoins", 60, "layers", 17), ("FaceCoins", 62, "struck", 18), ("FaceCoins$LawReader", 97, "begs", 7), ("FaceCoins$LawReader", 105, "owes", 8), ("FaceCoins$SentenceReader", 17, "bears", 12), ("FaceCoins$SentenceReader", 19, "shows", 13), ("FaceCoins$SentenceReader", 21, "held", 14), ("FaceCoins$SentenceReader", 23, "false", 15), ("FaceCoins$SentenceReader", 29, "grains", 16), ("FaceCoins$SentenceReader", 31, "layers", 17), ("FaceCoins$SentenceReader", 33, "struck", 18), ("FaceCoins$SentenceReader", 82, "not", 11), ("FaceCoins$SentenceReader", 77, "and", 10), ("FaceCoins$SentenceReader", 60, "or", 9)]
def xsg (k : Nat) : String × String × String := match k with
  | 0 => (Bundle.tN, "UNASSIGNED_STACK", Bundle.steD)
  | 1 => (Bundle.tN, "SUPPRESSED_SENTINEL", Bundle.listD)
  | _ => ("jdk/internal/util/Preconditions", "SIOOBE_FORMATTER", "Ljava/util/function/BiFunction;")
def XEnv (h : AH) (A : Nat → Prop) (U : State) (H : Heap) : Prop :=
  (∀ k, k < 3 → va_Z (xsg k).1 (xsg k).2.1 (xsg k).2.2 (va_rf (xo (hcs h k))) A U H) ∧ va_Z "java/lang/String" "COMPACT_STRINGS" "Z" (.int 1) A U H ∧
  (∀ k, k < 2 → vx_L (xsg k).1 (xsg k).2.1 (xsg k).2.2 A U H) ∧ vk_S xsN xslen xsbyt (fun i => hcs h (10 + i) - 1) (fun i => hcs h (50 + i) - 1) A U H ∧
  (∀ i, i < xsN → hcs h (10 + i) ≠ 0 ∧ hcs h (50 + i) ≠ 0) ∧ ∀ q ∈ xsrefs, vk_R q.1 q.2.1 q.2.2.1 (hcs h (10 + q.2.2.2) - 1) U
theorem XEnv.go {h h1 : AH} {A B : Nat → Prop} {s U : State} {H H1 : Heap} (e : XEnv h A s H) (hc : hcs h1 = hcs h) (hW : s.WarmedH U.vm) (hq : ∀ a : Nat, a < H.size → ¬ A a → H1[a]? = H[a]?) (hAB : ∀ q, B q → A q) : XEnv h1 B U H1 := by
  obtain ⟨e1, e2, e3, e4, e5, e6⟩ := e
  unfold XEnv
  rw [hc]
  exact ⟨fun k hk => ((e1 k hk).kept hq |> va_Z.moved hW.alike).narrow hAB, (va_Z.moved hW.alike (e2.kept hq)).narrow hAB, fun k hk => (vx_L.moved hW.alike ((e3 k hk).kept hq)).narrow hAB, (vk_S.moved hW.alike (e4.kept hq)).narrow hAB, e5, fun q h => (e6 q h).warm hW⟩
theorem XEnv.same {h : AH} {A : Nat → Prop} {s U : State} {H : Heap} (e : XEnv h A s H) (hv : U.vm = s.vm) : XEnv h A U H := by
  obtain ⟨e1, e2, e3, e4, e5, e6⟩ := e
  have hal : s.vm.Alike U.vm := by rw [hv]; exact Vm.Alike.refl _
  exact ⟨fun k hk => va_Z.moved hal (e1 k hk), va_Z.moved hal e2, fun k hk => vx_L.moved hal (e3 k hk), vk_S.moved hal e4, e5, fun q h => (e6 q h).same hv⟩
/-- which constant r is -/
def xsx (h : AH) (k0 r : Nat) : Option Nat := (List.range xsN).find? fun i => hcs h (k0 + i) == r
theorem xsx_ok {h : AH} {k0 r i : Nat} (e : xsx h k0 r = some i) : i < xsN ∧ hcs h (k0 + i) = r := ⟨List.mem_range.mp (List.mem_of_find?_eq_some e), by simpa using List.find?_some e⟩
section XJ
variable {p : Program} {l : Launch} {e : Env} {R : Room} {s : State} {m : MethodId} {args : Array Value} {below : List Frame} {meth : Method} {c : Code}
/-- from here the machine comes to Q -/
def XG (p : Program) (l : Launch) (e : Env) (R : Room) (s : State) (m : MethodId) (args : Array Value) (below : List Frame) (meth : Method) (c : Code) (D : XD) (nL : Nat) (h0 : AH) (Q : State → Prop) (pc : Nat) (lv : XS) (st : List XV) (h : AH) : Prop :=
  ∀ (ls : Array Slot) (H : Heap) (locs : List Loc), lv_has ls nL (xlv lv) → XI D h0 h s.heap H locs → W p l e R s m args below meth c H locs (hsz h - hsz h0) (hsl h - hsl h0) Q (F0 m pc ls (st.map xv))
/-- from here, whatever 'res' answers: if that leads on to Q, the machine comes to Q -/
def XF (p : Program) (l : Launch) (e : Env) (R : Room) (s : State) (m : MethodId) (args : Array Value) (below : List Frame) (meth : Method) (c : Code) (D : XD) (nL : Nat) (h0 : AH) (Q : State → Prop) (pc : Nat) (lv : XS) (st : List XV) (h : AH) {α : Type} (res : Option α) (C : α → Prop) : Prop :=
  ∀ x : α, res = some x → C x → XG p l e R s m args below meth c D nL h0 Q pc lv st h
/-- what a method's body stands on -/
def XO (p : Program) (R : Room) (s : State) (m : MethodId) (args : Array Value) (meth : Method) (c : Code) (D : XD) (nL : Nat) (h0 : AH) (cc : ByteArray) (own : String) (fr lo : Nat) : Prop :=
  p.tables.exec = Jvm.exec ∧ c.code = cc ∧ c.maxLocals = nL ∧ s.vm.findClass own = some m.cls ∧ (∀ w ∈ lw_all, w.before args s = true) ∧ XKK D s ∧ R = { frames := fr, cells := hcap h0 - hsz h0, slots := hscap h0 - hsl h0, locals := lo } ∧ meth.locks = false ∧ XEnv h0 (XAr h0) s s.heap
end XJ
