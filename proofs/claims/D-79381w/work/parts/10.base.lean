/-! ===== the claim's own layer: an abstract memory, a judgement over it, contracts over it ===== -/
set_option maxRecDepth 100000
abbrev w_T10 : u_T := fun _ => ("", "", "", false)
/-! all classes whose objects the walk meets -/
abbrev w_CL : List vw_C := [(RX1, TX1, 8), (RX2, TX2, 8), (RX3, TX3, 20), (RX4, TX4, 4), (RX5, TX5, 7), (RX6, TX6, 7), (RX7, TX7, 6), (RX8, TX8, 8), (RX9, TX9, 7), (RX10, w_T10, 0), (RX11, TX11, 2),
  (RJ2, TJ2, 3), (RJ23, TJ23, 4), (RJ27, TJ27, 1), (RJ29, TJ29, 9), (RJ30, TJ30, 6), (RJ31, TJ31, 1), (RJ33, TJ33, 4),
  (RJ6, w_T10, 0), (RJ16, w_T10, 0), (RJ17, w_T10, 0), (RJ19, w_T10, 0), (RJ21, w_T10, 0), (RJ34, w_T10, 0)]
abbrev w_E : Type := (FieldType × vp_A) ⊕ (Nat × List Value)
/-- an abstract memory: what stands at the addresses that are known, and how many there are -/
def w_M : Type := { x : (Nat → Option w_E) × Nat // ∀ a, x.2 ≤ a → x.1 a = none }
def w_M.get (M : w_M) (a : Nat) : Option w_E := M.1.1 a
def w_M.sz (M : w_M) : Nat := M.1.2
def w_M.set (M : w_M) (a : Nat) (e : w_E) : w_M := ⟨(fun b => if b = a ∧ a < M.1.2 then some e else M.1.1 b, M.1.2), fun b h => by
  show (if b = a ∧ a < M.1.2 then some e else M.1.1 b) = none
  have h : M.1.2 ≤ b := h
  rw [if_neg (by omega)]
  exact M.2 b h⟩
def w_M.push (M : w_M) (e : w_E) : w_M := ⟨(fun b => if b = M.1.2 then some e else M.1.1 b, M.1.2 + 1), fun b h => by
  show (if b = M.1.2 then some e else M.1.1 b) = none
  have h : M.1.2 + 1 ≤ b := h
  rw [if_neg (by omega)]
  exact M.2 b (by omega)⟩
/-- a cell that nobody looks at -/
def w_M.more (M : w_M) (n : Nat) : w_M := ⟨(M.1.1, M.1.2 + n), fun b h => M.2 b (by have h : M.1.2 + n ≤ b := h; omega)⟩
theorem w_lt {M : w_M} {a : Nat} {e : w_E} (h : M.get a = some e) : a < M.sz := by
  rcases Nat.lt_or_ge a M.sz with q | q
  · exact q
  · have := M.2 a q
    have h : M.1.1 a = some e := h
    rw [this] at h
    cases h
theorem w_ge {M : w_M} {a : Nat} (h : M.sz ≤ a) : M.get a = none := M.2 a h
theorem w_set_sz (M : w_M) (a : Nat) (e : w_E) : (M.set a e).sz = M.sz := rfl
theorem w_push_sz (M : w_M) (e : w_E) : (M.push e).sz = M.sz + 1 := rfl
theorem w_more_sz (M : w_M) (n : Nat) : (M.more n).sz = M.sz + n := rfl
theorem w_more_get (M : w_M) (n a : Nat) : (M.more n).get a = M.get a := rfl
theorem w_set_get (M : w_M) (a b : Nat) (e : w_E) : (M.set a e).get b = if b = a ∧ a < M.sz then some e else M.get b := rfl
theorem w_set_self {M : w_M} {a : Nat} {e e0 : w_E} (h : M.get a = some e0) : (M.set a e).get a = some e := by
  rw [w_set_get, if_pos ⟨rfl, w_lt h⟩]
theorem w_set_ne {M : w_M} {a b : Nat} {e : w_E} (h : b ≠ a) : (M.set a e).get b = M.get b := by
  rw [w_set_get, if_neg (fun q => h q.1)]
theorem w_push_get (M : w_M) (b : Nat) (e : w_E) : (M.push e).get b = if b = M.sz then some e else M.get b := rfl
theorem w_push_self {M : w_M} {e : w_E} : (M.push e).get M.sz = some e := by rw [w_push_get, if_pos rfl]
theorem w_push_ne {M : w_M} {b : Nat} {e : w_E} (h : b ≠ M.sz) : (M.push e).get b = M.get b := by rw [w_push_get, if_neg h]
theorem w_push_old {M : w_M} {b : Nat} {e e0 : w_E} (h : M.get b = some e0) : (M.push e).get b = some e0 := by
  rw [w_push_ne (Nat.ne_of_lt (w_lt h)), h]
/-! constants of the run: class numbers and field slots, array classes, the heap at the law's start, some addresses -/
abbrev w_G : Type := va_G × (FieldType → ClassId) × Heap × (Nat → Nat)
def w_lo (G : w_G) : Nat := G.2.2.1.size
def w_c (G : w_G) : w_E → va_E
  | .inl x => .inl (G.2.1 x.1, x.2)
  | .inr o => .inr o
def w_Rep (G : w_G) (M : w_M) (H : Heap) : Prop := H.size = M.sz ∧ w_lo G ≤ M.sz ∧ (∀ a e, M.get a = some e → w_lo G ≤ a ∧ va_at G.1 w_CL (a, w_c G e) H) ∧ ∀ q, q < w_lo G → H[q]? = G.2.2.1[q]?
theorem w_Rep.obj {G : w_G} {M : w_M} {H : Heap} (h : w_Rep G M H) {a ci : Nat} {fs : List Value} (ha : M.get a = some (.inr (ci, fs))) : va_P G.1 w_CL [(a, .inr (ci, fs))] H := by
  intro k q hq
  match k, hq with
  | 0, hq => cases hq; exact (h.2.2.1 a _ ha).2
theorem w_Rep.arr {G : w_G} {M : w_M} {H : Heap} (h : w_Rep G M H) {a : Nat} {x : FieldType × vp_A} (ha : M.get a = some (.inl x)) : va_P G.1 w_CL [(a, .inl (G.2.1 x.1, x.2))] H := by
  intro k q hq
  match k, hq with
  | 0, hq => cases hq; exact (h.2.2.1 a _ ha).2
theorem w_Rep.set {G : w_G} {M : w_M} {H H' : Heap} (h : w_Rep G M H) {a : Nat} {e0 e : w_E} (ha : M.get a = some e0) (h1 : va_at G.1 w_CL (a, w_c G e) H') (hz : H'.size = H.size) (ho : ∀ q, q ≠ a → H'[q]? = H[q]?) : w_Rep G (M.set a e) H' := by
  obtain ⟨i1, i2, i3, i4⟩ := h
  refine ⟨hz.trans i1, i2, fun b e1 hb => ?_, fun q hq => ?_⟩
  · rw [w_set_get] at hb
    split at hb
    · rename_i hc
      cases hb
      rw [hc.1]
      exact ⟨(i3 a e0 ha).1, h1⟩
    · rename_i hc
      have hne : b ≠ a := fun q => hc ⟨q, w_lt ha⟩
      exact ⟨(i3 b e1 hb).1, (i3 b e1 hb).2.kept (ho b hne)⟩
  · rw [ho q (by have := (i3 a e0 ha).1; omega)]
    exact i4 q hq
theorem w_Rep.push {G : w_G} {M : w_M} {H H' : Heap} (h : w_Rep G M H) {e : w_E} (h1 : va_at G.1 w_CL (M.sz, w_c G e) H') (hz : H'.size = H.size + 1) (ho : ∀ q, q < H.size → H'[q]? = H[q]?) : w_Rep G (M.push e) H' := by
  obtain ⟨i1, i2, i3, i4⟩ := h
  refine ⟨by rw [hz, i1]; rfl, Nat.le_succ_of_le i2, fun b e1 hb => ?_, fun q hq => ?_⟩
  · rw [w_push_get] at hb
    split at hb
    · rename_i hc
      cases hb
      subst hc
      exact ⟨i2, h1⟩
    · exact ⟨(i3 b e1 hb).1, (i3 b e1 hb).2.kept (ho b (by rw [i1]; exact w_lt hb))⟩
  · rw [ho q (by omega)]
    exact i4 q hq
theorem w_Rep.more {G : w_G} {M : w_M} {H H' : Heap} (h : w_Rep G M H) {n : Nat} (hz : H'.size = H.size + n) (ho : ∀ q, q < H.size → H'[q]? = H[q]?) : w_Rep G (M.more n) H' := by
  obtain ⟨i1, i2, i3, i4⟩ := h
  refine ⟨by rw [hz, i1]; rfl, by rw [w_more_sz]; omega, fun b e1 hb => ?_, fun q hq => ?_⟩
  · rw [w_more_get] at hb
    exact ⟨(i3 b e1 hb).1, (i3 b e1 hb).2.kept (ho b (by rw [i1]; exact w_lt hb))⟩
  · rw [ho q (by omega)]
    exact i4 q hq
/-! what the tables say all through the run -/
def w_nest : Cond → Bool
  | .fieldLinkNest _ _ _ _ _ _ => true
  | .methodLinkNest _ _ _ _ => true
  | .castable _ _ => true
  | .declares _ => true
  | _ => false
def w_tys : List FieldType := [.int, .long, .char, .byte, .boolean, .double, .object "java/lang/Object", .array .int]
/-- pairs of classes of which the first can't be cast to the second -/
def w_ncs : List (String × String) := [("java/util/NoSuchElementException", "java/lang/IndexOutOfBoundsException"), ("java/lang/IllegalArgumentException", "java/lang/IndexOutOfBoundsException")]
/-- calls by an interface: the receiver's class, the method named, the method run -/
def w_fws : List (String × MethodName × MethodName) := [
  ("RobotAisles$EarlierFirst", ⟨"java/util/Comparator", "compare", "(Ljava/lang/Object;Ljava/lang/Object;)I"⟩, ⟨"RobotAisles$EarlierFirst", "compare", "(Ljava/lang/Object;Ljava/lang/Object;)I"⟩),
  ("RobotAisles$Order", ⟨"java/lang/Comparable", "compareTo", "(Ljava/lang/Object;)I"⟩, ⟨"RobotAisles$Order", "compareTo", "(Ljava/lang/Object;)I"⟩),
  ("java/util/TreeMap", ⟨"java/util/NavigableMap", "navigableKeySet", "()Ljava/util/NavigableSet;"⟩, ⟨"java/util/TreeMap", "navigableKeySet", "()Ljava/util/NavigableSet;"⟩),
  ("java/util/TreeMap$KeySet", ⟨"java/util/NavigableSet", "iterator", "()Ljava/util/Iterator;"⟩, ⟨"java/util/TreeMap$KeySet", "iterator", "()Ljava/util/Iterator;"⟩),
  ("java/util/TreeMap$KeyIterator", ⟨"java/util/Iterator", "hasNext", "()Z"⟩, ⟨"java/util/TreeMap$PrivateEntryIterator", "hasNext", "()Z"⟩),
  ("java/util/TreeMap$KeyIterator", ⟨"java/util/Iterator", "next", "()Ljava/lang/Object;"⟩, ⟨"java/util/TreeMap$KeyIterator", "next", "()Ljava/lang/Object;"⟩)]
/-- the cells that the run may write: what it has made itself -/
def w_own (G : w_G) : Nat → Prop := fun q => w_lo G ≤ q
def w_ad (G : w_G) (i : Nat) : Nat := G.2.2.2 i
def w_KS (G : w_G) (U : State) : Prop := (∀ w ∈ lw_tbl, w_nest w = true → va_Nw w U) ∧ va_AO "java/lang/Object" U ∧ (∀ q ∈ w_ncs, va_Nc q.1 q.2 U) ∧ (∀ f ∈ w_fws, va_Fw f.1 f.2.1 f.2.2 U) ∧
  va_Z "java/util/ArrayList" "DEFAULTCAPACITY_EMPTY_ELEMENTDATA" "[Ljava/lang/Object;" (.ref (w_ad G 0)) (w_own G) U G.2.2.1 ∧ va_T (.object "java/lang/Object") (w_ad G 0) 0 (fun _ => .null) (w_own G) U G.2.2.1 ∧
  va_Z "java/util/TreeSet" "PRESENT" "Ljava/lang/Object;" (.ref (w_ad G 1)) (w_own G) U G.2.2.1 ∧
  vx_Zq Bundle.tN "UNASSIGNED_STACK" Bundle.steD (w_own G) U G.2.2.1 ∧ vx_Zq Bundle.tN "SUPPRESSED_SENTINEL" Bundle.listD (w_own G) U G.2.2.1 ∧
  va_Mi "[Ljava/lang/Object;" (w_ad G 2) U ∧ va_Dc U
def w_K (G : w_G) (U : State) : Prop := va_K G.1 w_CL (w_tys.map fun t => (G.2.1 t, t)) U ∧ w_KS G U
theorem w_decl_moved {y : MethodName} {u U : State} (hvm : u.vm.Alike U.vm) (h : va_Nw (.declares y) u) : va_Nw (.declares y) U := by
  have h1 : (Cond.declares y).before #[] (u.setVm U.vm) = true := by
    rw [Cond.declares_setVm hvm]
    exact h
  have e := Cond.onTables_vm (A := #[]) (A' := #[]) (U := u) (U' := U) U.vm (Cond.declares y) rfl
  have hU : U.setVm U.vm = U := rfl
  rw [hU] at e
  unfold va_Nw
  rw [← e]
  exact h1
theorem w_KS.warm {G : w_G} {s U : State} (hW : s.WarmedH U.vm) (h : w_KS G s) : w_KS G U := by
  obtain ⟨h1, h2, h3, h4, h5, h6, h7, h8, h9, h10, h11⟩ := h
  refine ⟨fun w hw hn => ?_, va_AO.moved hW.alike h2, fun q hq => va_Nc.moved hW.alike (h3 q hq), fun f hf => va_Fw.moved ?_ hW.alike (h4 f hf), va_Z.moved hW.alike h5, va_T.moved hW.alike h6, va_Z.moved hW.alike h7, vx_Zq.moved hW.alike h8, vx_Zq.moved hW.alike h9, va_Mi.moved hW.alike h10, va_Dc.moved hW.alike h11⟩
  · have h1 := h1 w hw hn
    cases w <;> first | exact va_Nw.warmF hW h1 | exact va_Nw.warmM hW h1 | exact va_Nw.warmC hW h1 | exact w_decl_moved hW.alike h1 | cases hn
  · have := (show ∀ f ∈ w_fws, f.2.1.cls ≠ "java/lang/invoke/MethodHandle" ∧ f.2.1.cls ≠ "java/lang/invoke/VarHandle" by decide +kernel) f hf
    exact this
theorem w_K.warm {G : w_G} {s U : State} (hW : s.WarmedH U.vm) (h : w_K G s) : w_K G U := ⟨va_K.moved hW.alike h.1, h.2.warm hW⟩
/-! the contract -/
abbrev w_O : Type := Option Value ⊕ (String × Nat)
/-- a method's code: bytes, name, locals, answer, handlers -/
abbrev w_T : Type := ByteArray × MethodName × Nat × Option FieldType × List (Nat × Nat × Nat × Nat)
/-- a method's room: depth, cells, slots -/
abbrev w_R : Type := Nat × Nat × Nat
def w_rm (B : w_R) : Room := { frames := B.1, cells := B.2.1, slots := B.2.2, locals := 64 * B.1 }
def w_word (T : w_T) : Cond := match T.2.2.2.2 with
  | [] => Cond.code T.2.1 T.1 T.2.2.1 T.2.2.2.1
  | q :: r => Cond.codeWith T.2.1 T.1 T.2.2.1 T.2.2.2.1 (q :: r)
def w_Q (G : w_G) (mc ms : Nat) (Q : w_O → w_M → Prop) : State → Outcome → State → Prop := fun st o t =>
  ∃ (M' : w_M) (Ls : List Loc), w_Rep G M' t.heap ∧ (∀ z ∈ Ls, w_lo G ≤ z.base) ∧ st.WarmedH t.vm ∧ st.sameButNew ({ t with vm := st.vm } : State) Ls mc ms ∧
    ((∃ v, o = .returned v ∧ Q (.inl v) M') ∨ ∃ (q : Addr) (E : String) (ce : Cell), o = .threw q ∧ t.heap[q]? = some ce ∧ ce.vm = .none ∧ st.vm.findClass E = some ce.cls ∧ Q (.inr (E, q)) M')
def w_P (G : w_G) (As : List Value) (M : w_M) : Array Value → State → Prop := fun a U => a = As.toArray ∧ w_K G U ∧ w_Rep G M U.heap
/-- from M, the method y with the arguments As ends with an outcome and a memory that Q says -/
def w_S (l : Launch) (G : w_G) (T : w_T) (B : w_R) (As : List Value) (M : w_M) (Q : w_O → w_M → Prop) : Prop :=
  l.stackTraces = false → MetFree l T.2.1 (headSpec (w_word T :: lw_all) (w_rm B)) (w_P G As M) (fun _ _ _ _ _ => True) (fun _ st o t => w_Q G B.2.1 B.2.2 Q st o t)
theorem w_S.mono {l : Launch} {G : w_G} {T : w_T} {B : w_R} {As : List Value} {M : w_M} {Q Q' : w_O → w_M → Prop} (h : w_S l G T B As M Q) (hq : ∀ o M', Q o M' → Q' o M') : w_S l G T B As M Q' := by
  intro hfl p e ha hc hk s m args below hf happ hP _
  obtain ⟨n, o, h1, h2, h3, M', Ls, i1, i2, i3, i4, i5⟩ := h hfl p e ha hc hk s m args below hf happ hP trivial
  refine ⟨n, o, h1, h2, h3, M', Ls, i1, i2, i3, i4, ?_⟩
  rcases i5 with ⟨v, e, q⟩ | ⟨q, E, ce, e, c1, c2, c3, q1⟩
  · exact Or.inl ⟨v, e, hq _ _ q⟩
  · exact Or.inr ⟨q, E, ce, e, c1, c2, c3, hq _ _ q1⟩
/-! the judgement -/
abbrev w_X : Type := Program × Env × Room × State × MethodId × Array Value × List Frame × Method × Code
def w_MQ (G : w_G) (below : List Frame) (s : State) (mc ms : Nat) (Q : w_O → w_M → Prop) : State → Prop := fun t => ∃ o, t.status = .running ∧ Ended t below o ∧ w_Q G mc ms Q s o t
def w_ok (l : Launch) (G : w_G) (T : w_T) (B : w_R) (X : w_X) : Prop :=
  X.1.tables.exec = Jvm.exec ∧ X.2.2.2.2.2.2.2.2.code = T.1 ∧ X.2.2.2.2.2.2.2.2.maxLocals = T.2.2.1 ∧ X.2.2.2.2.2.2.2.1.sig.returnType = T.2.2.2.1 ∧ X.2.2.2.2.2.2.2.1.locks = false ∧ X.2.2.2.1.vm.findClass T.2.1.cls = some X.2.2.2.2.1.cls ∧
  (∀ w ∈ lw_all, w.before X.2.2.2.2.2.1 X.2.2.2.1 = true) ∧ X.2.2.1 = w_rm B ∧ w_K G X.2.2.2.1 ∧ (w_lo G ≤ X.2.2.2.1.heap.size ∧ ∀ q, q < w_lo G → X.2.2.2.1.heap[q]? = G.2.2.1[q]?) ∧ l.stackTraces = false ∧ X.2.2.2.2.2.2.2.1.name = T.2.1.name ∧ X.2.2.2.2.2.2.2.2.exceptionTable.toList = tableOf T.2.2.2.2
def w_A (l : Launch) (G : w_G) (T : w_T) (B : w_R) (X : w_X) (k n : Nat) (M : w_M) (pc : Nat) (L : List (Nat × Value)) (st : List Value) (Q : w_O → w_M → Prop) : Prop :=
  w_ok l G T B X → ∀ (H : Heap) (locs : List Loc) (ls : Array Slot), w_Rep G M H → (∀ z ∈ locs, w_lo G ≤ z.base) → lv_has ls T.2.2.1 L →
    W X.1 l X.2.1 X.2.2.1 X.2.2.2.1 X.2.2.2.2.1 X.2.2.2.2.2.1 X.2.2.2.2.2.2.1 X.2.2.2.2.2.2.2.1 X.2.2.2.2.2.2.2.2 H locs k n (w_MQ G X.2.2.2.2.2.2.1 X.2.2.2.1 B.2.1 B.2.2 Q) (F0 X.2.2.2.2.1 pc ls st)
/-- .. with the exception q of the class E thrown over the frame -/
def w_AX (l : Launch) (G : w_G) (T : w_T) (B : w_R) (X : w_X) (k n : Nat) (M : w_M) (pc : Nat) (L : List (Nat × Value)) (E : String) (q : Nat) (Q : w_O → w_M → Prop) : Prop :=
  w_ok l G T B X → ∀ (H : Heap) (locs : List Loc) (ls : Array Slot) (st : List Value) (ce : Cell), w_Rep G M H → (∀ z ∈ locs, w_lo G ≤ z.base) → lv_has ls T.2.2.1 L → H[q]? = some ce → ce.vm = .none → X.2.2.2.1.vm.findClass E = some ce.cls →
    vx_W X.1 l X.2.1 X.2.2.1 X.2.2.2.1 X.2.2.2.2.1 X.2.2.2.2.2.1 X.2.2.2.2.2.2.1 X.2.2.2.2.2.2.2.1 X.2.2.2.2.2.2.2.2 H locs k n (w_MQ G X.2.2.2.2.2.2.1 X.2.2.2.1 B.2.1 B.2.2 Q) (F0 X.2.2.2.2.1 pc ls st) q
theorem w_tab_of {args : Array Value} {s : State} {m : MethodId} {meth : Method} {c : Code} {T : w_T} (hn : s.methodNamed? T.2.1 = some m) (hm : s.vm.method? m = some meth) (hc : meth.code = some c) (h : (w_word T).before args s = true) : c.exceptionTable.toList = tableOf T.2.2.2.2 := by
  obtain ⟨bt, y, nL, ret, hh⟩ := T
  cases hh with
  | nil =>
    obtain ⟨meth9, c9, h1, h2, -, -, -, -, h7, -⟩ := Cond.code_spec hn h
    cases Option.some.inj (h1.symm.trans hm)
    cases Option.some.inj (h2.symm.trans hc)
    rw [Array.isEmpty_iff.mp h7]
    rfl
  | cons q r =>
    obtain ⟨m9, meth9, c9, hn9, h1, h2, -, -, h6, -⟩ := Cond.codeWith_spec h
    cases hn.symm.trans hn9
    cases Option.some.inj (h1.symm.trans hm)
    cases Option.some.inj (h2.symm.trans hc)
    rw [← h6, table_eq]
theorem w_word_is {args : Array Value} {s : State} {T : w_T} (h : (w_word T).before args s = true) : ∃ m meth c, s.methodNamed? T.2.1 = some m ∧ s.vm.method? m = some meth ∧ meth.code = some c ∧ c.code = T.1 ∧ c.maxLocals = T.2.2.1 ∧ meth.sig.returnType = T.2.2.2.1 ∧ meth.locks = false ∧ parseMethodDescriptor T.2.1.desc = some meth.sig := by
  obtain ⟨bt, y, nL, ret, hh⟩ := T
  cases hh with
  | nil =>
    obtain ⟨m, hm⟩ := Cond.code_named h
    obtain ⟨meth, c, h1, h2, h3, h4, h5, h6, h7, h8⟩ := Cond.code_spec hm h
    exact ⟨m, meth, c, hm, h1, h2, h3, h4, h5, h6, h8⟩
  | cons q r =>
    obtain ⟨m, meth, c, hm, h1, h2, h3, h4, h5, h6, h7, h8⟩ := Cond.codeWith_spec h
    exact ⟨m, meth, c, hm, h1, h2, h3, h4, h6, h7, h8⟩
theorem w_start {l : Launch} {G : w_G} {T : w_T} {B : w_R} {As : List Value} {M : w_M} {Q : w_O → w_M → Prop} (hy : plainName T.2.1.cls = true) (hn : (lg_sl As).length ≤ T.2.2.1)
    (body : ∀ X : w_X, w_A l G T B X 0 0 M 0 (lv_args 0 As) [] Q) : w_S l G T B As M Q := by
  intro hfl
  refine MetFree.of_bodyS (code := T.1) (maxLocals := T.2.2.1) (ret := T.2.2.2.1) hy ?_ ?_
  · intro args s m h hnm
    obtain ⟨m9, meth, c, h0, h1, h2, h3, h4, h5, h6, h7⟩ := w_word_is (atoms_spec (ws := w_word T :: lw_all) h _ List.mem_cons_self)
    cases h0.symm.trans hnm
    exact ⟨meth, c, h1, h2, h3, h4, h5, h6⟩
  · intro p e s m args below meth c s₁ Bd hml hP _
    obtain ⟨rfl, hK, hR⟩ := hP
    have hh0 : s₁.heap = s.heap := by rw [Bd.state]; rfl
    have hts := atoms_spec (ws := w_word T :: lw_all) Bd.pre
    have ok : w_ok l G T B (p, e, w_rm B, s, m, As.toArray, below, meth, c) :=
      ⟨Bd.exec, Bd.bytes, hml, Bd.returns, Bd.notSynchronized, findClass_of_methodNamed Bd.named, fun w h => hts w (List.mem_cons_of_mem _ h), rfl, hK, ⟨by have := hR.1; have := hR.2.1; show w_lo G ≤ s.heap.size; omega, hR.2.2.2⟩, hfl, (name_of_methodNamed Bd.named Bd.method).1,
        w_tab_of Bd.named Bd.method (Stand.of_body Bd).code (hts _ List.mem_cons_self)⟩
    have hl := lv_entry As (n := T.2.2.1) hn
    obtain ⟨t, a1, o, b1, b2, b3⟩ := body _ ok s.heap [] _ hR (fun z h => by cases h) hl s₁ hh0 (Stand.of_body Bd)
    rw [← lg_entry_eq] at a1
    exact ⟨t, o, a1, b1, b2, b3⟩

/-- .. of a method of a class that has natives of the machine's own, itself none of them -/
theorem w_startF {l : Launch} {G : w_G} {T : w_T} {B : w_R} {As : List Value} {M : w_M} {Q : w_O → w_M → Prop} (hy : plainFor T.2.1 = true) (hn : (lg_sl As).length ≤ T.2.2.1)
    (body : ∀ X : w_X, w_A l G T B X 0 0 M 0 (lv_args 0 As) [] Q) : w_S l G T B As M Q := by
  intro hfl
  refine MetFree.of_bodyRF (code := T.1) (maxLocals := T.2.2.1) (ret := T.2.2.2.1) hy ?_ ?_
  · intro args s m h hnm
    obtain ⟨m9, meth, c, h0, h1, h2, h3, h4, h5, h6, h7⟩ := w_word_is (atoms_spec (ws := w_word T :: lw_all) h _ List.mem_cons_self)
    cases h0.symm.trans hnm
    exact ⟨meth, c, h1, h2, h3, h4, h5, h6⟩
  · intro p e s m args below meth c s₁ Bd hml hP _ hst
    obtain ⟨rfl, hK, hR⟩ := hP
    have hh0 : s₁.heap = s.heap := by rw [Bd.state]; rfl
    have hts := atoms_spec (ws := w_word T :: lw_all) Bd.pre
    have ok : w_ok l G T B (p, e, w_rm B, s, m, As.toArray, below, meth, c) :=
      ⟨Bd.exec, Bd.bytes, hml, Bd.returns, Bd.notSynchronized, findClass_of_methodNamed Bd.named, fun w h => hts w (List.mem_cons_of_mem _ h), rfl, hK, ⟨by have := hR.1; have := hR.2.1; show w_lo G ≤ s.heap.size; omega, hR.2.2.2⟩, hfl, (name_of_methodNamed Bd.named Bd.method).1,
        w_tab_of Bd.named Bd.method (Stand.of_body Bd).code (hts _ List.mem_cons_self)⟩
    have hl := lv_entry As (n := T.2.2.1) hn
    obtain ⟨t, a1, o, b1, b2, b3⟩ := body _ ok s.heap [] _ hR (fun z h => by cases h) hl s₁ hh0 (Stand.of_body Bd)
    rw [← lg_entry_eq] at a1
    exact ⟨t, o, hst.trans a1, b1, b2, b3⟩
