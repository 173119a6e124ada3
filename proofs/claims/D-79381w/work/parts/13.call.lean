/-! ===== the ends of a method; calls ===== -/
set_option maxRecDepth 100000
section WE
variable {l : Launch} {G : w_G} {T : w_T} {B : w_R} {X : w_X} {k n : Nat} {M : w_M} {pc : Nat} {L : List (Nat × Value)} {st : List Value} {Q : w_O → w_M → Prop}
theorem w_fin {p : Program} {e : Env} {R : Room} {s : State} {m : MethodId} {args : Array Value} {below : List Frame} {meth : Method} {c : Code} {H : Heap} {locs : List Loc} {g : JFrame} (v : Option Value) (h1 : k ≤ B.2.1) (h2 : n ≤ B.2.2) (hq : Q (.inl v) M) (hR : w_Rep G M H)
    (kk : W p l e R s m args below meth c H locs B.2.1 B.2.2 (MQ below (fun _ _ o t => o = .returned v ∧ t.heap = H) args s B.2.1 B.2.2 (w_own G)) g) : W p l e R s m args below meth c H locs k n (w_MQ G below s B.2.1 B.2.2 Q) g := by
  refine W.widen h1 h2 ?_
  intro T9 hT Xs
  obtain ⟨t, a1, o, b1, b2, ⟨b3, b5⟩, L9, ⟨-, hW, hs⟩, hL⟩ := kk T9 hT Xs
  exact ⟨t, a1, o, b1, b2, M, L9, by rw [b5]; exact hR, hL, hW, hs, Or.inl ⟨v, b3, hq⟩⟩
theorem wa_iret {v : Int32} (ty : FieldType) (hd : decode T.1 pc = .ok (.ireturn, 1)) (hr : T.2.2.2.1 = some ty) (hn : narrow ty (.int v) = .int v) (h1 : k ≤ B.2.1) (h2 : n ≤ B.2.2) (hq : Q (.inl (some (.int v))) M) : w_A l G T B X k n M pc L [.int v] Q :=
  fun O H locs ls hR h0 hl => w_fin _ h1 h2 hq hR (W.zret O.1 O.2.1 (O.2.2.2.1.trans hr) hn (fun t ht hW => ⟨rfl, ht⟩) h0 hd O.2.2.2.2.1)
theorem wa_lret {v : Int64} (hd : decode T.1 pc = .ok (.lreturn, 1)) (hr : T.2.2.2.1 = some .long) (h1 : k ≤ B.2.1) (h2 : n ≤ B.2.2) (hq : Q (.inl (some (.long v))) M) : w_A l G T B X k n M pc L [.long v] Q :=
  fun O H locs ls hR h0 hl => w_fin _ h1 h2 hq hR (W.lret O.1 O.2.1 (O.2.2.2.1.trans hr) (fun t ht hW => ⟨rfl, ht⟩) h0 hd O.2.2.2.2.1)
theorem wa_fret {v : UInt32} (hd : decode T.1 pc = .ok (.freturn, 1)) (hr : T.2.2.2.1 = some .float) (h1 : k ≤ B.2.1) (h2 : n ≤ B.2.2) (hq : Q (.inl (some (.float v))) M) : w_A l G T B X k n M pc L [.float v] Q :=
  fun O H locs ls hR h0 hl => w_fin _ h1 h2 hq hR (W.fret O.1 O.2.1 (O.2.2.2.1.trans hr) (fun t ht hW => ⟨rfl, ht⟩) h0 hd O.2.2.2.2.1)
theorem wa_dret {v : UInt64} (hd : decode T.1 pc = .ok (.dreturn, 1)) (hr : T.2.2.2.1 = some .double) (h1 : k ≤ B.2.1) (h2 : n ≤ B.2.2) (hq : Q (.inl (some (.double v))) M) : w_A l G T B X k n M pc L [.double v] Q :=
  fun O H locs ls hR h0 hl => w_fin _ h1 h2 hq hR (W.dret O.1 O.2.1 (O.2.2.2.1.trans hr) (fun t ht hW => ⟨rfl, ht⟩) h0 hd O.2.2.2.2.1)
theorem wa_vret (hd : decode T.1 pc = .ok (.return_, 1)) (hr : T.2.2.2.1 = none) (h1 : k ≤ B.2.1) (h2 : n ≤ B.2.2) (hq : Q (.inl none) M) : w_A l G T B X k n M pc L [] Q :=
  fun O H locs ls hR h0 hl => w_fin _ h1 h2 hq hR (W.vret O.1 O.2.1 (O.2.2.2.1.trans hr) (fun t ht hW => ⟨rfl, ht⟩) h0 hd O.2.2.2.2.1)
def w_isr : FieldType → Bool
  | .object _ => true
  | .array _ => true
  | _ => false
theorem w_isr_of {t : FieldType} (h : w_isr t = true) : (∃ n, t = .object n) ∨ ∃ u, t = .array u := by
  cases t <;> first | exact Or.inl ⟨_, rfl⟩ | exact Or.inr ⟨_, rfl⟩ | cases h
theorem wa_aret {a : Nat} (ty : FieldType) (hd : decode T.1 pc = .ok (.areturn, 1)) (hr : T.2.2.2.1 = some ty) (hty : w_isr ty = true) (h1 : k ≤ B.2.1) (h2 : n ≤ B.2.2) (hq : Q (.inl (some (.ref a))) M) : w_A l G T B X k n M pc L [.ref a] Q :=
  fun O H locs ls hR h0 hl => w_fin _ h1 h2 hq hR (W.aret O.1 O.2.1 (O.2.2.2.1.trans hr) (w_isr_of hty) (Or.inr ⟨a, rfl⟩) (fun t ht hW => ⟨rfl, ht⟩) h0 hd O.2.2.2.2.1)
theorem wa_aretN (ty : FieldType) (hd : decode T.1 pc = .ok (.areturn, 1)) (hr : T.2.2.2.1 = some ty) (hty : w_isr ty = true) (h1 : k ≤ B.2.1) (h2 : n ≤ B.2.2) (hq : Q (.inl (some .null)) M) : w_A l G T B X k n M pc L [.null] Q :=
  fun O H locs ls hR h0 hl => w_fin _ h1 h2 hq hR (W.aret O.1 O.2.1 (O.2.2.2.1.trans hr) (w_isr_of hty) (Or.inl rfl) (fun t ht hW => ⟨rfl, ht⟩) h0 hd O.2.2.2.2.1)
/-- an entry of the table that doesn't take an E at pc -/
def w_pass (own : String) (pc : Nat) (E : String) (z : ExceptionTableEntry) : Prop := covers z pc = false ∨ (z.catchType ≠ 0 ∧ ∃ nm : String, Cond.classLink own z.catchType nm ∈ lw_all ∧ (E, nm) ∈ w_ncs)
theorem w_pass_of {own : String} {pc : Nat} {E : String} {z : ExceptionTableEntry} {O : w_ok l G T B X} (hown : T.2.1.cls = own) (h : w_pass own pc E z) : covers z pc = false ∨ (z.catchType ≠ 0 ∧ ∃ nm : String, (Cond.classLink own z.catchType nm).before X.2.2.2.2.2.1 X.2.2.2.1 = true ∧ va_Nc E nm X.2.2.2.1) := by
  rcases h with h | ⟨h1, nm, h2, h3⟩
  · exact Or.inl h
  · exact Or.inr ⟨h1, nm, O.2.2.2.2.2.2.1 _ h2, O.2.2.2.2.2.2.2.2.1.2.2.2.1 _ h3⟩
/-- not caught here: it leaves the method -/
theorem wx_out {E : String} {q : Nat} (hp : ∀ z ∈ tableOf T.2.2.2.2, w_pass T.2.1.cls pc E z) (h1 : k ≤ B.2.1) (h2 : n ≤ B.2.2) (hq : Q (.inr (E, q)) M) : w_AX l G T B X k n M pc L E q Q := by
  intro O H locs ls st ce hR h0 hl hce hcv hcl T9 hT Xs
  have hpl : X.2.1.platform.magicAccessors = ({} : Platform).magicAccessors := by rw [Xs.admits.platform]
  obtain ⟨vm', hW', X', sx⟩ := Xs.outThrough O.2.2.2.2.1 q (g := F0 X.2.2.2.2.1 pc ls st) rfl rfl rfl (cell := ce) (by rw [hT]; exact hce) (by rw [hcv]; rfl)
    (by obtain ⟨k9, h9, -⟩ := Vm.findClass_spec hcl; exact ⟨k9, h9⟩) (fun z hz => by
      rcases w_pass_of (O := O) rfl (hp z (by rw [← O.2.2.2.2.2.2.2.2.2.2.2.2]; exact hz)) with h | ⟨hz0, nm, hl1, hn1⟩
      · exact Or.inl h
      · obtain ⟨c6, hc6, hcl6⟩ := Cond.classLink_spec O.2.2.2.2.2.1 hl1 X.2.1.platform hpl
        obtain ⟨a8, b8, h1, h2, h3⟩ := hn1
        cases Option.some.inj (h1.symm.trans hcl)
        cases Option.some.inj (h2.symm.trans hc6)
        exact Or.inr ⟨hz0, _, hcl6, h3⟩)
  obtain ⟨g₀, hfr⟩ := X'.frames_eq
  have hcell9 : ((T9.setVm vm').setFrames (.throwing q :: X.2.2.2.2.2.2.1)).heap[q]? = some ce := by
    show T9.heap[q]? = some ce
    rw [hT]; exact hce
  have hend : Ended ((T9.setVm vm').setFrames (.throwing q :: X.2.2.2.2.2.2.1)) X.2.2.2.2.2.2.1 (.threw q) := State.frames_setFrames _ (State.cur_lt_of_frames hfr)
  refine ⟨(T9.setVm vm').setFrames (.throwing q :: X.2.2.2.2.2.2.1), ?_, .threw q, X'.here.running, hend, M, locs, by show w_Rep G M T9.heap; rw [hT]; exact hR, h0, (X'.ends _).1, (X'.ends _).2.mono h1 h2, Or.inr ⟨q, E, ce, rfl, hcell9, hcv, hcl, hq⟩⟩
  rw [Xs.pushThrowing_eq]
  exact sx
/-- caught by the table's entry x -/
theorem wx_catch {E nm : String} {q : Nat} (pre suf : List ExceptionTableEntry) (x : ExceptionTableEntry) (hs : tableOf T.2.2.2.2 = pre ++ x :: suf) (hp : ∀ z ∈ pre, w_pass T.2.1.cls pc E z) (hx : covers x pc = true) (h0 : x.catchType ≠ 0) (hlink : Cond.classLink T.2.1.cls x.catchType nm ∈ lw_all) (hcast : Cond.castable E nm ∈ lw_tbl)
    (t : Nat) (ht : x.handlerPc = t) (kk : w_A l G T B X k n M t L [.ref q] Q) : w_AX l G T B X k n M pc L E q Q := by
  subst ht
  intro O H locs ls st ce hR h0' hl hce hcv hcl
  exact vx_catch O.2.2.2.2.2.1 pre x suf (O.2.2.2.2.2.2.2.2.2.2.2.2.trans hs) (fun z hz => w_pass_of (O := O) rfl (hp z hz)) hx h0 (O.2.2.2.2.2.2.1 _ hlink) (va_Nw.use rfl (O.2.2.2.2.2.2.2.2.1.2.1 _ hcast rfl)) hce hcv hcl (kk O H locs ls hR h0' hl)
/-- caught by an entry that takes all ('finally') -/
theorem wx_all {E : String} {q : Nat} (pre suf : List ExceptionTableEntry) (x : ExceptionTableEntry) (hs : tableOf T.2.2.2.2 = pre ++ x :: suf) (hp : ∀ z ∈ pre, w_pass T.2.1.cls pc E z) (hx : covers x pc = true) (h0 : x.catchType = 0)
    (t : Nat) (ht : x.handlerPc = t) (kk : w_A l G T B X k n M t L [.ref q] Q) : w_AX l G T B X k n M pc L E q Q := by
  subst ht
  intro O H locs ls st ce hR h0' hl hce hcv hcl T9 hT Xs
  have hpl : X.2.1.platform.magicAccessors = ({} : Platform).magicAccessors := by rw [Xs.admits.platform]
  obtain ⟨vm', X', sx⟩ := Xs.thenCaughtThrough q (g := F0 X.2.2.2.2.1 pc ls st) rfl (Steps.refl _) (by rw [hT]; exact hce) (by rw [hcv]; rfl) (by obtain ⟨k9, h9, -⟩ := Vm.findClass_spec hcl; exact ⟨k9, h9⟩) pre x suf (O.2.2.2.2.2.2.2.2.2.2.2.2.trans hs)
    (fun z hz => by
      rcases w_pass_of (O := O) rfl (hp z hz) with h | ⟨hz0, nm, hl1, hn1⟩
      · exact Or.inl h
      · obtain ⟨c6, hc6, hcl6⟩ := Cond.classLink_spec O.2.2.2.2.2.1 hl1 X.2.1.platform hpl
        obtain ⟨a8, b8, h1, h2, h3⟩ := hn1
        cases Option.some.inj (h1.symm.trans hcl)
        cases Option.some.inj (h2.symm.trans hc6)
        exact Or.inr ⟨hz0, _, hcl6, h3⟩) hx (Or.inl h0)
  obtain ⟨t, a1, b1⟩ := kk O H locs ls hR h0' hl (T9.setVm vm') hT X'
  exact ⟨t, sx.trans a1, b1⟩
/-- throw -/
theorem wa_athrow {q ci : Nat} {fs : List Value} {E : String} {F : u_T} {N : Nat} (hd : decode T.1 pc = .ok (.athrow, 1)) (hM : M.get q = some (.inr (ci, fs))) (hc : w_CL[ci]? = some (E, F, N)) (kk : w_AX l G T B X k n M pc L E q Q) : w_A l G T B X k n M pc L (.ref q :: st) Q := by
  intro O H locs ls hR h0 hl
  obtain ⟨r, h1, cell, q1, q2, q3, -⟩ := w_P1 (hR.obj hM)
  have hr : r = (E, F, N) := Option.some.inj (h1.symm.trans hc)
  subst hr
  exact vx_athrow O.1 O.2.1 hd (kk O H locs ls st cell hR h0 hl q1 q3 (by rw [q2]; exact (O.2.2.2.2.2.2.2.2.1.1.1 ci _ hc).2.1))
end WE

/-! calls -/
section WB
variable {l : Launch} {R : Room} {p : Program} {e : Env} {below : List Frame} {s : State} {sargs : Array Value} {len W9 : Nat} {G : w_G} {M : w_M}
def w_pre (G : w_G) (R : Room) (B : w_R) (As : List Value) (M : w_M) : Pt → Array Value → Prop := fun A a => A.cells + B.2.1 ≤ R.cells ∧ A.slots + B.2.2 ≤ R.slots ∧ w_P G As M a A.U
def w_post (G : w_G) (B : w_R) (Q : w_O → w_M → Prop) : Pt → Array Value → Option Value → Pt → Prop := fun A _ v Z => ∃ (M' : w_M) (Ls : List Loc), w_Rep G M' Z.U.heap ∧ (∀ z ∈ Ls, w_lo G ≤ z.base) ∧ Z.locs = A.locs ++ Ls ∧ Z.cells = A.cells + B.2.1 ∧ Z.slots = A.slots + B.2.2 ∧ Q (.inl v) M'
def w_postX (G : w_G) (B : w_R) (Q : w_O → w_M → Prop) : Pt → Array Value → Addr → Pt → Prop := fun A _ q Z => ∃ (M' : w_M) (Ls : List Loc) (E : String) (ce : Cell), w_Rep G M' Z.U.heap ∧ (∀ z ∈ Ls, w_lo G ≤ z.base) ∧ Z.locs = A.locs ++ Ls ∧ Z.cells = A.cells + B.2.1 ∧ Z.slots = A.slots + B.2.2 ∧ Z.U.heap[q]? = some ce ∧ ce.vm = .none ∧ A.U.vm.findClass E = some ce.cls ∧ Q (.inr (E, q)) M'
theorem w_K.same {G : w_G} {U V : State} (hv : V.vm = U.vm) (h : w_K G U) : w_K G V := by
  have hW : U.WarmedH V.vm := by rw [hv]; exact State.WarmedH.refl _
  exact h.warm hW
theorem w_back {T : w_T} {B : w_R} {As : List Value} {Q : w_O → w_M → Prop} (hfl : l.stackTraces = false) (hS : w_S l G T B As M Q) (hframes : B.1 + 1 ≤ R.frames) (hlocals : W9 + (T.2.2.1 + 11) + 64 * B.1 ≤ R.locals)
    (hws : ∀ w ∈ w_word T :: lw_all, ∀ a' U, s.WarmedH U.vm → w.before a' U = true) (hinit : ∀ a' U, s.WarmedH U.vm → (Cond.initialized T.2.1.cls).before a' U = true) :
    vx_Back l R p e below s sargs T.2.1 len W9 (w_pre G R B As M) (w_post G B Q) (w_postX G B Q) := by
  intro m meth c A g ig mk a X hg hsize hdg hW hn hp
  have hM := hS hfl
  have h1 : (headSpec (w_word T :: lw_all) (w_rm B)).pre.before a A.U = true := atoms_intro fun w hw => hws w hw _ _ X.warmed
  have h2 : (w_word T).before a A.U = true := hws _ List.mem_cons_self _ _ X.warmed
  have h3 : (Cond.initialized T.2.1.cls).before a A.U = true := hinit _ _ X.warmed
  have h4 : A.cells + (headSpec (w_word T :: lw_all) (w_rm B)).room.cells ≤ R.cells := hp.1
  have h5 : A.slots + (headSpec (w_word T :: lw_all) (w_rm B)).room.slots ≤ R.slots := hp.2.1
  have hPc : w_P G As M a (A.U.calling g mk a) := ⟨hp.2.2.1, w_K.same (U := A.U) rfl hp.2.2.2.1, hp.2.2.2.2⟩
  obtain ⟨U, Ls, c0, s0⟩ := A
  dsimp only [Pt.U, Pt.locs, Pt.cells, Pt.slots] at h1 h2 h3 h4 h5 X hn hPc ⊢
  obtain ⟨m9, methY, cY, hn9, hmY, hcY, -, hlY, -⟩ := w_word_is h2
  cases Option.some.inj (hn9.symm.trans hn)
  obtain ⟨kY, hkY, -⟩ := className_of_methodNamed hn
  have hinitY : kY.init = .initialized := Cond.initialized_spec (findClass_of_methodNamed hn) hkY h3
  have h : At U g.method c below := by rw [hg]; exact X.here
  have hlocals9 : W9 + (T.2.2.1 + 11) + (headSpec (w_word T :: lw_all) (w_rm B)).room.locals ≤ R.locals := hlocals
  have happ : (headSpec (w_word T :: lw_all) (w_rm B)).appliesLoose T.2.1 e.platform (U.calling g mk a) = true :=
    Spec.appliesLoose_calling (g := g) h hdg hn hkY hinitY
      (X.room_calling (g := g) (R' := (headSpec (w_word T :: lw_all) (w_rm B)).room) hsize hmY hcY hframes (by rw [hlY]; omega) h4 h5) h1
  obtain ⟨mid, hmid⟩ := h.above
  have hfr : (U.setTop g).frames = (.java g :: mid) ++ below := by rw [State.frames_setTop' g h.top, hmid]; rfl
  obtain ⟨o, s₂, hsteps, -, hend, hq⟩ := Steps.callFree hM p X.admits X.cas X.clock (acts := []) hfr happ hPc trivial
  rw [State.frames_setTop' g h.top] at hend
  obtain ⟨g₀, hg0⟩ := Option.isSome_iff_exists.mp h.top
  obtain ⟨r, hr⟩ := State.topJava?_eq_some.mp hg0
  have hr' : (({ U with heap := s₂.heap, slotsUsed := s₂.slotsUsed } : State).setVm s₂.vm).frames = .java g₀ :: r := hr
  obtain ⟨M', L, hRep, hL, hW₂, hsm, hcase⟩ := hq
  have hsm : (U.calling g mk a).sameButNew ({ s₂ with vm := (U.calling g mk a).vm } : State) L B.2.1 B.2.2 := hsm
  obtain ⟨e2, q2, q3, q4, q5, q6⟩ := id hsm
  have e3 : s₂ = ({ (U.calling g mk a).setFrames s₂.frames with heap := s₂.heap, slotsUsed := s₂.slotsUsed } : State).setVm s₂.vm := by
    have : s₂ = ({ s₂ with vm := (U.calling g mk a).vm } : State).setVm s₂.vm := rfl
    rw [e2] at this
    exact this
  have hW' : U.WarmedH s₂.vm := hW₂
  have hsame : U.sameButNew ({ U with heap := s₂.heap, slotsUsed := s₂.slotsUsed } : State) L B.2.1 B.2.2 := by
    refine ⟨?_, q2, q3, q4, q5, q6⟩
    obtain ⟨t, ht, -⟩ := State.frames_cons hr
    show ({ U with heap := s₂.heap, slotsUsed := s₂.slotsUsed } : State) = { U.setFrames U.frames with heap := s₂.heap, slotsUsed := s₂.slotsUsed }
    rw [State.setFrames_self ht]
  rcases hcase with ⟨v, rfl, hqv⟩ | ⟨q, E, ce, rfl, hce, hcv, hcl, hqx⟩
  · obtain ⟨c₂, i₂, len₂, hc₂, hd₂, hf₂⟩ := hend
    have hcc : c₂ = c := by
      have h1 : s₂.code? g.method = U.code? g.method := by
        rw [State.code?_eq, State.code?_eq, hW'.alike.method?]
      exact Option.some.inj (hc₂.symm.trans (h1.trans h.code))
    subst hcc
    have hlen : len₂ = len := by rw [hdg] at hd₂; cases hd₂; rfl
    subst hlen
    have hs₂ : s₂ = (({ U with heap := s₂.heap, slotsUsed := s₂.slotsUsed } : State).setVm s₂.vm).setTop { g with pc := g.pc + len₂, stack := v.toList ++ g.stack } := by
      refine e3.trans ?_
      rw [hf₂, State.calling_eq h.top, State.setFrames_setFrames, State.setTop_of_frames _ hr', hr]
      rfl
    subst hg
    refine Or.inl ⟨v, ⟨(({ U with heap := s₂.heap, slotsUsed := s₂.slotsUsed } : State).setVm s₂.vm), Ls ++ L, c0 + B.2.1, s0 + B.2.2⟩,
      ⟨X.admits, X.cas, X.clock, X.frames, X.room, X.hears, X.method, X.code, (X.here.setHeapUsed s₂.heap s₂.slotsUsed).setVm hW'.alike, X.tail, State.WarmedH.trans X.warmed hW', X.limits, X.bytes, X.same.trans (hsame.setVm s.vm)⟩,
      ⟨M', L, hRep, hL, rfl, rfl, rfl, hqv⟩, ?_⟩
    show Steps p.tables e below _ ((({ U with heap := s₂.heap, slotsUsed := s₂.slotsUsed } : State).setVm s₂.vm).setTop { g with pc := g.pc + len₂, stack := v.toList ++ g.stack })
    rw [← hs₂]
    exact hsteps
  · have hf₂ : s₂.frames = .throwing q :: .java g :: U.frames.tail := hend
    have hs₂ : s₂ = ((({ U with heap := s₂.heap, slotsUsed := s₂.slotsUsed } : State).setVm s₂.vm).setTop g).pushFrame (.throwing q) := by
      refine e3.trans ?_
      rw [hf₂, State.calling_eq h.top, State.setFrames_setFrames, State.pushFrame, State.frames_setTop _ hr', State.setTop_of_frames _ hr', State.setFrames_setFrames, hr]
      rfl
    subst hg
    refine Or.inr ⟨q, ⟨(({ U with heap := s₂.heap, slotsUsed := s₂.slotsUsed } : State).setVm s₂.vm), Ls ++ L, c0 + B.2.1, s0 + B.2.2⟩,
      ⟨X.admits, X.cas, X.clock, X.frames, X.room, X.hears, X.method, X.code, (X.here.setHeapUsed s₂.heap s₂.slotsUsed).setVm hW'.alike, X.tail, State.WarmedH.trans X.warmed hW', X.limits, X.bytes, X.same.trans (hsame.setVm s.vm)⟩,
      ⟨M', L, E, ce, hRep, hL, rfl, rfl, rfl, hce, hcv, hcl, hqx⟩, ?_⟩
    show Steps p.tables e below _ (((({ U with heap := s₂.heap, slotsUsed := s₂.slotsUsed } : State).setVm s₂.vm).setTop g).pushFrame (.throwing q))
    rw [← hs₂]
    exact hsteps
end WB

theorem w_fin2 {l : Launch} {G : w_G} {T : w_T} {B B' : w_R} {X : w_X} {k n : Nat} {pc len : Nat} {L : List (Nat × Value)} {st st0 : List Value} {Q' Q : w_O → w_M → Prop} {locs : List Loc} {ls : Array Slot} {T9 : State} {a : Array Value} (O : w_ok l G T B X)
    (kr : ∀ v M', Q' (.inl v) M' → w_A l G T B X (k + B'.2.1) (n + B'.2.2) M' (pc + len) L (v.toList ++ st) Q) (kx : ∀ E q M', Q' (.inr (E, q)) M' → w_AX l G T B X (k + B'.2.1) (n + B'.2.2) M' pc L E q Q) (hl : lv_has ls T.2.2.1 L) (h0 : ∀ z ∈ locs, w_lo G ≤ z.base)
    (fin : (∃ (v : Option Value) (vm₁ : Vm) (Z : Pt), X.2.2.2.1.WarmedH vm₁ ∧ Stand X.1 l X.2.1 X.2.2.1 X.2.2.2.1 X.2.2.2.2.1 X.2.2.2.2.2.1 X.2.2.2.2.2.2.1 X.2.2.2.2.2.2.2.1 X.2.2.2.2.2.2.2.2 Z.U Z.locs Z.cells Z.slots ∧ w_post G B' Q' ⟨T9.setVm vm₁, locs, k, n⟩ a v Z ∧
      ∀ target, Steps X.1.tables X.2.1 X.2.2.2.2.2.2.1 (Z.U.setTop (F0 X.2.2.2.2.1 (pc + len) ls (v.toList ++ st))) target → Steps X.1.tables X.2.1 X.2.2.2.2.2.2.1 (T9.setTop (F0 X.2.2.2.2.1 pc ls st0)) target) ∨
    (∃ (q : Addr) (vm₁ : Vm) (Z : Pt), X.2.2.2.1.WarmedH vm₁ ∧ Stand X.1 l X.2.1 X.2.2.1 X.2.2.2.1 X.2.2.2.2.1 X.2.2.2.2.2.1 X.2.2.2.2.2.2.1 X.2.2.2.2.2.2.2.1 X.2.2.2.2.2.2.2.2 Z.U Z.locs Z.cells Z.slots ∧ w_postX G B' Q' ⟨T9.setVm vm₁, locs, k, n⟩ a q Z ∧
      Steps X.1.tables X.2.1 X.2.2.2.2.2.2.1 (T9.setTop (F0 X.2.2.2.2.1 pc ls st0)) ((Z.U.setTop (F0 X.2.2.2.2.1 pc ls st)).pushFrame (.throwing q)))) :
    ∃ t, Steps X.1.tables X.2.1 X.2.2.2.2.2.2.1 (T9.setTop (F0 X.2.2.2.2.1 pc ls st0)) t ∧ w_MQ G X.2.2.2.2.2.2.1 X.2.2.2.1 B.2.1 B.2.2 Q t := by
  rcases fin with ⟨v, vm₁, ⟨U', l2, c2, s2⟩, hW₁, X', ⟨M', Ls, hRep, hLs, e1, e2, e3, hq⟩, sx⟩ | ⟨q, vm₁, ⟨U', l2, c2, s2⟩, hW₁, X', ⟨M', Ls, E, ce, hRep, hLs, e1, e2, e3, hce, hcv, hcl, hq⟩, sx⟩
  · dsimp only [Pt.U, Pt.locs, Pt.cells, Pt.slots] at X' e1 e2 e3 hRep sx
    subst e1; subst e2; subst e3
    obtain ⟨t, a1, b1⟩ := kr v M' hq O U'.heap _ ls hRep (t_lL h0 hLs) hl U' rfl X'
    exact ⟨t, sx t a1, b1⟩
  · dsimp only [Pt.U, Pt.locs, Pt.cells, Pt.slots] at X' e1 e2 e3 hRep sx hce hcl
    subst e1; subst e2; subst e3
    obtain ⟨t, a1, b1⟩ := kx E q M' hq O U'.heap _ ls st ce hRep (t_lL h0 hLs) hl hce hcv (vx_cls hW₁ hcl) U' rfl X'
    exact ⟨t, sx.trans a1, b1⟩
section WC
variable {l : Launch} {G : w_G} {T T' : w_T} {B B' : w_R} {X : w_X} {k n : Nat} {M : w_M} {pc : Nat} {L : List (Nat × Value)} {st st0 : List Value} {Q' : w_O → w_M → Prop}
/-- a call: whatever comes behind it follows from what the callee may end with -/
def w_Run (l : Launch) (G : w_G) (T : w_T) (B : w_R) (X : w_X) (k n : Nat) (M : w_M) (pc len : Nat) (L : List (Nat × Value)) (st0 st : List Value) (Q' : w_O → w_M → Prop) (k2 n2 : Nat) : Prop := ∀ Q : w_O → w_M → Prop,
  (∀ v M', Q' (.inl v) M' → w_A l G T B X k2 n2 M' (pc + len) L (v.toList ++ st) Q) → (∀ E q M', Q' (.inr (E, q)) M' → w_AX l G T B X k2 n2 M' pc L E q Q) → w_A l G T B X k n M pc L st0 Q
/-- what a link to the method T' from the class own says -/
def w_mB (own : String) (idx : Nat) (T' : w_T) (nargs : Nat) : Prop := (T'.2.1.cls ≠ "java/lang/invoke/MethodHandle" ∧ T'.2.1.cls ≠ "java/lang/invoke/VarHandle") ∧ w_word T' ∈ lw_all ∧ Cond.initialized T'.2.1.cls ∈ lw_all ∧ (parseMethodDescriptor T'.2.1.desc).map (fun d => d.parameters.length) = some nargs ∧ T'.2.2.1 ≤ 45
def w_mV (own : String) (idx ci : Nat) (T' : w_T) (nargs : Nat) : Prop := ∃ (F : u_T) (N : Nat), w_mB own idx T' nargs ∧ w_CL[ci]? = some (T'.2.1.cls, F, N) ∧ Cond.methodLink own idx T'.2.1 ∈ lw_all ∧ Cond.instanceMethod T'.2.1 ∈ lw_all ∧ Cond.selects T'.2.1.cls T'.2.1 T'.2.1 ∈ lw_all
def w_mS (own : String) (idx : Nat) (T' : w_T) (nargs : Nat) : Prop := w_mB own idx T' nargs ∧ (Cond.methodLink own idx T'.2.1 ∈ lw_all ∨ (T'.2.2.2.2 = [] ∧ ∃ host, Cond.methodLinkNest own idx T'.2.1 host ∈ lw_tbl)) ∧ Cond.static T'.2.1 ∈ lw_all
def w_mI (own : String) (idx : Nat) (T' : w_T) (nargs : Nat) : Prop := w_mB own idx T' nargs ∧ T'.2.1.name = "<init>" ∧ T'.2.2.2.1 = none ∧ T'.2.2.2.2 = [] ∧ (Cond.methodLink own idx T'.2.1 ∈ lw_all ∨ ∃ host, Cond.methodLinkNest own idx T'.2.1 host ∈ lw_tbl) ∧ Cond.instanceMethod T'.2.1 ∈ lw_all
/-- the room for a call -/
def w_fit (B B' : w_R) (k n : Nat) : Bool := Nat.ble (k + B'.2.1) B.2.1 && (Nat.ble (n + B'.2.2) B.2.2 && Nat.ble (B'.1 + 1) B.1)
theorem w_fit_of (h : w_fit B B' k n = true) : k + B'.2.1 ≤ B.2.1 ∧ n + B'.2.2 ≤ B.2.2 ∧ B'.1 + 1 ≤ B.1 := by
  simp only [w_fit, Bool.and_eq_true] at h
  exact ⟨Nat.le_of_ble_eq_true h.1, Nat.le_of_ble_eq_true h.2.1, Nat.le_of_ble_eq_true h.2.2⟩
theorem w_pay {s : State} {args : Array Value} (hts : ∀ w ∈ lw_all, w.before args s = true) (hw : w_word T' ∈ lw_all) : ∀ w ∈ w_word T' :: lw_all, ∀ (a' : Array Value) (U : State), s.WarmedH U.vm → w.before a' U = true := by
  refine pay_in hts ?_
  intro w h
  rcases List.mem_cons.mp h with e | e
  · rw [e]; exact lw_self _ hw
  · exact lw_self _ e
theorem w_bk {As : List Value} {own : String} {idx nargs len : Nat} (O : w_ok l G T B X) (hm : w_mB own idx T' nargs) (hS : w_S l G T' B' As M Q') (hf : w_fit B B' k n = true) :
    vx_Back l X.2.2.1 X.1 X.2.1 X.2.2.2.2.2.2.1 X.2.2.2.1 X.2.2.2.2.2.1 T'.2.1 len 8 (w_pre G X.2.2.1 B' As M) (w_post G B' Q') (w_postX G B' Q') := by
  obtain ⟨f1, f2, f3⟩ := w_fit_of hf
  have hRm : X.2.2.1 = w_rm B := O.2.2.2.2.2.2.2.1
  have hts := O.2.2.2.2.2.2.1
  have hl := hm.2.2.2.2
  refine w_back O.2.2.2.2.2.2.2.2.2.2.1 hS (by rw [hRm]; exact f3) ?_ (w_pay hts hm.2.1) (fun a' U hW => word_at hW (Or.inl (by first | rfl | simp [Cond.onTables, Cond.keeps, Cond.steady])) (hts _ hm.2.2.1))
  rw [hRm]
  show 8 + (T'.2.2.1 + 11) + 64 * B'.1 ≤ 64 * B.1
  omega
theorem w_sum8 {st : List Value} {pc : Nat} {m : MethodId} {ls : Array Slot} {st0 : List Value} (h : (st.map fun v => v.category).sum ≤ 8) : 2 * (F0 m pc ls st0).monitorRoom + (st.map fun v => v.category).sum ≤ 8 := lv_room h
theorem wr_V {b ci idx nargs : Nat} {As : List Value} {fs : List Value} (hd : decode T.1 pc = .ok (.invokevirtual idx, 3)) (hm : w_mV T.2.1.cls idx ci T' nargs) (hS : w_S l G T' B' (.ref b :: As) M Q') (hM : M.get b = some (.inr (ci, fs))) (hn : As.length = nargs) (hf : w_fit B B' k n = true)
    (hst : st0 = As.reverse ++ .ref b :: st) (h8 : (st.map fun v => v.category).sum ≤ 8) : w_Run l G T B X k n M pc 3 L st0 st Q' (k + B'.2.1) (n + B'.2.2) := by
  intro Q kr kx O H locs ls hR h0 hl T9 hT Xs
  obtain ⟨F, N, hmB, hci, hlink, hinst, hsel⟩ := hm
  have hts := O.2.2.2.2.2.2.1
  obtain ⟨f1, f2, f3⟩ := w_fit_of hf
  have hRm : X.2.2.1 = w_rm B := O.2.2.2.2.2.2.2.1
  have hK := w_bk (len := 3) O hmB hS hf
  obtain ⟨r, hr1, cell, q1, q2, q3, -⟩ := w_P1 (hR.obj hM)
  have hr : r = (T'.2.1.cls, F, N) := Option.some.inj (hr1.symm.trans hci)
  subst hr
  have hcls := (O.2.2.2.2.2.2.2.2.1.1.1 ci _ hci).2.1
  have hlen : ∀ sig, parseMethodDescriptor T'.2.1.desc = some sig → As.length = sig.parameters.length := fun sig h => by
    have h2 := hmB.2.2.2.1
    rw [h] at h2
    exact hn.trans (Option.some.inj h2).symm
  have hpre : ∀ vm₁, X.2.2.2.1.WarmedH vm₁ → w_pre G X.2.2.1 B' (.ref b :: As) M ⟨T9.setVm vm₁, locs, k, n⟩ (Value.ref b :: As).toArray := fun vm₁ hW₁ => ⟨by rw [hRm]; exact f1, by rw [hRm]; exact f2, rfl, O.2.2.2.2.2.2.2.2.1.warm (U := T9.setVm vm₁) hW₁, by show w_Rep G M T9.heap; rw [hT]; exact hR⟩
  have fin : (∃ (v : Option Value) (vm₁ : Vm) (Z : Pt), X.2.2.2.1.WarmedH vm₁ ∧ Stand X.1 l X.2.1 X.2.2.1 X.2.2.2.1 X.2.2.2.2.1 X.2.2.2.2.2.1 X.2.2.2.2.2.2.1 X.2.2.2.2.2.2.2.1 X.2.2.2.2.2.2.2.2 Z.U Z.locs Z.cells Z.slots ∧ w_post G B' Q' ⟨T9.setVm vm₁, locs, k, n⟩ (Value.ref b :: As).toArray v Z ∧
      ∀ target, Steps X.1.tables X.2.1 X.2.2.2.2.2.2.1 (Z.U.setTop (F0 X.2.2.2.2.1 (pc + 3) ls (v.toList ++ st))) target → Steps X.1.tables X.2.1 X.2.2.2.2.2.2.1 (T9.setTop (F0 X.2.2.2.2.1 pc ls st0)) target) ∨
    (∃ (q : Addr) (vm₁ : Vm) (Z : Pt), X.2.2.2.1.WarmedH vm₁ ∧ Stand X.1 l X.2.1 X.2.2.1 X.2.2.2.1 X.2.2.2.2.1 X.2.2.2.2.2.1 X.2.2.2.2.2.2.1 X.2.2.2.2.2.2.2.1 X.2.2.2.2.2.2.2.2 Z.U Z.locs Z.cells Z.slots ∧ w_postX G B' Q' ⟨T9.setVm vm₁, locs, k, n⟩ (Value.ref b :: As).toArray q Z ∧
      Steps X.1.tables X.2.1 X.2.2.2.2.2.2.1 (T9.setTop (F0 X.2.2.2.2.1 pc ls st0)) ((Z.U.setTop (F0 X.2.2.2.2.1 pc ls st)).pushFrame (.throwing q))) := by
    obtain ⟨bt, y, nL, ret, hh⟩ := T'
    cases hh with
    | nil => exact vx_callV Xs O.1 (C := y.cls) O.2.2.2.2.2.1 (hts _ hlink) (hts _ hinst) (hts _ hsel) (hts _ hmB.2.1) hmB.1 hK (by rw [hT]; exact q1) (by rw [q3]; rfl) (by rw [q2]; exact hcls) (g := F0 X.2.2.2.2.1 pc ls st0) rfl (hl.1.trans O.2.2.1.symm) (argsL := As) (rest := st) hlen hst (w_sum8 h8) (by rw [O.2.1]; exact hd) hpre
    | cons q9 r9 => exact vx_callVX Xs O.1 (C := y.cls) O.2.2.2.2.2.1 (hts _ hlink) (hts _ hinst) (hts _ hsel) (hts _ hmB.2.1) hmB.1 hK (by rw [hT]; exact q1) (by rw [q3]; rfl) (by rw [q2]; exact hcls) (g := F0 X.2.2.2.2.1 pc ls st0) rfl (hl.1.trans O.2.2.1.symm) (argsL := As) (rest := st) hlen hst (w_sum8 h8) (by rw [O.2.1]; exact hd) hpre
  exact w_fin2 O kr kx hl h0 fin
theorem wr_S {idx nargs : Nat} {As : List Value} (hd : decode T.1 pc = .ok (.invokestatic idx, 3)) (hm : w_mS T.2.1.cls idx T' nargs) (hS : w_S l G T' B' As M Q') (hn : As.length = nargs) (hf : w_fit B B' k n = true)
    (hst : st0 = As.reverse ++ st) (h8 : (st.map fun v => v.category).sum ≤ 8) : w_Run l G T B X k n M pc 3 L st0 st Q' (k + B'.2.1) (n + B'.2.2) := by
  intro Q kr kx O H locs ls hR h0 hl T9 hT Xs
  obtain ⟨hmB, hlink, hstt⟩ := hm
  have hts := O.2.2.2.2.2.2.1
  have hKK := O.2.2.2.2.2.2.2.2.1
  obtain ⟨f1, f2, f3⟩ := w_fit_of hf
  have hRm : X.2.2.1 = w_rm B := O.2.2.2.2.2.2.2.1
  have hK := w_bk (len := 3) O hmB hS hf
  have hlen : ∀ sig, parseMethodDescriptor T'.2.1.desc = some sig → As.length = sig.parameters.length := fun sig h => by
    have h2 := hmB.2.2.2.1
    rw [h] at h2
    exact hn.trans (Option.some.inj h2).symm
  have hpre : ∀ vm₁, X.2.2.2.1.WarmedH vm₁ → w_pre G X.2.2.1 B' (As) M ⟨T9.setVm vm₁, locs, k, n⟩ (As : List Value).toArray := fun vm₁ hW₁ => ⟨by rw [hRm]; exact f1, by rw [hRm]; exact f2, rfl, hKK.warm (U := T9.setVm vm₁) hW₁, by show w_Rep G M T9.heap; rw [hT]; exact hR⟩
  obtain ⟨bt, y, nL, ret, hh⟩ := T'
  cases hh with
  | nil =>
    rcases hlink with hlink | ⟨-, host, hlink⟩
    · exact w_fin2 O kr kx hl h0 (vx_callS Xs O.1 O.2.2.2.2.2.1 (hts _ hlink) (hts _ hstt) (hts _ hmB.2.2.1) (hts _ hmB.2.1) hmB.1 hK (g := F0 X.2.2.2.2.1 pc ls st0) rfl (hl.1.trans O.2.2.1.symm) (argsL := As) (rest := st) hlen hst (w_sum8 h8) (by rw [O.2.1]; exact hd) hpre)
    · exact w_fin2 O kr kx hl h0 (vx_callSN Xs O.1 O.2.2.2.2.2.1 (va_Nw.use rfl (hKK.2.1 _ hlink rfl)) (hts _ hstt) (hts _ hmB.2.2.1) (hts _ hmB.2.1) hmB.1 hK (g := F0 X.2.2.2.2.1 pc ls st0) rfl (hl.1.trans O.2.2.1.symm) (argsL := As) (rest := st) hlen hst (w_sum8 h8) (by rw [O.2.1]; exact hd) hpre)
  | cons q9 r9 =>
    rcases hlink with hlink | ⟨hno, -⟩
    · exact w_fin2 O kr kx hl h0 (vx_callSX Xs O.1 O.2.2.2.2.2.1 (hts _ hlink) (hts _ hstt) (hts _ hmB.2.2.1) (hts _ hmB.2.1) hmB.1 hK (g := F0 X.2.2.2.2.1 pc ls st0) rfl (hl.1.trans O.2.2.1.symm) (argsL := As) (rest := st) hlen hst (w_sum8 h8) (by rw [O.2.1]; exact hd) hpre)
    · cases hno
theorem wr_I {b idx nargs : Nat} {As : List Value} (hd : decode T.1 pc = .ok (.invokespecial idx, 3)) (hm : w_mI T.2.1.cls idx T' nargs) (hS : w_S l G T' B' (.ref b :: As) M Q') (hn : As.length = nargs) (hf : w_fit B B' k n = true)
    (hst : st0 = As.reverse ++ .ref b :: st) (h8 : (st.map fun v => v.category).sum ≤ 8) : w_Run l G T B X k n M pc 3 L st0 st Q' (k + B'.2.1) (n + B'.2.2) := by
  intro Q kr kx O H locs ls hR h0 hl T9 hT Xs
  obtain ⟨hmB, hname, hret, hhh, hlink, hinst⟩ := hm
  have hts := O.2.2.2.2.2.2.1
  have hKK := O.2.2.2.2.2.2.2.2.1
  obtain ⟨f1, f2, f3⟩ := w_fit_of hf
  have hRm : X.2.2.1 = w_rm B := O.2.2.2.2.2.2.2.1
  have hK := w_bk (len := 3) O hmB hS hf
  have hlen : ∀ sig, parseMethodDescriptor T'.2.1.desc = some sig → As.length = sig.parameters.length := fun sig h => by
    have h2 := hmB.2.2.2.1
    rw [h] at h2
    exact hn.trans (Option.some.inj h2).symm
  have hpre : ∀ vm₁, X.2.2.2.1.WarmedH vm₁ → w_pre G X.2.2.1 B' (.ref b :: As) M ⟨T9.setVm vm₁, locs, k, n⟩ (Value.ref b :: As : List Value).toArray := fun vm₁ hW₁ => ⟨by rw [hRm]; exact f1, by rw [hRm]; exact f2, rfl, hKK.warm (U := T9.setVm vm₁) hW₁, by show w_Rep G M T9.heap; rw [hT]; exact hR⟩
  obtain ⟨bt, y, nL, ret, hh⟩ := T'
  cases hhh
  cases hret
  rcases hlink with hlink | ⟨host, hlink⟩
  · exact w_fin2 O kr kx hl h0 (vx_callI Xs O.1 O.2.2.2.2.2.1 hname (hts _ hlink) (hts _ hinst) (hts _ hmB.2.1) hmB.1 hK (g := F0 X.2.2.2.2.1 pc ls st0) rfl (hl.1.trans O.2.2.1.symm) (a := b) (argsL := As) (rest := st) hlen hst (w_sum8 h8) (by rw [O.2.1]; exact hd) hpre)
  · exact w_fin2 O kr kx hl h0 (vx_callIN Xs O.1 O.2.2.2.2.2.1 hname (va_Nw.use rfl (hKK.2.1 _ hlink rfl)) (hts _ hinst) (hts _ hmB.2.1) hmB.1 hK (g := F0 X.2.2.2.2.1 pc ls st0) rfl (hl.1.trans O.2.2.1.symm) (a := b) (argsL := As) (rest := st) hlen hst (w_sum8 h8) (by rw [O.2.1]; exact hd) hpre)
/-- by an interface: x named, T' run -/
def w_mF (own : String) (idx ci : Nat) (x : MethodName) (T' : w_T) (nargs : Nat) : Prop := ∃ (C : String) (F : u_T) (N : Nat), w_mB own idx T' nargs ∧ w_CL[ci]? = some (C, F, N) ∧ T'.2.2.2.2 = [] ∧ Cond.methodLink own idx x ∈ lw_all ∧ Cond.instanceMethod T'.2.1 ∈ lw_all ∧ Cond.selects C x T'.2.1 ∈ lw_all ∧ (C, x, T'.2.1) ∈ w_fws ∧ x.desc = T'.2.1.desc ∧ (x.cls ≠ "java/lang/invoke/MethodHandle" ∧ x.cls ≠ "java/lang/invoke/VarHandle")
theorem wr_F {b ci idx count nargs : Nat} {x : MethodName} {As fs : List Value} (hd : decode T.1 pc = .ok (.invokeinterface idx count, 5)) (hm : w_mF T.2.1.cls idx ci x T' nargs) (hS : w_S l G T' B' (.ref b :: As) M Q') (hM : M.get b = some (.inr (ci, fs))) (hn : As.length = nargs) (hf : w_fit B B' k n = true)
    (hst : st0 = As.reverse ++ .ref b :: st) (h8 : (st.map fun v => v.category).sum ≤ 8) : w_Run l G T B X k n M pc 5 L st0 st Q' (k + B'.2.1) (n + B'.2.2) := by
  intro Q kr kx O H locs ls hR h0 hl T9 hT Xs
  obtain ⟨C, F, N, hmB, hci, hhh, hlink, hinst, hsel, hfw, hdesc, hx9⟩ := hm
  have hts := O.2.2.2.2.2.2.1
  have hKK := O.2.2.2.2.2.2.2.2.1
  obtain ⟨f1, f2, f3⟩ := w_fit_of hf
  have hRm : X.2.2.1 = w_rm B := O.2.2.2.2.2.2.2.1
  have hK := w_bk (len := 5) O hmB hS hf
  have hlen : ∀ sig, parseMethodDescriptor T'.2.1.desc = some sig → As.length = sig.parameters.length := fun sig h => by
    have h2 := hmB.2.2.2.1
    rw [h] at h2
    exact hn.trans (Option.some.inj h2).symm
  have hpre : ∀ vm₁, X.2.2.2.1.WarmedH vm₁ → w_pre G X.2.2.1 B' (.ref b :: As) M ⟨T9.setVm vm₁, locs, k, n⟩ (Value.ref b :: As : List Value).toArray := fun vm₁ hW₁ => ⟨by rw [hRm]; exact f1, by rw [hRm]; exact f2, rfl, hKK.warm (U := T9.setVm vm₁) hW₁, by show w_Rep G M T9.heap; rw [hT]; exact hR⟩
  obtain ⟨r, hr1, cell, q1, q2, q3, -⟩ := w_P1 (hR.obj hM)
  have hr : r = (C, F, N) := Option.some.inj (hr1.symm.trans hci)
  subst hr
  obtain ⟨hcls, kC, hkC, -⟩ := (hKK.1.1 ci _ hci).2
  obtain ⟨w1, w2, w3, w4, w5⟩ := hKK.2.2.2.2.1 _ hfw
  obtain ⟨bt, y, nL, ret, hh⟩ := T'
  cases hhh
  exact w_fin2 O kr kx hl h0 (vx_callIF Xs O.1 O.2.2.2.2.2.1 (hts _ hlink) (va_any rfl w1) (va_any rfl w2) (hts _ hsel) (hts _ hinst) (va_any rfl w3) (va_any rfl w4) (va_any rfl w5) (hts _ hmB.2.1) hx9 hK (by rw [hT]; exact q1) (by rw [q3]; rfl) (by rw [q2]; exact hcls) (by rw [q2]; exact hkC) (g := F0 X.2.2.2.2.1 pc ls st0) rfl (hl.1.trans O.2.2.1.symm) (argsL := As) (rest := st) (fun sig h => hlen sig (by rw [← hdesc]; exact h)) hst (w_sum8 h8) (by rw [O.2.1]; exact hd) hpre)
/-- a method of a class above, found by the receiver (inherited, or overridden): x named, declared in owner, T' run -/
def w_mU (own : String) (idx ci : Nat) (owner : String) (x : MethodName) (T' : w_T) (nargs : Nat) : Prop := ∃ (C : String) (F : u_T) (N : Nat), w_mB own idx T' nargs ∧ w_CL[ci]? = some (C, F, N) ∧ T'.2.2.2.2 = [] ∧ Cond.methodLink own idx x ∈ lw_all ∧ Cond.sameMethod x.cls owner x.name x.desc ∈ lw_all ∧ Cond.instanceMethod T'.2.1 ∈ lw_all ∧ Cond.selects C x T'.2.1 ∈ lw_all ∧ x.desc = T'.2.1.desc ∧ (owner ≠ "java/lang/invoke/MethodHandle" ∧ owner ≠ "java/lang/invoke/VarHandle")
theorem wr_U {b ci idx nargs : Nat} {owner : String} {x : MethodName} {As fs : List Value} (hd : decode T.1 pc = .ok (.invokevirtual idx, 3)) (hm : w_mU T.2.1.cls idx ci owner x T' nargs) (hdl : ∀ s : State, (∀ a, ∀ w ∈ lw_all, w.before a s = true) → va_Decl s ⟨owner, x.name, x.desc⟩) (hS : w_S l G T' B' (.ref b :: As) M Q') (hM : M.get b = some (.inr (ci, fs))) (hn : As.length = nargs) (hf : w_fit B B' k n = true)
    (hst : st0 = As.reverse ++ .ref b :: st) (h8 : (st.map fun v => v.category).sum ≤ 8) : w_Run l G T B X k n M pc 3 L st0 st Q' (k + B'.2.1) (n + B'.2.2) := by
  intro Q kr kx O H locs ls hR h0 hl T9 hT Xs
  obtain ⟨C, F, N, hmB, hci, hhh, hlink, hsame, hinst, hsel, hdesc, hx9⟩ := hm
  have hts := O.2.2.2.2.2.2.1
  have hKK := O.2.2.2.2.2.2.2.2.1
  obtain ⟨f1, f2, f3⟩ := w_fit_of hf
  have hRm : X.2.2.1 = w_rm B := O.2.2.2.2.2.2.2.1
  have hK := w_bk (len := 3) O hmB hS hf
  have hlen : ∀ sig, parseMethodDescriptor T'.2.1.desc = some sig → As.length = sig.parameters.length := fun sig h => by
    have h2 := hmB.2.2.2.1
    rw [h] at h2
    exact hn.trans (Option.some.inj h2).symm
  have hpre : ∀ vm₁, X.2.2.2.1.WarmedH vm₁ → w_pre G X.2.2.1 B' (.ref b :: As) M ⟨T9.setVm vm₁, locs, k, n⟩ (Value.ref b :: As : List Value).toArray := fun vm₁ hW₁ => ⟨by rw [hRm]; exact f1, by rw [hRm]; exact f2, rfl, hKK.warm (U := T9.setVm vm₁) hW₁, by show w_Rep G M T9.heap; rw [hT]; exact hR⟩
  obtain ⟨r, hr1, cell, q1, q2, q3, -⟩ := w_P1 (hR.obj hM)
  have hr : r = (C, F, N) := Option.some.inj (hr1.symm.trans hci)
  subst hr
  have hcls := (hKK.1.1 ci _ hci).2.1
  have hdl9 := hdl X.2.2.2.1 (fun a w hw => pay_in hts lw_self w hw a _ (State.WarmedH.refl _))
  obtain ⟨bt, y, nL, ret, hh⟩ := T'
  cases hhh
  exact w_fin2 O kr kx hl h0 (vx_callVU Xs O.1 O.2.2.2.2.2.1 (hts _ hlink) (hts _ hsame) hdl9 hx9 (hts _ hsel) (hts _ hinst) (hts _ hmB.2.1) hK (by rw [hT]; exact q1) (by rw [q3]; rfl) (by rw [q2]; exact hcls) (g := F0 X.2.2.2.2.1 pc ls st0) rfl (hl.1.trans O.2.2.1.symm) (argsL := As) (rest := st) (fun sig h => hlen sig (by rw [← hdesc]; exact h)) hst (w_sum8 h8) (by rw [O.2.1]; exact hd) hpre)
/-! what comes behind a call -/
variable {Q : w_O → w_M → Prop} {k2 n2 len : Nat}
/-- it ends in one way, said by an equation -/
def w_is (o : w_O) (M1 : w_M) : w_O → w_M → Prop := fun o' M' => o' = o ∧ M' = M1
def w_rI (post : Int32 → w_M → Prop) : w_O → w_M → Prop := fun o M' => ∃ r, o = .inl (some (.int r)) ∧ post r M'
def w_rL (post : Int64 → w_M → Prop) : w_O → w_M → Prop := fun o M' => ∃ r, o = .inl (some (.long r)) ∧ post r M'
def w_rA (post : Nat → w_M → Prop) : w_O → w_M → Prop := fun o M' => ∃ r, o = .inl (some (.ref r)) ∧ post r M'
def w_rV (post : w_M → Prop) : w_O → w_M → Prop := fun o M' => o = .inl none ∧ post M'
theorem wc_is {v : Option Value} {M1 : w_M} (h : w_Run l G T B X k n M pc len L st0 st (w_is (.inl v) M1) k2 n2) (kk : w_A l G T B X k2 n2 M1 (pc + len) L (v.toList ++ st) Q) : w_A l G T B X k n M pc L st0 Q :=
  h Q (fun v' M' q => by obtain ⟨q1, q2⟩ := q; cases q1; cases q2; exact kk) (fun E q M' q => by obtain ⟨q1, q2⟩ := q; cases q1)
theorem wc_I {post : Int32 → w_M → Prop} (h : w_Run l G T B X k n M pc len L st0 st (w_rI post) k2 n2) (kk : ∀ r M', post r M' → w_A l G T B X k2 n2 M' (pc + len) L (.int r :: st) Q) : w_A l G T B X k n M pc L st0 Q :=
  h Q (fun v' M' q => by obtain ⟨r, q1, q2⟩ := q; cases q1; exact kk r M' q2) (fun E q M' q => by obtain ⟨r, q1, q2⟩ := q; cases q1)
theorem wc_L {post : Int64 → w_M → Prop} (h : w_Run l G T B X k n M pc len L st0 st (w_rL post) k2 n2) (kk : ∀ r M', post r M' → w_A l G T B X k2 n2 M' (pc + len) L (.long r :: st) Q) : w_A l G T B X k n M pc L st0 Q :=
  h Q (fun v' M' q => by obtain ⟨r, q1, q2⟩ := q; cases q1; exact kk r M' q2) (fun E q M' q => by obtain ⟨r, q1, q2⟩ := q; cases q1)
theorem wc_A {post : Nat → w_M → Prop} (h : w_Run l G T B X k n M pc len L st0 st (w_rA post) k2 n2) (kk : ∀ r M', post r M' → w_A l G T B X k2 n2 M' (pc + len) L (.ref r :: st) Q) : w_A l G T B X k n M pc L st0 Q :=
  h Q (fun v' M' q => by obtain ⟨r, q1, q2⟩ := q; cases q1; exact kk r M' q2) (fun E q M' q => by obtain ⟨r, q1, q2⟩ := q; cases q1)
theorem wc_V {post : w_M → Prop} (h : w_Run l G T B X k n M pc len L st0 st (w_rV post) k2 n2) (kk : ∀ M', post M' → w_A l G T B X k2 n2 M' (pc + len) L st Q) : w_A l G T B X k n M pc L st0 Q :=
  h Q (fun v' M' q => by obtain ⟨q1, q2⟩ := q; cases q1; exact kk M' q2) (fun E q M' q => by obtain ⟨q1, q2⟩ := q; cases q1)
end WC
