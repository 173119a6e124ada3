/-! ===== an exception of the JDK's made (no text, no trace); arrays copied ===== -/
set_option maxRecDepth 100000
/-- 'new E()' of an exception class: its place, the classes between it and Throwable -/
def w_xF (own : String) (ik ic ci : Nat) (names : List String) : Prop := ∃ cls : String, w_CL[ci]? = some (cls, w_T10, 0) ∧ Bundle.fit cls = true ∧ (∀ n ∈ names, Bundle.fit n = true) ∧ Cond.classLink own ik cls ∈ lw_all ∧ Cond.initialized cls ∈ lw_all ∧
  (∀ w ∈ vx_at0 own ic cls names, w ∈ lw_all ∨ (w ∈ lw_tbl ∧ w_nest w = true)) ∧ ∀ w ∈ Cond.classLink own ik cls :: Cond.initialized cls :: vx_at0 own ic cls names, vx_ot w = true
section WX
variable {l : Launch} {G : w_G} {T : w_T} {B : w_R} {X : w_X} {k n : Nat} {M : w_M} {pc : Nat} {L : List (Nat × Value)} {st : List Value} {Q : w_O → w_M → Prop}
set_option maxHeartbeats 2000000 in
theorem wa_make0 {ik ic ci : Nat} (names : List String) (d0 : decode T.1 pc = .ok (.new ik, 3)) (d3 : decode T.1 (pc + 3) = .ok (.dup, 1)) (d4 : decode T.1 (pc + 4) = .ok (.invokespecial ic, 3)) (hF : w_xF T.2.1.cls ik ic ci names) (hk1 : k + 1 ≤ B.2.1) (hn6 : n + 6 ≤ B.2.2) (hBf : names.length + 3 < B.1) (hBl : 13 * (names.length + 1) + 50 ≤ 64 * B.1) (h8 : (st.map fun v => v.category).sum ≤ 8)
    (kk : w_A l G T B X (k + 1) (n + 6) (M.push (.inr (ci, []))) (pc + 7) L (.ref M.sz :: st) Q) : w_A l G T B X k n M pc L st Q := by
  intro O H locs ls hR h0 hl T9 hT Xs
  have hS := w_grown O hR h0 hT Xs
  subst hT
  obtain ⟨cls, hc, hcls, hnames, hk, hini, hat0, hgood⟩ := hF
  have hts := O.2.2.2.2.2.2.1
  have hKK := O.2.2.2.2.2.2.2.2.1
  have hRm : X.2.2.1 = w_rm B := O.2.2.2.2.2.2.2.1
  have hown := O.2.2.2.2.2.1
  have hx := O.1
  have hb := O.2.1
  have hcells : k + 1 ≤ X.2.2.1.cells := by rw [hRm]; exact hk1
  have hslots : n + 6 ≤ X.2.2.1.slots := by rw [hRm]; exact hn6
  have hsize : ls.size = X.2.2.2.2.2.2.2.2.maxLocals := hl.1.trans O.2.2.1.symm
  have hat : ∀ w ∈ vx_at0 T.2.1.cls ic cls names, w.before X.2.2.2.2.2.1 X.2.2.2.1 = true := fun w hw => by
    rcases hat0 w hw with h | ⟨h1, h2⟩
    · exact hts _ h
    · refine va_Nw.use ?_ (hKK.2.1 _ h1 h2)
      cases w <;> first | rfl | cases h2
  have htr : X.2.1.platform.stackTraces = false := (show X.2.1.platform.stackTraces = l.stackTraces by rw [Xs.admits.platform]).trans O.2.2.2.2.2.2.2.2.2.2.1
  have Y := vx_rebase Xs (R' := { frames := X.2.2.1.frames, locals := X.2.2.1.locals, cells := 1, slots := 6 }) (Nat.le_refl _) (Nat.le_refl _) hcells hslots
  obtain ⟨s', hA'⟩ : ∃ z, z = (T9.setVm X.2.2.2.1.vm).setFrames (.invoking X.2.2.2.2.1 X.2.2.2.2.2.1 :: X.2.2.2.2.2.2.1) := ⟨_, rfl⟩
  rw [← hA'] at Y
  have hvm : s'.vm = X.2.2.2.1.vm := by rw [hA']; rfl
  have hhp : s'.heap = T9.heap := by rw [hA']; rfl
  have hW0 : X.2.2.2.1.WarmedH s'.vm := by rw [hvm]; exact State.WarmedH.refl _
  have hat' : ∀ w ∈ vx_at0 T.2.1.cls ic cls names, w.before X.2.2.2.2.2.1 s' = true := fun w hw => vx_ot_at hW0 hvm.symm (hgood w (List.mem_cons_of_mem _ (List.mem_cons_of_mem _ hw))) (hat w hw)
  have hk' : (Cond.classLink T.2.1.cls ik cls).before X.2.2.2.2.2.1 s' = true := vx_ot_at hW0 hvm.symm (hgood _ List.mem_cons_self) (hts _ hk)
  have hini' : (Cond.initialized cls).before X.2.2.2.2.2.1 s' = true := vx_ot_at hW0 hvm.symm (hgood _ (List.mem_cons_of_mem _ List.mem_cons_self)) (hts _ hini)
  have hU := hKK.2.2.2.2.2.2.2.2.1
  have hN := hKK.2.2.2.2.2.2.2.2.2.1
  have hU' : vx_Zq Bundle.tN "UNASSIGNED_STACK" Bundle.steD (w_own G) s' s'.heap := by rw [hhp]; exact vx_Zq.moved hW0.alike ((hU.kept (w_kept O)).kept hS.2.1)
  have hN' : vx_Zq Bundle.tN "SUPPRESSED_SENTINEL" Bundle.listD (w_own G) s' s'.heap := by rw [hhp]; exact vx_Zq.moved hW0.alike ((hN.kept (w_kept O)).kept hS.2.1)
  have h : ∀ w ∈ Bundle.ownAtoms0 T.2.1.cls ic cls names, w.before X.2.2.2.2.2.1 s' = true := vx_own hat' (vx_isRefq hU'.1) (vx_isRefq hN'.1) hU'.2.word hN'.2.word
  have hown' : s'.vm.findClass T.2.1.cls = some X.2.2.2.2.1.cls := by rw [hvm]; exact hown
  have hins : (Cond.instantiable cls 6).before X.2.2.2.2.2.1 s' = true := h _ (by simp [Bundle.ownAtoms0])
  obtain ⟨vm₁, cX, kX, hfX, hkX, -, -, X₁, st1⟩ := Y.newCold hx (own := T.2.1.cls) (C := cls) (index := ik) (n := 6) hown' hk' hins hini'
    (g := F0 X.2.2.2.2.1 pc ls st) rfl (by rw [hb]; exact d0) (Nat.le_refl _) (Nat.le_refl _)
  generalize hT1 : (T9.setVm vm₁).pushCell { cls := cX, slots := kX.instanceTypes.map defaultValue, vm := .none } = T1 at X₁ st1
  have hcat : (Value.ref T9.heap.size).category = 1 := rfl
  have hcellA : T1.heap[T9.heap.size]? = some (freshCell cX kX) := by rw [← hT1]; exact State.heap_pushCell_size _ _
  have d3' : decode X.2.2.2.2.2.2.2.2.code (pc + 3) = .ok (.dup, 1) := by rw [hb]; exact d3
  obtain ⟨V, ce, L9, Z, hL, hlt, hcl9, hvm9, sx⟩ := vx_ctorMade0 X₁ hx htr (own := T.2.1.cls) (cls := cls) (names := names) (ic := ic) hown' hcls hnames h (fun x hx => nomatch hx) hfX hkX hcellA (by rw [hhp]; exact Nat.le_refl _)
    (g := { method := X.2.2.2.2.1, pc := pc + 4, locals := ls, stack := .ref T9.heap.size :: .ref T9.heap.size :: st, locked := none }) rfl hsize (rest := st) rfl
    (by rw [hb]; exact d4) (by show _ < X.2.2.1.frames; rw [hRm]; exact hBf) (by show _ ≤ X.2.2.1.locals; rw [hRm]; simp only [List.map_cons, List.sum_cons, hcat]; show 2 * 0 + _ + _ ≤ 64 * B.1; omega)
  have Z0 := Stand.forget (locs := []) Z (fun y hy => by rw [hL y hy, hhp]; exact Nat.le_refl _)
  obtain ⟨f1, f2⟩ := vx_frame Z0.same
  have f3 : (V.setCell T9.heap.size ce).heap.size ≤ s'.heap.size + 1 := Z0.same.2.2.1
  rw [hhp] at f1 f2 f3
  have hcid : ce.cls = G.1.1 ci := by
    rw [hcl9]
    have h1 := (hKK.1.1 ci _ hc).2.1
    rw [hvm] at hfX
    exact Option.some.inj (hfX.symm.trans h1)
  have hh : (V.setCell T9.heap.size ce).heap[T9.heap.size]? = some ce := heapAt_setCell_self (s := V) ce hlt
  have hlt2 : T9.heap.size < (V.setCell T9.heap.size ce).heap.size := (Array.getElem?_eq_some_iff.mp hh).1
  subst hA'
  have X5 := vx_back9 Xs Y Z0
  have X6 : Stand X.1 l X.2.1 X.2.2.1 X.2.2.2.1 X.2.2.2.2.1 X.2.2.2.2.2.1 X.2.2.2.2.2.2.1 X.2.2.2.2.2.2.2.1 X.2.2.2.2.2.2.2.2 (V.setCell T9.heap.size ce) locs (k + 1) (n + 6) := { X5 with same := X5.same.mono (by omega) (by omega) }
  have hRep : w_Rep G (M.push (.inr (ci, []))) (V.setCell T9.heap.size ce).heap := hR.push (by
      rw [← hR.1]
      exact ⟨_, hc, ce, hh, hcid, hvm9, fun k hk => absurd hk (Nat.not_lt_zero k)⟩) (by omega) (fun q hq => f2 q hq (fun z hz => nomatch hz))
  rw [← hR.1] at kk
  obtain ⟨t, a1, b1⟩ := kk O (V.setCell T9.heap.size ce).heap locs ls hRep h0 hl _ rfl X6
  refine ⟨t, st1 _ ?_, b1⟩
  show Steps X.1.tables X.2.1 X.2.2.2.2.2.2.1 (T1.setTop { method := X.2.2.2.2.1, pc := pc + 3, locals := ls, stack := .ref T9.heap.size :: st, locked := none }) _
  jvm_step X₁.here [X₁.here.top, hx, d3', Value.category]
  exact sx _ a1
theorem wa_copyi {a0 a1 n0 n1 idx : Nat} {f g : Nat → Int32} {xs xd xm : Int32} (sp dp m : Nat) (hd : decode T.1 pc = .ok (.invokestatic idx, 3)) (hlink : Cond.methodLink T.2.1.cls idx arraycopyName ∈ lw_all) (hM0 : M.get a0 = some (.inl (.int, n0, .inl f))) (hM1 : M.get a1 = some (.inl (.int, n1, .inl g))) (es : xs = nI sp) (ed : xd = nI dp) (em : xm = nI m) (h4 : sp + m ≤ n0) (h5 : dp + m ≤ n1) (hb0 : n0 < 2 ^ 31) (hb1 : n1 < 2 ^ 31) (hB : Nat.ble 1 B.1 = true) (h8 : (st.map fun v => v.category).sum ≤ 8)
    (kk : w_A l G T B X k n (M.set a1 (.inl (.int, n1, .inl (va_cpy f g sp dp m)))) (pc + 3) L st Q) : w_A l G T B X k n M pc L (.int xm :: .int xd :: .ref a1 :: .int xs :: .ref a0 :: st) Q := by
  subst es; subst ed; subst em
  intro O H locs ls hR h0 hl T9 hT Xs
  have hts := O.2.2.2.2.2.2.1
  have hK := O.2.2.2.2.2.2.2.2.1
  have hRm : X.2.2.1 = w_rm B := O.2.2.2.2.2.2.2.1
  have hB := Nat.le_of_ble_eq_true hB
  have c1 : (nI sp).toNatClampNeg = sp := nI_clamp (by omega)
  have c2 : (nI dp).toNatClampNeg = dp := nI_clamp (by omega)
  have c3 : (nI m).toNatClampNeg = m := nI_clamp (by omega)
  have hc0 : H[a0]? = some (vp_cell (G.2.1 .int) (n0, .inl f)) := w_P1 (hR.arr hM0)
  have hc1 : H[a1]? = some (vp_cell (G.2.1 .int) (n1, .inl g)) := w_P1 (hR.arr hM1)
  obtain ⟨-, k0, hk0, cm0, hkk0⟩ := (hK.1.2 0 _ (w_ty hK 0 rfl)).1 n0 (fun j => .int (f j))
  obtain ⟨vm', X', step⟩ := Xs.arraycopy O.1 O.2.2.2.2.2.1 (hts _ hlink) (hts _ q374) (hts _ q373) (hts _ q89) (src := a0) (dst := a1) (cs := vp_cell (G.2.1 .int) (n0, .inl f)) (cd := vp_cell (G.2.1 .int) (n1, .inl g)) (srcPos := nI sp) (destPos := nI dp) (n := nI m) (by rw [hT]; exact hc0) (by rw [hT]; exact hc1)
    (fun _ h => by cases h) (fun _ h => by cases h) (fun h => by cases h) (fun h => by cases h) hk0 hk0 hkk0 hkk0 rfl (nI_pos (by omega)) (nI_pos (by omega)) (nI_pos (by omega))
    (by rw [nI_toInt (by omega), nI_toInt (by omega)]; show ¬ _ > ((arrV _ n0 (fun j => .int (f j))).slots.size : Int); rw [arrV_size]; omega)
    (by rw [nI_toInt (by omega), nI_toInt (by omega)]; show ¬ _ > ((arrV _ n1 (fun j => .int (g j))).slots.size : Int); rw [arrV_size]; omega)
    (fun vm₁ _ i hi => by
      have e : (vp_cell (G.2.1 .int) (n0, .inl f)).slots.getD ((nI sp).toNatClampNeg + i) .null = .int (f ((nI sp).toNatClampNeg + i)) := by
        show (arrV _ n0 (fun j => .int (f j))).slots.getD _ _ = _
        rw [Array.getD_eq_getD_getElem?, arrV_read _ _ (by omega)]
        rfl
      refine ⟨?_, ?_⟩
      · rw [e]
        rfl
      · rw [e]
        exact trivial)
    (g := F0 X.2.2.2.2.1 pc ls (.int (nI m) :: .int (nI dp) :: .ref a1 :: .int (nI sp) :: .ref a0 :: st)) rfl (hl.1.trans O.2.2.1.symm) (rest := st) rfl (by rw [O.2.1]; exact hd) (by rw [hRm]; exact hB) (by rw [hRm]; show 2 * 0 + _ + _ ≤ 64 * B.1; have h20 : nativeFrameWords "java/lang/System" "arraycopy" 5 ≤ 20 := (by decide); omega)
  have e1 : copied (vp_cell (G.2.1 .int) (n0, .inl f)) (vp_cell (G.2.1 .int) (n1, .inl g)) (nI sp) (nI dp) (nI m) = vp_cell (G.2.1 .int) (n1, .inl (va_cpy f g sp dp m)) := by
    have h := va_copied (n0 := n0) (n1 := n1) (sp := sp) (dp := dp) (n := m) (fun z => .int z) (G.2.1 .int) (G.2.1 .int) f g h4
    show (vp_cell (G.2.1 .int) (n1, .inl g)).storeRun (nI dp).toNatClampNeg ((vp_cell (G.2.1 .int) (n0, .inl f)).stretch (nI sp).toNatClampNeg (nI m).toNatClampNeg) = _
    rw [c1, c2, c3]
    exact h
  rw [e1] at X' step
  have hlt : a1 < H.size := (Array.getElem?_eq_some_iff.mp hc1).1
  have hRep : w_Rep G (M.set a1 (.inl (.int, n1, .inl (va_cpy f g sp dp m)))) ((T9.setVm vm').setCell a1 (vp_cell (G.2.1 .int) (n1, .inl (va_cpy f g sp dp m)))).heap := by
    have e2 : ((T9.setVm vm').setCell a1 (vp_cell (G.2.1 .int) (n1, .inl (va_cpy f g sp dp m)))).heap = H.setIfInBounds a1 (vp_cell (G.2.1 .int) (n1, .inl (va_cpy f g sp dp m))) := by rw [← hT]; rfl
    rw [e2]
    exact hR.set hM1 (show (H.setIfInBounds a1 _)[a1]? = some _ by simp [Array.getElem?_setIfInBounds, hlt]) (by simp) (fun q hq => by simp [Array.getElem?_setIfInBounds, Ne.symm hq])
  obtain ⟨t, a9, b9⟩ := kk O _ _ ls hRep (t_lL h0 (fun q hq => by
    obtain ⟨z, -, hz⟩ := List.mem_map.mp hq
    rw [← hz]
    exact (hR.2.2.1 a1 _ hM1).1)) hl _ rfl X'
  exact ⟨t, step t a9, b9⟩
theorem wa_copyq {a0 a1 n0 n1 idx : Nat} {f g : Nat → Option Nat} {xs xd xm : Int32} (sp dp m : Nat) (hd : decode T.1 pc = .ok (.invokestatic idx, 3)) (hlink : Cond.methodLink T.2.1.cls idx arraycopyName ∈ lw_all) (hM0 : M.get a0 = some (.inl (.object "java/lang/Object", n0, .inr (.inr (.inr (.inr f)))))) (hM1 : M.get a1 = some (.inl (.object "java/lang/Object", n1, .inr (.inr (.inr (.inr g)))))) (es : xs = nI sp) (ed : xd = nI dp) (em : xm = nI m) (h4 : sp + m ≤ n0) (h5 : dp + m ≤ n1) (hb0 : n0 < 2 ^ 31) (hb1 : n1 < 2 ^ 31) (hel : ∀ i : Nat, i < m → ∀ y : Nat, f (sp + i) = some y → ∃ (ci : Nat) (vs : List Value) (C : String) (F : u_T) (N : Nat), M.get y = some (.inr (ci, vs)) ∧ w_CL[ci]? = some (C, F, N) ∧ Cond.castable C "java/lang/Object" ∈ lw_tbl) (hB : Nat.ble 1 B.1 = true) (h8 : (st.map fun v => v.category).sum ≤ 8)
    (kk : w_A l G T B X k n (M.set a1 (.inl (.object "java/lang/Object", n1, .inr (.inr (.inr (.inr (va_cpy f g sp dp m))))))) (pc + 3) L st Q) : w_A l G T B X k n M pc L (.int xm :: .int xd :: .ref a1 :: .int xs :: .ref a0 :: st) Q := by
  subst es; subst ed; subst em
  intro O H locs ls hR h0 hl T9 hT Xs
  have hts := O.2.2.2.2.2.2.1
  have hK := O.2.2.2.2.2.2.2.2.1
  have hRm : X.2.2.1 = w_rm B := O.2.2.2.2.2.2.2.1
  have hB := Nat.le_of_ble_eq_true hB
  have c1 : (nI sp).toNatClampNeg = sp := nI_clamp (by omega)
  have c2 : (nI dp).toNatClampNeg = dp := nI_clamp (by omega)
  have c3 : (nI m).toNatClampNeg = m := nI_clamp (by omega)
  have hc0 : H[a0]? = some (vp_cell (G.2.1 (.object "java/lang/Object")) (n0, .inr (.inr (.inr (.inr f))))) := w_P1 (hR.arr hM0)
  have hc1 : H[a1]? = some (vp_cell (G.2.1 (.object "java/lang/Object")) (n1, .inr (.inr (.inr (.inr g))))) := w_P1 (hR.arr hM1)
  obtain ⟨-, k0, hk0, cm0, hkk0⟩ := (hK.1.2 6 _ (w_ty hK 6 rfl)).1 n0 (fun j => va_rf (f j))
  obtain ⟨vm', X', step⟩ := Xs.arraycopy O.1 O.2.2.2.2.2.1 (hts _ hlink) (hts _ q374) (hts _ q373) (hts _ q89) (src := a0) (dst := a1) (cs := vp_cell (G.2.1 (.object "java/lang/Object")) (n0, .inr (.inr (.inr (.inr f))))) (cd := vp_cell (G.2.1 (.object "java/lang/Object")) (n1, .inr (.inr (.inr (.inr g))))) (srcPos := nI sp) (destPos := nI dp) (n := nI m) (by rw [hT]; exact hc0) (by rw [hT]; exact hc1)
    (fun _ h => by cases h) (fun _ h => by cases h) (fun h => by cases h) (fun h => by cases h) hk0 hk0 hkk0 hkk0 rfl (nI_pos (by omega)) (nI_pos (by omega)) (nI_pos (by omega))
    (by rw [nI_toInt (by omega), nI_toInt (by omega)]; show ¬ _ > ((arrV _ n0 (fun j => va_rf (f j))).slots.size : Int); rw [arrV_size]; omega)
    (by rw [nI_toInt (by omega), nI_toInt (by omega)]; show ¬ _ > ((arrV _ n1 (fun j => va_rf (g j))).slots.size : Int); rw [arrV_size]; omega)
    (fun vm₁ hal i hi => by
      have e : (vp_cell (G.2.1 (.object "java/lang/Object")) (n0, .inr (.inr (.inr (.inr f))))).slots.getD ((nI sp).toNatClampNeg + i) .null = va_rf (f ((nI sp).toNatClampNeg + i)) := by
        show (arrV _ n0 (fun j => va_rf (f j))).slots.getD _ _ = _
        rw [Array.getD_eq_getD_getElem?, arrV_read _ _ (by omega)]
        rfl
      rw [e]
      cases hy : f ((nI sp).toNatClampNeg + i) with
      | none => exact ⟨rfl, trivial⟩
      | some y =>
        obtain ⟨ci, vs, C, F, N, z1, z2, z3⟩ := hel i (by omega) y (by rw [← c1]; exact hy)
        obtain ⟨cellV, g1, g2, ⟨kC, hkC⟩, hasg⟩ := w_Any hK hR z1 z2 z3
        obtain ⟨kA, comp, r1, r2, r3, -⟩ := (hK.1.2 6 _ (w_ty hK 6 rfl)).2
        cases hk0.symm.trans r1
        cases hkk0.symm.trans r2
        obtain ⟨kE, hkE, -⟩ := Vm.findClass_spec r3
        obtain ⟨kC', hkC', -⟩ := hal.2.2 _ _ hkC
        obtain ⟨kE', hkE', -⟩ := hal.2.2 _ _ hkE
        refine ⟨rfl, cellV, (show T9.heap[y]? = some cellV by rw [hT]; exact g1), (fun q h => by rw [h] at g2; cases g2), ⟨kC', hkC'⟩, ?_, ?_⟩
        · exact ⟨kE', hkE'⟩
        · show vm₁.assignable _ _ = true
          rw [hal.assignable]
          exact hasg _ r3)
    (g := F0 X.2.2.2.2.1 pc ls (.int (nI m) :: .int (nI dp) :: .ref a1 :: .int (nI sp) :: .ref a0 :: st)) rfl (hl.1.trans O.2.2.1.symm) (rest := st) rfl (by rw [O.2.1]; exact hd) (by rw [hRm]; exact hB) (by rw [hRm]; show 2 * 0 + _ + _ ≤ 64 * B.1; have h20 : nativeFrameWords "java/lang/System" "arraycopy" 5 ≤ 20 := (by decide); omega)
  have e1 : copied (vp_cell (G.2.1 (.object "java/lang/Object")) (n0, .inr (.inr (.inr (.inr f))))) (vp_cell (G.2.1 (.object "java/lang/Object")) (n1, .inr (.inr (.inr (.inr g))))) (nI sp) (nI dp) (nI m) = vp_cell (G.2.1 (.object "java/lang/Object")) (n1, .inr (.inr (.inr (.inr (va_cpy f g sp dp m))))) := by
    have h := va_copied (n0 := n0) (n1 := n1) (sp := sp) (dp := dp) (n := m) (fun z => va_rf z) (G.2.1 (.object "java/lang/Object")) (G.2.1 (.object "java/lang/Object")) f g h4
    show (vp_cell (G.2.1 (.object "java/lang/Object")) (n1, .inr (.inr (.inr (.inr g))))).storeRun (nI dp).toNatClampNeg ((vp_cell (G.2.1 (.object "java/lang/Object")) (n0, .inr (.inr (.inr (.inr f))))).stretch (nI sp).toNatClampNeg (nI m).toNatClampNeg) = _
    rw [c1, c2, c3]
    exact h
  rw [e1] at X' step
  have hlt : a1 < H.size := (Array.getElem?_eq_some_iff.mp hc1).1
  have hRep : w_Rep G (M.set a1 (.inl (.object "java/lang/Object", n1, .inr (.inr (.inr (.inr (va_cpy f g sp dp m))))))) ((T9.setVm vm').setCell a1 (vp_cell (G.2.1 (.object "java/lang/Object")) (n1, .inr (.inr (.inr (.inr (va_cpy f g sp dp m))))))).heap := by
    have e2 : ((T9.setVm vm').setCell a1 (vp_cell (G.2.1 (.object "java/lang/Object")) (n1, .inr (.inr (.inr (.inr (va_cpy f g sp dp m))))))).heap = H.setIfInBounds a1 (vp_cell (G.2.1 (.object "java/lang/Object")) (n1, .inr (.inr (.inr (.inr (va_cpy f g sp dp m)))))) := by rw [← hT]; rfl
    rw [e2]
    exact hR.set hM1 (show (H.setIfInBounds a1 _)[a1]? = some _ by simp [Array.getElem?_setIfInBounds, hlt]) (by simp) (fun q hq => by simp [Array.getElem?_setIfInBounds, Ne.symm hq])
  obtain ⟨t, a9, b9⟩ := kk O _ _ ls hRep (t_lL h0 (fun q hq => by
    obtain ⟨z, -, hz⟩ := List.mem_map.mp hq
    rw [← hz]
    exact (hR.2.2.1 a1 _ hM1).1)) hl _ rfl X'
  exact ⟨t, step t a9, b9⟩
end WX
