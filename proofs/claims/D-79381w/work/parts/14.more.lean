/-! ===== more rows ===== -/
set_option maxRecDepth 100000
section WN
variable {l : Launch} {G : w_G} {T : w_T} {B : w_R} {X : w_X} {k n : Nat} {M : w_M} {pc : Nat} {L : List (Nat × Value)} {st : List Value} {Q : w_O → w_M → Prop}
theorem w_grown {H : Heap} {locs : List Loc} {T9 : State} (O : w_ok l G T B X) (hR : w_Rep G M H) (h0 : ∀ z ∈ locs, w_lo G ≤ z.base) (hT : T9.heap = H) (Xs : Stand X.1 l X.2.1 X.2.2.1 X.2.2.2.1 X.2.2.2.2.1 X.2.2.2.2.2.1 X.2.2.2.2.2.2.1 X.2.2.2.2.2.2.2.1 X.2.2.2.2.2.2.2.2 T9 locs k n) : va_S (w_own G) X.2.2.2.1.heap H locs := by
  have h1 : X.2.2.2.1.heap.size ≤ T9.heap.size := Xs.same.2.1
  obtain ⟨h2, h3⟩ := O.2.2.2.2.2.2.2.2.2.1
  refine ⟨by rw [← hT]; exact h1, fun q hq hA => ?_, h0⟩
  have hlt : q < w_lo G := Nat.lt_of_not_le hA
  rw [hR.2.2.2 q hlt, h3 q hlt]
theorem w_kept (O : w_ok l G T B X) : ∀ a : Nat, a < G.2.2.1.size → ¬ w_own G a → X.2.2.2.1.heap[a]? = G.2.2.1[a]? := fun a h _ => O.2.2.2.2.2.2.2.2.2.1.2 a h
/-- Object's constructor -/
theorem wa_objInit {a idx : Nat} (hd : decode T.1 pc = .ok (.invokespecial idx, 3)) (hlink : Cond.methodLink T.2.1.cls idx objectInit ∈ lw_all) (hB : Nat.ble 1 B.1 = true) (h8 : (st.map fun v => v.category).sum ≤ 8)
    (kk : w_A l G T B X k n M (pc + 3) L st Q) : w_A l G T B X k n M pc L (.ref a :: st) Q := by
  intro O H locs ls hR h0 hl
  have hts := O.2.2.2.2.2.2.1
  have hRm : X.2.2.1 = w_rm B := O.2.2.2.2.2.2.2.1
  have hB := Nat.le_of_ble_eq_true hB
  have h9 := w_sum8 (pc := pc) (m := X.2.2.2.2.1) (ls := ls) (st0 := .ref a :: st) h8
  refine W.objInit O.1 O.2.1 O.2.2.2.2.2.1 (hts _ hlink) (hts _ q126) (hts _ q127) rfl (hl.1.trans O.2.2.1.symm) rfl hd (by rw [hRm]; exact hB) ?_ (kk O H locs ls hR h0 hl)
  rw [hRm]
  show _ + 12 ≤ 64 * B.1
  omega
theorem wa_lcmp {x y : Int64} (hd : decode T.1 pc = .ok (.lcmp, 1)) (kk : w_A l G T B X k n M (pc + 1) L (.int (lg_cmp x y) :: st) Q) : w_A l G T B X k n M pc L (.long y :: .long x :: st) Q := fun O H locs ls hR h0 hl => W.lcmp O.1 O.2.1 hd (kk O H locs ls hR h0 hl)
theorem wa_ldc {idx : Nat} (v : Int32) (hd : decode T.1 pc = .ok (.ldc idx, 2)) (hc : Cond.constant T.2.1.cls idx v ∈ lw_all) (kk : w_A l G T B X k n M (pc + 2) L (.int v :: st) Q) : w_A l G T B X k n M pc L st Q := fun O H locs ls hR h0 hl => lv_ldc O.1 O.2.1 O.2.2.2.2.2.1 (O.2.2.2.2.2.2.1 _ hc) hd (kk O H locs ls hR h0 hl)
theorem wa_ldc2 {idx : Nat} (v : Int64) (hd : decode T.1 pc = .ok (.ldc2_w idx, 3)) (hc : Cond.constantLong T.2.1.cls idx v ∈ lw_all) (kk : w_A l G T B X k n M (pc + 3) L (.long v :: st) Q) : w_A l G T B X k n M pc L st Q := fun O H locs ls hR h0 hl => lv_ldc2 O.1 O.2.1 O.2.2.2.2.2.1 (O.2.2.2.2.2.2.1 _ hc) hd (kk O H locs ls hR h0 hl)
/-- a static field that nobody writes -/
theorem w_gets {C nm ds ref : String} {idx : Nat} {v : Value} (hd : decode T.1 pc = .ok (.getstatic idx, 3)) (hZ : ∀ s, w_K G s → va_Z C nm ds v (w_own G) s G.2.2.1) (hlink : Cond.fieldLink T.2.1.cls idx C nm ds ∈ lw_all)
    (kk : w_A l G T B X k n M (pc + 3) L (v :: st) Q) : w_A l G T B X k n M pc L st Q := fun O H locs ls hR h0 hl T9 hT Xs =>
  va_gets O.1 O.2.1 (va_Z.kept (hZ _ O.2.2.2.2.2.2.2.2.1) (w_kept O)) (w_grown O hR h0 hT Xs) O.2.2.2.2.2.1 (O.2.2.2.2.2.2.1 _ hlink) (fun _ h => h) hd (kk O H locs ls hR h0 hl) T9 hT Xs
theorem wa_getdflt {idx : Nat} (hd : decode T.1 pc = .ok (.getstatic idx, 3)) (hlink : Cond.fieldLink T.2.1.cls idx "java/util/ArrayList" "DEFAULTCAPACITY_EMPTY_ELEMENTDATA" "[Ljava/lang/Object;" ∈ lw_all)
    (kk : w_A l G T B X k n M (pc + 3) L (.ref (w_ad G 0) :: st) Q) : w_A l G T B X k n M pc L st Q := w_gets (ref := "") hd (fun s h => h.2.2.2.2.2.1) hlink kk
theorem wa_getpresent {idx : Nat} (hd : decode T.1 pc = .ok (.getstatic idx, 3)) (hlink : Cond.fieldLink T.2.1.cls idx "java/util/TreeSet" "PRESENT" "Ljava/lang/Object;" ∈ lw_all)
    (kk : w_A l G T B X k n M (pc + 3) L (.ref (w_ad G 1) :: st) Q) : w_A l G T B X k n M pc L st Q := w_gets (ref := "") hd (fun s h => h.2.2.2.2.2.2.2.1) hlink kk
/-- the length of ArrayList's own empty array -/
theorem wa_alenD (hd : decode T.1 pc = .ok (.arraylength, 1)) (kk : w_A l G T B X k n M (pc + 1) L (.int 0 :: st) Q) : w_A l G T B X k n M pc L (.ref (w_ad G 0) :: st) Q := by
  intro O H locs ls hR h0 hl
  obtain ⟨cell, h1, h2, h3, h4, h5, h6, h7⟩ := O.2.2.2.2.2.2.2.2.1.2.2.2.2.2.2.1
  exact W.alen (n := 0) O.1 O.2.1 (by rw [hR.2.2.2 _ (Nat.lt_of_not_le h7)]; exact h1) h2 h5 rfl rfl hd (kk O H locs ls hR h0 hl)
/-- an object of the world, or of the fixed heap, that can be cast -/
theorem wa_castY {a ci idx : Nat} {fs : List Value} {nm C : String} {F : u_T} {N : Nat} (hd : decode T.1 pc = .ok (.checkcast idx, 3)) (hlink : Cond.classLink T.2.1.cls idx nm ∈ lw_all) (hM : M.get a = some (.inr (ci, fs))) (hc : w_CL[ci]? = some (C, F, N)) (hw : Cond.castable C nm ∈ lw_tbl)
    (kk : w_A l G T B X k n M (pc + 3) L (.ref a :: st) Q) : w_A l G T B X k n M pc L (.ref a :: st) Q := by
  intro O H locs ls hR h0 hl
  have hK := O.2.2.2.2.2.2.2.2.1
  exact va_castY O.1 O.2.1 O.2.2.2.2.2.1 (O.2.2.2.2.2.2.1 _ hlink) (hK.2.1 _ hw rfl) (va_recv (q0 := 0) hK.1 (hR.obj hM) hc rfl) hd (kk O H locs ls hR h0 hl)
/-- .. to its own class -/
theorem wa_castS {a ci idx : Nat} {fs : List Value} {C : String} {F : u_T} {N : Nat} (hd : decode T.1 pc = .ok (.checkcast idx, 3)) (hlink : Cond.classLink T.2.1.cls idx C ∈ lw_all) (hM : M.get a = some (.inr (ci, fs))) (hc : w_CL[ci]? = some (C, F, N))
    (kk : w_A l G T B X k n M (pc + 3) L (.ref a :: st) Q) : w_A l G T B X k n M pc L (.ref a :: st) Q := by
  intro O H locs ls hR h0 hl
  have hK := O.2.2.2.2.2.2.2.2.1
  exact va_castS O.1 O.2.1 O.2.2.2.2.2.1 (O.2.2.2.2.2.2.1 _ hlink) (hK.1.1 ci _ hc).2 (va_recv (q0 := 0) hK.1 (hR.obj hM) hc rfl) hd (kk O H locs ls hR h0 hl)
theorem wa_castN {idx : Nat} (hd : decode T.1 pc = .ok (.checkcast idx, 3)) (kk : w_A l G T B X k n M (pc + 3) L (.null :: st) Q) : w_A l G T B X k n M pc L (.null :: st) Q := fun O H locs ls hR h0 hl => lv_castN O.1 O.2.1 hd (kk O H locs ls hR h0 hl)
/-- a fresh array of numbers -/
theorem wa_newa {at9 : ArrayType} {m : Int32} (ty : FieldType) (N : Nat) (x : vp_A) (ti : Nat) (hd : decode T.1 pc = .ok (.newarray at9, 2)) (hty : newarray.typeOf at9 = ty) (hti : w_tys[ti]? = some ty) (harr : Cond.arrayClass ty ∈ lw_all) (ha : ∀ cA : ClassId, vp_cell cA x = arrV cA N (fun _ => defaultValue ty))
    (hm : m = nI N) (hN : N * componentBytes ty ≤ 536870912) (hN2 : N < 2 ^ 31) (h1 : k + 1 ≤ B.2.1) (h2 : n + N ≤ B.2.2) (kk : w_A l G T B X (k + 1) (n + N) (M.push (.inl (ty, x))) (pc + 2) L (.ref M.sz :: st) Q) : w_A l G T B X k n M pc L (.int m :: st) Q := by
  subst hty
  subst hm
  intro O H locs ls hR h0 hl
  have hRm : X.2.2.1 = w_rm B := O.2.2.2.2.2.2.2.1
  have hK := O.2.2.2.2.2.2.2.2.1
  refine va_newaK O.1 O.2.1 (O.2.2.2.2.2.2.1 _ harr) rfl hd rfl (nI_pos hN2) (nI_clamp hN2) hN (by rw [hRm]; exact h1) (by rw [hRm]; exact h2) hR.1 fun H1 cA e1 z1 o1 hAr hNm => ?_
  refine kk O H1 locs ls (hR.push ?_ (by rw [hR.1]; exact z1) (by rw [hR.1]; exact o1)) h0 hl
  have hc : cA = G.2.1 (newarray.typeOf at9) := by
    have h3 := (hK.1.2 ti _ (w_ty hK ti hti)).2
    have h4 : X.2.2.2.1.vm.findClass ("[" ++ (newarray.typeOf at9).toString) = some (G.2.1 (newarray.typeOf at9)) := by cases at9 <;> exact h3
    exact Option.some.inj (hNm.symm.trans h4)
  subst hc
  show H1[M.sz]? = some (vp_cell _ _)
  rw [ha]
  exact e1
/-- a fresh array of Objects -/
theorem wa_newq {idx : Nat} {m : Int32} (N : Nat) (hd : decode T.1 pc = .ok (.anewarray idx, 3)) (hlink : Cond.classLink T.2.1.cls idx "java/lang/Object" ∈ lw_all) (hm : m = nI N) (hN : N * 4 ≤ 536870912) (h1 : k + 1 ≤ B.2.1) (h2 : n + N ≤ B.2.2)
    (kk : w_A l G T B X (k + 1) (n + N) (M.push (.inl (.object "java/lang/Object", N, .inr (.inr (.inr (.inr (fun _ => none))))))) (pc + 3) L (.ref M.sz :: st) Q) : w_A l G T B X k n M pc L (.int m :: st) Q := by
  subst hm
  intro O H locs ls hR h0 hl
  have hRm : X.2.2.1 = w_rm B := O.2.2.2.2.2.2.2.1
  have hK := O.2.2.2.2.2.2.2.2.1
  have hN2 : N < 2 ^ 31 := by omega
  have hcl : (nI N).toNatClampNeg = N := nI_clamp hN2
  refine W.anew O.1 O.2.1 O.2.2.2.2.2.1 (O.2.2.2.2.2.2.1 _ hlink) (va_AO.use hK.2.2.1) rfl hd rfl (nI_pos hN2) (by rw [hcl]; exact hN) (by rw [hRm]; exact h1) (by rw [hRm, hcl]; exact h2) fun cA kA comp f1 f2 f3 f4 => ?_
  rw [hcl, hR.1]
  refine kk O _ locs ls (hR.push ?_ (by simp) (fun q hq => by rw [Array.getElem?_push, if_neg (Nat.ne_of_lt hq)])) h0 hl
  have hc : cA = G.2.1 (.object "java/lang/Object") := by
    obtain ⟨-, -, -, -, -, h4⟩ := (hK.1.2 6 _ (w_ty hK 6 rfl)).2
    exact Option.some.inj (f1.symm.trans h4)
  subst hc
  show (H.push _)[M.sz]? = some (vp_cell _ _)
  rw [vp_cell_q, ← hR.1, Array.getElem?_push_size]
  congr 1
  rw [← arrV_new]
  rfl
theorem w_Any {H : Heap} {ci v : Nat} {vs : List Value} {C : String} {F : u_T} {N : Nat} {s : State} (hK : w_K G s) (hR : w_Rep G M H) (hM : M.get v = some (.inr (ci, vs))) (hc : w_CL[ci]? = some (C, F, N)) (hw : Cond.castable C "java/lang/Object" ∈ lw_tbl) : va_Any "java/lang/Object" s H v := by
  refine va_rAny (q0 := 0) hK.1 (hR.obj hM) rfl hc (fun comp c0 h1 h2 => ?_)
  have h3 : (Cond.castable C "java/lang/Object").before #[] s = true := hK.2.1 _ hw rfl
  obtain ⟨c3, c4, hc3, hc4, hasg⟩ := Cond.castable_spec h3
  cases h2.symm.trans hc3
  cases h1.symm.trans hc4
  exact hasg
/-- storing an object of a class that is in the list -/
theorem wa_aast {a m v ci : Nat} {vs : List Value} {f : Nat → Option Nat} {i : Int32} {C : String} {F : u_T} {N : Nat} (hd : decode T.1 pc = .ok (.aastore, 1)) (hM : M.get a = some (.inl (.object "java/lang/Object", m, .inr (.inr (.inr (.inr f)))))) (hv : M.get v = some (.inr (ci, vs))) (hc : w_CL[ci]? = some (C, F, N)) (hw : Cond.castable C "java/lang/Object" ∈ lw_tbl) (hi : vp_in i m)
    (kk : w_A l G T B X k n (M.set a (.inl (.object "java/lang/Object", m, .inr (.inr (.inr (.inr (va_up f i.toNatClampNeg (some v)))))))) (pc + 1) L st Q) : w_A l G T B X k n M pc L (.ref v :: .int i :: .ref a :: st) Q := by
  intro O H locs ls hR h0 hl
  have hK := O.2.2.2.2.2.2.2.2.1
  have hlt : i.toNatClampNeg < m := Nat.not_le.mp fun q => hi (Or.inr q)
  obtain ⟨cellV, g1, g3, ⟨kC, hkC⟩, hasg⟩ := w_Any hK hR hv hc hw
  obtain ⟨kA, comp, k1, k2, k3, -⟩ := (hK.1.2 6 _ (w_ty hK 6 rfl)).2
  obtain ⟨kE, hkE, -⟩ := Vm.findClass_spec k3
  refine W.aast O.1 O.2.1 (w_P1 (hR.arr hM)) (fun q h => by cases h) (fun h => by cases h) k1 k2 rfl hkE ⟨fun q => hi (Or.inl q), by show _ < (arrV _ _ _).slots.size; rw [arrV_size]; exact hlt⟩ g1 (fun q h => by rw [h] at g3; cases g3) hkC (hasg _ k3) rfl rfl hd fun H1 e z oq => ?_
  refine kk O H1 _ ls (hR.set hM ?_ z oq) (t_lc h0 (hR.2.2.1 a _ hM).1) hl
  show H1[a]? = some (vp_cell _ _)
  rw [e]
  rw [vp_cell_q, vp_cell_q, arrV_store]
  congr 2
  funext q
  by_cases hq : q = i.toNatClampNeg
  · subst hq
    simp [updV, va_up, va_rf]
  · simp [updV, va_up, hq]
theorem wa_aastN {a m : Nat} {f : Nat → Option Nat} {i : Int32} (hd : decode T.1 pc = .ok (.aastore, 1)) (hM : M.get a = some (.inl (.object "java/lang/Object", m, .inr (.inr (.inr (.inr f)))))) (hi : vp_in i m)
    (kk : w_A l G T B X k n (M.set a (.inl (.object "java/lang/Object", m, .inr (.inr (.inr (.inr (va_up f i.toNatClampNeg none))))))) (pc + 1) L st Q) : w_A l G T B X k n M pc L (.null :: .int i :: .ref a :: st) Q := by
  intro O H locs ls hR h0 hl
  have hK := O.2.2.2.2.2.2.2.2.1
  refine va_WaastN (C := "java/lang/Object") O.1 O.2.1 (w_P1 (hR.arr hM)) ((hK.1.2 6 _ (w_ty hK 6 rfl)).1 m (fun j => va_rf (f j))) (fun h => by cases h) (by show ¬ (i < 0 ∨ (arrV _ _ _).slots.size ≤ _); rw [arrV_size]; exact hi) rfl rfl hd fun H1 e z oq => ?_
  refine kk O H1 _ ls (hR.set hM ?_ z oq) (t_lc h0 (hR.2.2.1 a _ hM).1) hl
  show H1[a]? = some (vp_cell _ _)
  rw [e]
  rw [vp_cell_q, vp_cell_q, arrV_store]
  congr 2
  funext q
  by_cases hq : q = i.toNatClampNeg
  · subst hq
    simp [updV, va_up, va_rf]
  · simp [updV, va_up, hq]
/-- a static of Throwable's: null or some reference -/
theorem wa_getZq {C nm ds : String} {idx : Nat} (hd : decode T.1 pc = .ok (.getstatic idx, 3)) (hZ : ∀ s, w_K G s → va_Zq C nm ds (w_own G) s G.2.2.1) (hlink : Cond.fieldLink T.2.1.cls idx C nm ds ∈ lw_all)
    (kk : ∀ pv : Option Nat, w_A l G T B X k n M (pc + 3) L (va_rf pv :: st) Q) : w_A l G T B X k n M pc L st Q := fun O H locs ls hR h0 hl => by
  rcases hZ _ O.2.2.2.2.2.2.2.2.1 with h | ⟨t, h⟩
  · intro T9 hT Xs
    exact va_gets O.1 O.2.1 (va_Z.kept h (w_kept O)) (w_grown O hR h0 hT Xs) O.2.2.2.2.2.1 (O.2.2.2.2.2.2.1 _ hlink) (fun _ h => h) hd (kk none O H locs ls hR h0 hl) T9 hT Xs
  · intro T9 hT Xs
    exact va_gets O.1 O.2.1 (va_Z.kept h (w_kept O)) (w_grown O hR h0 hT Xs) O.2.2.2.2.2.1 (O.2.2.2.2.2.2.1 _ hlink) (fun _ h => h) hd (kk (some t) O H locs ls hR h0 hl) T9 hT Xs
theorem wa_getU {idx : Nat} (hd : decode T.1 pc = .ok (.getstatic idx, 3)) (hlink : Cond.fieldLink T.2.1.cls idx Bundle.tN "UNASSIGNED_STACK" Bundle.steD ∈ lw_all) (kk : ∀ pv : Option Nat, w_A l G T B X k n M (pc + 3) L (va_rf pv :: st) Q) : w_A l G T B X k n M pc L st Q := wa_getZq hd (fun s h => h.2.2.2.2.2.2.2.2.1.1) hlink kk
theorem wa_getS {idx : Nat} (hd : decode T.1 pc = .ok (.getstatic idx, 3)) (hlink : Cond.fieldLink T.2.1.cls idx Bundle.tN "SUPPRESSED_SENTINEL" Bundle.listD ∈ lw_all) (kk : ∀ pv : Option Nat, w_A l G T B X k n M (pc + 3) L (va_rf pv :: st) Q) : w_A l G T B X k n M pc L st Q := wa_getZq hd (fun s h => h.2.2.2.2.2.2.2.2.2.1.1) hlink kk
end WN
