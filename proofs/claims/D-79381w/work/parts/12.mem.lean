/-! ===== fields, objects, arrays ===== -/
set_option maxRecDepth 100000
/-- a class's table: its place, name, fields, how many, their types -/
def w_cF (ci : Nat) (C : String) (F : u_T) (N : Nat) (ty : Nat → FieldType) : Prop := w_CL[ci]? = some (C, F, N) ∧ (∀ w ∈ u_ws C F N, w ∈ lw_all) ∧ (∀ k, k < N → parseFieldDescriptor (F k).2.2.1 = some (ty k)) ∧ ∀ a, a < N → ∀ b, b < N → a ≠ b → (F a).2.1 ≠ (F b).2.1
/-- the pool's entry idx of the class own is the field k of the class ci -/
def w_gF (own : String) (idx ci k : Nat) : Prop := ∃ (C : String) (F : u_T) (N : Nat) (ty : Nat → FieldType) (ref : String), w_cF ci C F N ty ∧ k < N ∧ (Cond.fieldLink own idx ref (F k).2.1 (F k).2.2.1 ∈ lw_all ∨ ∃ host, Cond.fieldLinkNest own idx ref (F k).2.1 (F k).2.2.1 host ∈ lw_tbl) ∧
  (ref = (F k).1 ∨ Cond.sameField ref (F k).1 (F k).2.1 (F k).2.2.1 ∈ lw_all)
/-- .. one that is stored into -/
def w_pF (own : String) (idx ci k : Nat) (t : FieldType) : Prop := ∃ (C : String) (F : u_T) (N : Nat) (ty : Nat → FieldType) (ref : String), w_cF ci C F N ty ∧ k < N ∧ (Cond.fieldLink own idx ref (F k).2.1 (F k).2.2.1 ∈ lw_all ∨ ∃ host, Cond.fieldLinkNest own idx ref (F k).2.1 (F k).2.2.1 host ∈ lw_tbl) ∧
  (ref = (F k).1 ∨ Cond.sameField ref (F k).1 (F k).2.1 (F k).2.2.1 ∈ lw_all) ∧ (F k).2.2.2 = false ∧ ty k = t
/-- .. a final one, in a constructor -/
def w_qF (own : String) (idx ci k : Nat) (t : FieldType) : Prop := ∃ (C : String) (F : u_T) (N : Nat) (ty : Nat → FieldType), w_cF ci C F N ty ∧ k < N ∧ Cond.fieldLink own idx (F k).1 (F k).2.1 (F k).2.2.1 ∈ lw_all ∧ (F k).2.2.2 = true ∧ (F k).1 = own ∧ ty k = t
/-- 'new' of the class ci: its fields' first values -/
def w_nF (own : String) (idx ci N : Nat) (fs : List Value) : Prop := ∃ (C : String) (F : u_T) (ty : Nat → FieldType), w_cF ci C F N ty ∧ Cond.classLink own idx C ∈ lw_all ∧ Cond.instantiable C N ∈ lw_all ∧ Cond.initialized C ∈ lw_all ∧ ∀ j, j < N → defaultValue (ty j) = vp_V fs j
section WM
variable {l : Launch} {G : w_G} {T : w_T} {B : w_R} {X : w_X} {k n : Nat} {M : w_M} {pc : Nat} {L : List (Nat × Value)} {st : List Value} {Q : w_O → w_M → Prop}
theorem w_same {s : State} {args : Array Value} {ref C n d : String} (hts : ∀ w ∈ lw_all, w.before args s = true) (h : ref = C ∨ Cond.sameField ref C n d ∈ lw_all) : ∀ x, s.fieldFound? C n d = some x → s.fieldFound? ref n d = some x := by
  intro x hx
  rcases h with h | h
  · rw [h]; exact hx
  · obtain ⟨cf, kf, fi, f⟩ := x
    have h1 := hts _ h
    cases hr : s.fieldFound? ref n d with
    | none => simp [Cond.before, Cond.holds, Cond.value, hr] at h1
    | some y =>
      obtain ⟨c, k2, i, f2⟩ := y
      have h2 := Cond.sameField_spec hr h1
      rw [hx] at h2
      exact h2.symm
theorem wa_getf {idx ci a j : Nat} {fs : List Value} {v : Value} (hd : decode T.1 pc = .ok (.getfield idx, 3)) (hF : w_gF T.2.1.cls idx ci j) (hM : M.get a = some (.inr (ci, fs))) (hv : fs[j]? = some v)
    (kk : w_A l G T B X k n M (pc + 3) L (v :: st) Q) : w_A l G T B X k n M pc L (.ref a :: st) Q := by
  intro O H locs ls hR h0 hl
  obtain ⟨C, F, N, ty, ref, ⟨c1, c2, c3, c4⟩, hk, hlink, hs⟩ := hF
  have hts := O.2.2.2.2.2.2.1
  have hK := O.2.2.2.2.2.2.2.2.1
  have hown := O.2.2.2.2.2.1
  rcases hlink with hlink | ⟨host, hlink⟩
  · exact va_get O.1 O.2.1 hts c2 hown hK.1 (hR.obj hM) 0 rfl c1 j hk (hts _ hlink) (w_same hts hs) hv hd (kk O H locs ls hR h0 hl)
  · exact va_getN O.1 O.2.1 hts c2 hown hK.1 (hR.obj hM) 0 rfl c1 j hk (va_Nw.use rfl (hK.2.1 _ hlink rfl)) (w_same hts hs) hv hd (kk O H locs ls hR h0 hl)
theorem w_P1 {D : va_G} {cl : List vw_C} {q : Nat × va_E} {H : Heap} (h : va_P D cl [q] H) : va_at D cl q H := h 0 q rfl
theorem w_upd {fs : List Value} {j : Nat} {v : Value} (hl : j < fs.length) (i : Nat) : updV (vp_V fs) j v i = vp_V (fs.set j v) i := vp_updV_set hl v i
theorem wa_putf {idx ci a j : Nat} {fs : List Value} {v : Value} {t : FieldType} (fs2 : List Value) (hd : decode T.1 pc = .ok (.putfield idx, 3)) (hF : w_pF T.2.1.cls idx ci j t) (hM : M.get a = some (.inr (ci, fs))) (hl : j < fs.length) (hn : narrow t v = v) (hf : fits t v = true) (h2 : fs.set j v = fs2)
    (kk : w_A l G T B X k n (M.set a (.inr (ci, fs2))) (pc + 3) L st Q) : w_A l G T B X k n M pc L (v :: .ref a :: st) Q := by
  intro O H locs ls hR h0 hls
  subst h2
  obtain ⟨C, F, N, ty, ref, ⟨c1, c2, c3, c4⟩, hk, hlink, hs, hfin, rfl⟩ := hF
  have hts := O.2.2.2.2.2.2.1
  have hK := O.2.2.2.2.2.2.2.2.1
  have hown := O.2.2.2.2.2.1
  have hap := va_apart (own := C) hts c2 ty c3 c4 hK.1 c1
  have hlo := (hR.2.2.1 a _ hM).1
  obtain ⟨r, h1, cell, q1, q2, q3, q4⟩ := w_P1 (hR.obj hM)
  have hr : r = (C, F, N) := Option.some.inj (h1.symm.trans c1)
  subst hr
  obtain ⟨hS, hfc, kC, hkC, hkind⟩ := hK.1.1 ci _ c1
  obtain ⟨cf, kf, fi, f, hi, hsl⟩ := hS j hk
  have hlay := hts _ (c2 _ (u_in_lay hk))
  unfold u_lay at hlay
  rw [if_neg (by rw [hfin]; decide)] at hlay
  have hst := (u_facts hfc hkC (u_lays hts c2 hk) hi).1
  have h6 := u_store hfc hkC hkind hlay hi (c3 j hk) hn hf
  have key : ∀ H' : Heap, H'[a]? = some (cell.setSlot f.slot v) → H'.size = H.size → (∀ q, q ≠ a → H'[q]? = H[q]?) →
      W X.1 l X.2.1 X.2.2.1 X.2.2.2.1 X.2.2.2.2.1 X.2.2.2.2.2.1 X.2.2.2.2.2.2.1 X.2.2.2.2.2.2.2.1 X.2.2.2.2.2.2.2.2 H' (locs ++ [⟨a, f.slot⟩]) k n (w_MQ G X.2.2.2.2.2.2.1 X.2.2.2.1 B.2.1 B.2.2 Q) (F0 X.2.2.2.2.1 (pc + 3) ls st) := by
    intro H' e1 e2 e3
    rw [hsl] at e1
    exact kk O H' _ ls (hR.set hM ⟨_, c1, t_OB.to (V := updV (vp_V fs) j v) ⟨_, e1, q2, q3, t_set q4 hap hk v⟩ (fun i _ => vp_updV_set hl v i)⟩ e2 e3) (t_lc h0 hlo) hls
  rcases hlink with hlink | ⟨host, hlink⟩
  · exact W.putK O.1 O.2.1 (f := f) ⟨hown, hts _ hlink, ⟨_, _, _, w_same hts hs _ hi⟩, hst⟩ (by rw [q2]; exact h6) q1 q3 (by rw [hsl]; exact k2_hasslot (q4 j hk)) rfl rfl hd key
  · have hlt : f.slot < cell.slots.size := by rw [hsl]; exact k2_hasslot (q4 j hk)
    obtain ⟨g1, g2, g3⟩ := (show k2_Sd X.2.2.2.1 f cell.cls v by rw [q2]; exact h6)
    refine va_Wputf O.1 O.2.1 hown (va_Nw.use rfl (hK.2.1 _ hlink rfl)) (w_same hts hs _ hi) hst (Or.inl g1) q1 (by rw [q3]; exact fun h => by cases h) hlt g2 (by rw [q3]; exact g3) rfl rfl hd ?_
    have ha : a < H.size := (Array.getElem?_eq_some_iff.mp q1).1
    exact key _ (by simp [ha]) (by simp) (fun q hq => by rw [Array.getElem?_setIfInBounds_ne (Ne.symm hq)])
theorem wa_putF {idx ci a j : Nat} {fs : List Value} {v : Value} {t : FieldType} (fs2 : List Value) (hd : decode T.1 pc = .ok (.putfield idx, 3)) (hi : T.2.1.name = "<init>") (hF : w_qF T.2.1.cls idx ci j t) (hM : M.get a = some (.inr (ci, fs))) (hl : j < fs.length) (hn : narrow t v = v) (hf : fits t v = true) (h2 : fs.set j v = fs2)
    (kk : w_A l G T B X k n (M.set a (.inr (ci, fs2))) (pc + 3) L st Q) : w_A l G T B X k n M pc L (v :: .ref a :: st) Q := by
  intro O H locs ls hR h0 hls
  subst h2
  obtain ⟨C, F, N, ty, ⟨c1, c2, c3, c4⟩, hk, hlink, hfin, hdecl, rfl⟩ := hF
  have hts := O.2.2.2.2.2.2.1
  have hK := O.2.2.2.2.2.2.2.2.1
  have hown := O.2.2.2.2.2.1
  have hin := O.2.2.2.2.2.2.2.2.2.2.2.1
  have hap := va_apart (own := C) hts c2 ty c3 c4 hK.1 c1
  have hlo := (hR.2.2.1 a _ hM).1
  obtain ⟨r, h1, cell, q1, q2, q3, q4⟩ := w_P1 (hR.obj hM)
  have hr : r = (C, F, N) := Option.some.inj (h1.symm.trans c1)
  subst hr
  obtain ⟨hS, hfc, kC, hkC, hkind⟩ := hK.1.1 ci _ c1
  obtain ⟨cf, kf, fi, f, hif, hsl⟩ := hS j hk
  have hlay := hts _ (c2 _ (u_in_lay hk))
  unfold u_lay at hlay
  rw [if_pos hfin] at hlay
  have hst := (u_facts hfc hkC (u_lays hts c2 hk) hif).1
  have hcf : X.2.2.2.2.1.cls = cf := by
    obtain ⟨_, _, c', _, _, _, -, -, hf', -, -, -, hown2, -⟩ := Cond.laysFinal_spec hlay
    have e1 : c' = cf := by have := hif.symm.trans hf'; simp at this; exact this.1.symm
    rw [hdecl] at hown2
    rw [← e1]; exact Option.some.inj (hown.symm.trans hown2)
  have h6 := u_fits hfc hkC hkind (Or.inr hlay) hif (c3 j hk) hn hf
  refine W.putFinK O.1 O.2.1 hown (hts _ hlink) hif hst hcf (hin.trans hi) (by rw [q2]; exact h6) q1 q3 (by rw [hsl]; exact k2_hasslot (q4 j hk)) rfl rfl hd fun H' e1 e2 e3 => ?_
  rw [hsl] at e1
  exact kk O H' _ ls (hR.set hM ⟨_, c1, t_OB.to (V := updV (vp_V fs) j v) ⟨_, e1, q2, q3, t_set q4 hap hk v⟩ (fun i _ => vp_updV_set hl v i)⟩ e2 e3) (t_lc h0 hlo) hls
theorem wa_new {idx ci N : Nat} {fs : List Value} (hd : decode T.1 pc = .ok (.new idx, 3)) (hF : w_nF T.2.1.cls idx ci N fs) (h1 : k + 1 ≤ B.2.1) (h2 : n + N ≤ B.2.2)
    (kk : w_A l G T B X (k + 1) (n + N) (M.push (.inr (ci, fs))) (pc + 3) L (.ref M.sz :: st) Q) : w_A l G T B X k n M pc L st Q := by
  intro O H locs ls hR h0 hl
  obtain ⟨C, F, ty, ⟨c1, c2, c3, c4⟩, hcl, hin, hini, hfs⟩ := hF
  have hts := O.2.2.2.2.2.2.1
  have hK := O.2.2.2.2.2.2.2.2.1
  have hRm := O.2.2.2.2.2.2.2.1
  have hKn := hK.1.1 ci _ c1
  refine W.newcK O.1 O.2.1 O.2.2.2.2.2.1 (hts _ hcl) (hts _ hin) (hts _ hini) rfl hd (by rw [hRm]; exact h1) (by rw [hRm]; exact h2) hKn.2.1 hR.1 fun H1 kC hkC e1 z1 o1 => ?_
  exact kk O H1 locs ls (hR.push ⟨_, c1, (u_born ty hts c2 hKn hkC e1 c3).to hfs⟩ (by rw [hR.1]; exact z1) (by rw [hR.1]; exact o1)) h0 hl
/-! arrays -/
theorem w_ty {G : w_G} {U : State} (h : w_K G U) (i : Nat) {t : FieldType} (ht : w_tys[i]? = some t) : (w_tys.map fun t => (G.2.1 t, t))[i]? = some (G.2.1 t, t) := by rw [List.getElem?_map, ht]; rfl
theorem wa_iald {a m : Nat} {f : Nat → Int32} {i : Int32} (hd : decode T.1 pc = .ok (.iaload, 1)) (hM : M.get a = some (.inl (.int, m, .inl f))) (hi : vp_in i m) (kk : w_A l G T B X k n M (pc + 1) L (Value.int (f i.toNatClampNeg) :: st) Q) : w_A l G T B X k n M pc L (.int i :: .ref a :: st) Q := fun O H locs ls hR h0 hl => va_iald O.1 O.2.1 O.2.2.2.2.2.2.2.2.1.1 (hR.arr hM) 0 0 rfl (w_ty O.2.2.2.2.2.2.2.2.1 0 rfl) hi hd (kk O H locs ls hR h0 hl)
theorem wa_bald {a m : Nat} {f : Nat → Int32} {i : Int32} (hd : decode T.1 pc = .ok (.baload, 1)) (hM : M.get a = some (.inl (.byte, m, .inl f))) (hi : vp_in i m) (kk : w_A l G T B X k n M (pc + 1) L (Value.int (f i.toNatClampNeg) :: st) Q) : w_A l G T B X k n M pc L (.int i :: .ref a :: st) Q := fun O H locs ls hR h0 hl => va_bald O.1 O.2.1 O.2.2.2.2.2.2.2.2.1.1 (hR.arr hM) 0 3 rfl (w_ty O.2.2.2.2.2.2.2.2.1 3 rfl) hi hd (kk O H locs ls hR h0 hl)
theorem wa_zald {a m : Nat} {f : Nat → Int32} {i : Int32} (hd : decode T.1 pc = .ok (.baload, 1)) (hM : M.get a = some (.inl (.boolean, m, .inl f))) (hi : vp_in i m) (kk : w_A l G T B X k n M (pc + 1) L (Value.int (f i.toNatClampNeg) :: st) Q) : w_A l G T B X k n M pc L (.int i :: .ref a :: st) Q := fun O H locs ls hR h0 hl => va_zald O.1 O.2.1 O.2.2.2.2.2.2.2.2.1.1 (hR.arr hM) 0 4 rfl (w_ty O.2.2.2.2.2.2.2.2.1 4 rfl) hi hd (kk O H locs ls hR h0 hl)
theorem wa_cald {a m : Nat} {f : Nat → Int32} {i : Int32} (hd : decode T.1 pc = .ok (.caload, 1)) (hM : M.get a = some (.inl (.char, m, .inl f))) (hi : vp_in i m) (kk : w_A l G T B X k n M (pc + 1) L (Value.int (f i.toNatClampNeg) :: st) Q) : w_A l G T B X k n M pc L (.int i :: .ref a :: st) Q := fun O H locs ls hR h0 hl => va_cald O.1 O.2.1 O.2.2.2.2.2.2.2.2.1.1 (hR.arr hM) 0 2 rfl (w_ty O.2.2.2.2.2.2.2.2.1 2 rfl) hi hd (kk O H locs ls hR h0 hl)
theorem wa_lald {a m : Nat} {f : Nat → Int64} {i : Int32} (hd : decode T.1 pc = .ok (.laload, 1)) (hM : M.get a = some (.inl (.long, m, .inr (.inl f)))) (hi : vp_in i m) (kk : w_A l G T B X k n M (pc + 1) L (Value.long (f i.toNatClampNeg) :: st) Q) : w_A l G T B X k n M pc L (.int i :: .ref a :: st) Q := fun O H locs ls hR h0 hl => va_lald O.1 O.2.1 O.2.2.2.2.2.2.2.2.1.1 (hR.arr hM) 0 1 rfl (w_ty O.2.2.2.2.2.2.2.2.1 1 rfl) hi hd (kk O H locs ls hR h0 hl)
theorem wa_dald {a m : Nat} {f : Nat → UInt64} {i : Int32} (hd : decode T.1 pc = .ok (.daload, 1)) (hM : M.get a = some (.inl (.double, m, .inr (.inr (.inr (.inl f)))))) (hi : vp_in i m) (kk : w_A l G T B X k n M (pc + 1) L (Value.double (f i.toNatClampNeg) :: st) Q) : w_A l G T B X k n M pc L (.int i :: .ref a :: st) Q := fun O H locs ls hR h0 hl => va_dald O.1 O.2.1 O.2.2.2.2.2.2.2.2.1.1 (hR.arr hM) 0 5 rfl (w_ty O.2.2.2.2.2.2.2.2.1 5 rfl) hi hd (kk O H locs ls hR h0 hl)
theorem wa_aald {a m : Nat} {f : Nat → Option Nat} {i : Int32} (hd : decode T.1 pc = .ok (.aaload, 1)) (hM : M.get a = some (.inl (.object "java/lang/Object", m, .inr (.inr (.inr (.inr f)))))) (hi : vp_in i m) (kk : w_A l G T B X k n M (pc + 1) L (va_rf (f i.toNatClampNeg) :: st) Q) : w_A l G T B X k n M pc L (.int i :: .ref a :: st) Q := fun O H locs ls hR h0 hl => va_aldq O.1 O.2.1 O.2.2.2.2.2.2.2.2.1.1 (hR.arr hM) 0 6 rfl (w_ty O.2.2.2.2.2.2.2.2.1 6 rfl) hi hd (kk O H locs ls hR h0 hl)
theorem wa_alen {a : Nat} {t : FieldType} {x : vp_A} (ti : Nat) (hd : decode T.1 pc = .ok (.arraylength, 1)) (hM : M.get a = some (.inl (t, x))) (ht : w_tys[ti]? = some t) (kk : w_A l G T B X k n M (pc + 1) L (.int (nI x.1) :: st) Q) : w_A l G T B X k n M pc L (.ref a :: st) Q := fun O H locs ls hR h0 hl => va_alen O.1 O.2.1 O.2.2.2.2.2.2.2.2.1.1 (hR.arr hM) 0 ti rfl (w_ty O.2.2.2.2.2.2.2.2.1 ti ht) rfl hd (kk O H locs ls hR h0 hl)
theorem wa_iast {a m : Nat} {f : Nat → Int32} {i : Int32} {x : Int32} (hd : decode T.1 pc = .ok (.iastore, 1)) (hM : M.get a = some (.inl (.int, m, .inl f))) (hi : vp_in i m) (kk : w_A l G T B X k n (M.set a (.inl (.int, m, .inl (upd f i.toNatClampNeg x)))) (pc + 1) L st Q) : w_A l G T B X k n M pc L (.int x :: .int i :: .ref a :: st) Q := by
  intro O H locs ls hR h0 hl
  have hK := O.2.2.2.2.2.2.2.2.1.1
  refine W.iast O.1 O.2.1 (w_P1 (hR.arr hM)) ((hK.2 0 _ (w_ty O.2.2.2.2.2.2.2.2.1 0 rfl)).1 m (fun j => .int (f j))) (fun q => by cases q) (by show ¬ (i < 0 ∨ (arrV _ _ _).slots.size ≤ _); rw [arrV_size]; exact hi) rfl rfl hd fun H1 e z oq => ?_
  refine kk O H1 _ ls (hR.set hM ?_ z oq) (t_lc h0 (hR.2.2.1 a _ hM).1) hl
  show H1[a]? = some (vp_cell _ _)
  rw [e]
  show some ((vp_cell (G.2.1 .int) (m, .inl f)).setSlot i.toNatClampNeg (.int x)) = _
  rw [vp_cell_i, vp_cell_i, arrV_store]
  congr 2
  funext q
  by_cases hq : q = i.toNatClampNeg
  · subst hq
    simp [updV, upd]
    try rfl
  · simp [updV, upd, hq]
theorem wa_bast {a m : Nat} {f : Nat → Int32} {i : Int32} {x : Int32} (hd : decode T.1 pc = .ok (.bastore, 1)) (hM : M.get a = some (.inl (.byte, m, .inl f))) (hi : vp_in i m) (kk : w_A l G T B X k n (M.set a (.inl (.byte, m, .inl (upd f i.toNatClampNeg (vp_nar .byte x))))) (pc + 1) L st Q) : w_A l G T B X k n M pc L (.int x :: .int i :: .ref a :: st) Q := by
  intro O H locs ls hR h0 hl
  have hK := O.2.2.2.2.2.2.2.2.1.1
  refine W.bast O.1 O.2.1 (w_P1 (hR.arr hM)) ((hK.2 3 _ (w_ty O.2.2.2.2.2.2.2.2.1 3 rfl)).1 m (fun j => .int (f j))) (fun q => by cases q) (by show ¬ (i < 0 ∨ (arrV _ _ _).slots.size ≤ _); rw [arrV_size]; exact hi) rfl rfl hd fun H1 e z oq => ?_
  refine kk O H1 _ ls (hR.set hM ?_ z oq) (t_lc h0 (hR.2.2.1 a _ hM).1) hl
  show H1[a]? = some (vp_cell _ _)
  rw [e]
  show some ((vp_cell (G.2.1 .byte) (m, .inl f)).setSlot i.toNatClampNeg (.int (vp_nar .byte x))) = _
  rw [vp_cell_i, vp_cell_i, arrV_store]
  congr 2
  funext q
  by_cases hq : q = i.toNatClampNeg
  · subst hq
    simp [updV, upd, vp_nar]
    try rfl
  · simp [updV, upd, vp_nar, hq]
theorem wa_zast {a m : Nat} {f : Nat → Int32} {i : Int32} {x : Int32} (hd : decode T.1 pc = .ok (.bastore, 1)) (hM : M.get a = some (.inl (.boolean, m, .inl f))) (hi : vp_in i m) (kk : w_A l G T B X k n (M.set a (.inl (.boolean, m, .inl (upd f i.toNatClampNeg (vp_nar .boolean x))))) (pc + 1) L st Q) : w_A l G T B X k n M pc L (.int x :: .int i :: .ref a :: st) Q := by
  intro O H locs ls hR h0 hl
  have hK := O.2.2.2.2.2.2.2.2.1.1
  refine W.zast O.1 O.2.1 (w_P1 (hR.arr hM)) ((hK.2 4 _ (w_ty O.2.2.2.2.2.2.2.2.1 4 rfl)).1 m (fun j => .int (f j))) (fun q => by cases q) (by show ¬ (i < 0 ∨ (arrV _ _ _).slots.size ≤ _); rw [arrV_size]; exact hi) rfl rfl hd fun H1 e z oq => ?_
  refine kk O H1 _ ls (hR.set hM ?_ z oq) (t_lc h0 (hR.2.2.1 a _ hM).1) hl
  show H1[a]? = some (vp_cell _ _)
  rw [e]
  show some ((vp_cell (G.2.1 .boolean) (m, .inl f)).setSlot i.toNatClampNeg (.int (vp_nar .boolean x))) = _
  rw [vp_cell_i, vp_cell_i, arrV_store]
  congr 2
  funext q
  by_cases hq : q = i.toNatClampNeg
  · subst hq
    simp [updV, upd, vp_nar]
    try rfl
  · simp [updV, upd, vp_nar, hq]
theorem wa_cast {a m : Nat} {f : Nat → Int32} {i : Int32} {x : Int32} (hd : decode T.1 pc = .ok (.castore, 1)) (hM : M.get a = some (.inl (.char, m, .inl f))) (hi : vp_in i m) (kk : w_A l G T B X k n (M.set a (.inl (.char, m, .inl (upd f i.toNatClampNeg (vp_nar .char x))))) (pc + 1) L st Q) : w_A l G T B X k n M pc L (.int x :: .int i :: .ref a :: st) Q := by
  intro O H locs ls hR h0 hl
  have hK := O.2.2.2.2.2.2.2.2.1.1
  refine W.cast O.1 O.2.1 (w_P1 (hR.arr hM)) ((hK.2 2 _ (w_ty O.2.2.2.2.2.2.2.2.1 2 rfl)).1 m (fun j => .int (f j))) (fun q => by cases q) (by show ¬ (i < 0 ∨ (arrV _ _ _).slots.size ≤ _); rw [arrV_size]; exact hi) rfl rfl hd fun H1 e z oq => ?_
  refine kk O H1 _ ls (hR.set hM ?_ z oq) (t_lc h0 (hR.2.2.1 a _ hM).1) hl
  show H1[a]? = some (vp_cell _ _)
  rw [e]
  show some ((vp_cell (G.2.1 .char) (m, .inl f)).setSlot i.toNatClampNeg (.int (vp_nar .char x))) = _
  rw [vp_cell_i, vp_cell_i, arrV_store]
  congr 2
  funext q
  by_cases hq : q = i.toNatClampNeg
  · subst hq
    simp [updV, upd, vp_nar]
    try rfl
  · simp [updV, upd, vp_nar, hq]
theorem wa_last {a m : Nat} {f : Nat → Int64} {i : Int32} {x : Int64} (hd : decode T.1 pc = .ok (.lastore, 1)) (hM : M.get a = some (.inl (.long, m, .inr (.inl f)))) (hi : vp_in i m) (kk : w_A l G T B X k n (M.set a (.inl (.long, m, .inr (.inl (vp_updL f i.toNatClampNeg x))))) (pc + 1) L st Q) : w_A l G T B X k n M pc L (.long x :: .int i :: .ref a :: st) Q := by
  intro O H locs ls hR h0 hl
  have hK := O.2.2.2.2.2.2.2.2.1.1
  refine W.last O.1 O.2.1 (w_P1 (hR.arr hM)) ((hK.2 1 _ (w_ty O.2.2.2.2.2.2.2.2.1 1 rfl)).1 m (fun j => .long (f j))) (fun q => by cases q) (by show ¬ (i < 0 ∨ (arrV _ _ _).slots.size ≤ _); rw [arrV_size]; exact hi) rfl rfl hd fun H1 e z oq => ?_
  refine kk O H1 _ ls (hR.set hM ?_ z oq) (t_lc h0 (hR.2.2.1 a _ hM).1) hl
  show H1[a]? = some (vp_cell _ _)
  rw [e]
  show some ((vp_cell (G.2.1 .long) (m, .inr (.inl f))).setSlot i.toNatClampNeg (.long x)) = _
  rw [vp_cell_l, vp_cell_l, arrV_store]
  congr 2
  funext q
  by_cases hq : q = i.toNatClampNeg
  · subst hq
    simp [updV, vp_updL]
    try rfl
  · simp [updV, vp_updL, hq]
theorem wa_dast {a m : Nat} {f : Nat → UInt64} {i : Int32} {x : UInt64} (hd : decode T.1 pc = .ok (.dastore, 1)) (hM : M.get a = some (.inl (.double, m, .inr (.inr (.inr (.inl f)))))) (hi : vp_in i m) (kk : w_A l G T B X k n (M.set a (.inl (.double, m, .inr (.inr (.inr (.inl (vf_upd f i.toNatClampNeg x))))))) (pc + 1) L st Q) : w_A l G T B X k n M pc L (.double x :: .int i :: .ref a :: st) Q := by
  intro O H locs ls hR h0 hl
  have hK := O.2.2.2.2.2.2.2.2.1.1
  refine W.dast O.1 O.2.1 (w_P1 (hR.arr hM)) ((hK.2 5 _ (w_ty O.2.2.2.2.2.2.2.2.1 5 rfl)).1 m (fun j => .double (f j))) (fun q => by cases q) (by show ¬ (i < 0 ∨ (arrV _ _ _).slots.size ≤ _); rw [arrV_size]; exact hi) rfl rfl hd fun H1 e z oq => ?_
  refine kk O H1 _ ls (hR.set hM ?_ z oq) (t_lc h0 (hR.2.2.1 a _ hM).1) hl
  show H1[a]? = some (vp_cell _ _)
  rw [e]
  show some ((vp_cell (G.2.1 .double) (m, .inr (.inr (.inr (.inl f))))).setSlot i.toNatClampNeg (.double x)) = _
  rw [vp_cell_d, vp_cell_d, arrV_store]
  congr 2
  funext q
  by_cases hq : q = i.toNatClampNeg
  · subst hq
    simp [updV, vf_upd]
    try rfl
  · simp [updV, vf_upd, hq]
end WM
