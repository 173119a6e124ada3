/-! ===== the core's parts written: what the core is then ===== -/
set_option maxRecDepth 100000
def z_setR (c : z_C) (rs : List z_R) : z_C := (z_rows c, z_cols c, z_kinds c, rs, z_ords c, z_sets c, z_closed c, z_now c)
def z_setO (c : z_C) (os : List z_O) : z_C := (z_rows c, z_cols c, z_kinds c, z_robs c, os, z_sets c, z_closed c, z_now c)
def z_setS (c : z_C) (f : Nat → Int32) : z_C := (z_rows c, z_cols c, z_kinds c, z_robs c, z_ords c, f, z_closed c, z_now c)
def z_setW (c : z_C) (w : Int64) : z_C := (z_rows c, z_cols c, z_kinds c, z_robs c, z_ords c, z_sets c, w, z_now c)
def z_setN (c : z_C) (n : Int32) : z_C := (z_rows c, z_cols c, z_kinds c, z_robs c, z_ords c, z_sets c, z_closed c, n)
theorem z_inj {xs : List Nat} (h : xs.Nodup) {i j x : Nat} (hi : xs[i]? = some x) (hj : xs[j]? = some x) : i = j := by
  obtain ⟨hi1, hi2⟩ := List.getElem?_eq_some_iff.mp hi
  obtain ⟨hj1, hj2⟩ := List.getElem?_eq_some_iff.mp hj
  have hp := List.pairwise_iff_getElem.mp h
  rcases Nat.lt_trichotomy i j with q | q | q
  · exact absurd (hi2.trans hj2.symm) (hp i j hi1 hj1 q)
  · exact q
  · exact absurd (hj2.trans hi2.symm) (hp j i hj1 hi1 q)
theorem w_ne_of {M : w_M} {a b : Nat} {e e' : w_E} (h1 : M.get a = some e) (h2 : M.get b = some e') (h : e ≠ e') : a ≠ b := fun q => h (Option.some.inj (h1.symm.trans ((congrArg M.get q).trans h2)))
/-- objects of different classes, an object and an array, are apart -/
theorem w_neC {M : w_M} {a b ci cj : Nat} {fs gs : List Value} (h1 : M.get a = some (.inr (ci, fs))) (h2 : M.get b = some (.inr (cj, gs))) (h : ci ≠ cj) : a ≠ b := w_ne_of h1 h2 (fun q => h (by cases q; rfl))
theorem w_neA {M : w_M} {a b ci : Nat} {fs : List Value} {x : FieldType × vp_A} (h1 : M.get a = some (.inr (ci, fs))) (h2 : M.get b = some (.inl x)) : a ≠ b := w_ne_of h1 h2 (fun q => by cases q)
theorem w_neT {M : w_M} {a b : Nat} {t u : FieldType} {x y : vp_A} (h1 : M.get a = some (.inl (t, x))) (h2 : M.get b = some (.inl (u, y))) (h : t ≠ u) : a ≠ b := w_ne_of h1 h2 (fun q => h (by cases q; rfl))
theorem w_neB {M : w_M} {a b : Nat} {e : w_E} (h : M.get a = some e) (hb : M.sz ≤ b) : a ≠ b := by have := w_lt h; omega
/-- a list whose cells aren't W's -/
theorem w_AL.keep2 {G : w_G} {M M' : w_M} {a arr : Nat} {xs : List Nat} {W : Nat → Prop} (h : w_AL G M a arr xs) (hf : w_fr M M' W) (h1 : ¬ W a) (h2 : ∀ e, M.get arr = some e → ¬ W arr) : w_AL G M' a arr xs := by
  obtain ⟨md, e1, e2, e3⟩ := h
  refine ⟨md, hf.2 _ _ e1 h1, e2, ?_⟩
  rcases e3 with e3 | ⟨f, e4, e5⟩
  · exact Or.inl e3
  · exact Or.inr ⟨f, hf.2 _ _ e4 (h2 _ e4), e5⟩
theorem w_AL.obj {G : w_G} {M : w_M} {a arr : Nat} {xs : List Nat} (h : w_AL G M a arr xs) : ∃ fs, M.get a = some (.inr (11, fs)) := ⟨_, h.choose_spec.1⟩
theorem w_AL.arr {G : w_G} {M : w_M} {a arr : Nat} {xs : List Nat} {e : w_E} (h : w_AL G M a arr xs) (hg : w_lo G ≤ w_ad G 0 → False) (he : M.get arr = some e) (hlo : ∀ q e', M.get q = some e' → w_lo G ≤ q) : ∃ f, e = .inl (.object "java/lang/Object", 10, .inr (.inr (.inr (.inr f)))) := by
  obtain ⟨md, e1, e2, e3⟩ := h
  rcases e3 with ⟨e3, -⟩ | ⟨f, e4, e5⟩
  · exact (hg (by rw [← e3]; exact hlo _ _ he)).elim
  · exact ⟨f, Option.some.inj (he.symm.trans e4)⟩
theorem z_rob.obj {M : w_M} {P : Nat → Prop} {a : Nat} {r : z_R} (h : z_rob M P a r) : ∃ fs, M.get a = some (.inr (5, fs)) := by
  obtain ⟨pv, ⟨dn, -, h2, -⟩, -⟩ := h
  exact ⟨_, h2⟩
theorem z_ord.obj {M : w_M} {P : Nat → Prop} {a n : Nat} {o : z_O} (h : z_ord M P a n o) : ∃ fs, M.get a = some (.inr (6, fs)) := by
  obtain ⟨la, -, -, h3, -⟩ := h
  exact ⟨_, h3⟩
/-- a robot's cells are its object and an int array -/
theorem z_robP.keep2 {M M' : w_M} {P W : Nat → Prop} {a : Nat} {r : z_R} {pv : Option Nat} (h : z_robP M P a r pv) (hf : w_fr M M' W) (h1 : ¬ W a) (h2 : ∀ q m f, P q → M.get q = some (.inl (.int, m, .inl f)) → ¬ W q) : z_robP M' P a r pv := by
  obtain ⟨dn, e1, e2, e3⟩ := h
  refine ⟨dn, e1, hf.2 _ _ e2 h1, ?_⟩
  cases pv with
  | none => exact e3
  | some p =>
    obtain ⟨e4, m, d, f, e5, e6⟩ := e3
    exact ⟨e4, m, d, f, hf.2 _ _ e5 (h2 _ _ _ e4 e5), e6⟩
theorem z_rob.keep2 {M M' : w_M} {P W : Nat → Prop} {a : Nat} {r : z_R} (h : z_rob M P a r) (hf : w_fr M M' W) (h1 : ¬ W a) (h2 : ∀ q m f, P q → M.get q = some (.inl (.int, m, .inl f)) → ¬ W q) : z_rob M' P a r := by
  obtain ⟨pv, e1, e2⟩ := h
  exact ⟨pv, e1.keep2 hf h1 h2, e2⟩
theorem z_ord.keep2 {M M' : w_M} {P W : Nat → Prop} {a n : Nat} {o : z_O} (h : z_ord M P a n o) (hf : w_fr M M' W) (h1 : ¬ W a) (h2 : ∀ q m f, P q → M.get q = some (.inl (.int, m, .inl f)) → ¬ W q) : z_ord M' P a n o := by
  obtain ⟨la, e1, e2, e3, f, e4, e5⟩ := h
  exact ⟨la, e1, e2, hf.2 _ _ e3 h1, f, hf.2 _ _ e4 (h2 _ _ _ e2 e4), e5⟩
section UP
variable {G : w_G} {M M' : w_M} {P : Nat → Prop} {a kd rl ol sg ra oa : Nat} {ras oas : List Nat} {c : z_C}
/-- a robot's object written -/
theorem z_coreL.setRob (h : z_coreL G M P a kd rl ol sg ra oa ras oas c) {k x : Nat} {r' : z_R} (hx : ras[k]? = some x) (hf : w_fr M M' (fun q => q = x)) (hr : z_rob M' (fun q => P q ∧ q ≠ sg) x r') : z_coreL G M' P a kd rl ol sg ra oa ras oas (z_setR c ((z_robs c).set k r')) := by
  obtain ⟨hp, h1, ⟨f, h2, h3⟩, ⟨g, h4, h5⟩, h6, h7, h8, h9, h10, h11, h12, h13, h14, h15, h16⟩ := h
  have hk : k < (z_robs c).length := by rw [← h8]; exact (List.getElem?_eq_some_iff.mp hx).1
  obtain ⟨fs, hob⟩ := (h10 k x _ hx (List.getElem?_eq_getElem hk)).obj
  obtain ⟨fl, hrl⟩ := h6.obj
  obtain ⟨fo, hol⟩ := h7.obj
  have harr : ∀ (y : Nat) (e : w_E), M.get y = some e → (∀ gs, e ≠ .inr (5, gs)) → ¬ y = x := fun y e he hne q => hne fs (Option.some.inj (he.symm.trans ((congrArg M.get q).trans hob)))
  refine ⟨hp, hf.2 _ _ h1 (harr _ _ h1 (fun _ q => by cases q)), ⟨f, hf.2 _ _ h2 (harr _ _ h2 (fun _ q => by cases q)), h3⟩, ⟨g, hf.2 _ _ h4 (harr _ _ h4 (fun _ q => by cases q)), h5⟩, ?_, ?_, by rw [h8]; exact (List.length_set).symm, h9, ?_, ?_, h12, h13, h14, h15, h16⟩
  · obtain ⟨md, e1, e2, e3⟩ := h6
    refine ⟨md, hf.2 _ _ e1 (harr _ _ e1 (fun _ q => by cases q)), e2, e3.imp id (fun ⟨f, e4, e5⟩ => ⟨f, hf.2 _ _ e4 (harr _ _ e4 (fun _ q => by cases q)), e5⟩)⟩
  · obtain ⟨md, e1, e2, e3⟩ := h7
    refine ⟨md, hf.2 _ _ e1 (harr _ _ e1 (fun _ q => by cases q)), e2, e3.imp id (fun ⟨f, e4, e5⟩ => ⟨f, hf.2 _ _ e4 (harr _ _ e4 (fun _ q => by cases q)), e5⟩)⟩
  · intro i y r hy hri
    have hri : ((z_robs c).set k r')[i]? = some r := hri
    by_cases hik : i = k
    · subst hik
      cases hx.symm.trans hy
      rw [List.getElem?_set_self hk] at hri
      cases hri
      exact hr
    · rw [List.getElem?_set_ne (Ne.symm hik)] at hri
      refine (h10 i y r hy hri).keep2 hf (fun q => hik ?_) (fun q m f _ he => harr _ _ he (fun _ q => by cases q))
      subst q
      exact z_inj h12 hy hx
  · intro i y o hy ho
    obtain ⟨gs, hgs⟩ := (h11 i y o hy ho).obj
    exact (h11 i y o hy ho).keep2 hf (harr _ _ hgs (fun _ q => by cases q)) (fun q m f _ he => harr _ _ he (fun _ q => by cases q))
/-- an order's object written -/
theorem z_coreL.setOrd (h : z_coreL G M P a kd rl ol sg ra oa ras oas c) {k x : Nat} {o' : z_O} (hx : oas[k]? = some x) (hf : w_fr M M' (fun q => q = x)) (hr : z_ord M' (fun q => P q ∧ q ≠ sg) x k o') : z_coreL G M' P a kd rl ol sg ra oa ras oas (z_setO c ((z_ords c).set k o')) := by
  obtain ⟨hp, h1, ⟨f, h2, h3⟩, ⟨g, h4, h5⟩, h6, h7, h8, h9, h10, h11, h12, h13, h14, h15, h16⟩ := h
  have hk : k < (z_ords c).length := by rw [← h9]; exact (List.getElem?_eq_some_iff.mp hx).1
  obtain ⟨fs, hob⟩ := (h11 k x _ hx (List.getElem?_eq_getElem hk)).obj
  have harr : ∀ (y : Nat) (e : w_E), M.get y = some e → (∀ gs, e ≠ .inr (6, gs)) → ¬ y = x := fun y e he hne q => hne fs (Option.some.inj (he.symm.trans ((congrArg M.get q).trans hob)))
  refine ⟨hp, hf.2 _ _ h1 (harr _ _ h1 (fun _ q => by cases q)), ⟨f, hf.2 _ _ h2 (harr _ _ h2 (fun _ q => by cases q)), h3⟩, ⟨g, hf.2 _ _ h4 (harr _ _ h4 (fun _ q => by cases q)), h5⟩, ?_, ?_, h8, by rw [h9]; exact (List.length_set).symm, ?_, ?_, h12, h13, h14, h15, h16⟩
  · obtain ⟨md, e1, e2, e3⟩ := h6
    refine ⟨md, hf.2 _ _ e1 (harr _ _ e1 (fun _ q => by cases q)), e2, e3.imp id (fun ⟨f, e4, e5⟩ => ⟨f, hf.2 _ _ e4 (harr _ _ e4 (fun _ q => by cases q)), e5⟩)⟩
  · obtain ⟨md, e1, e2, e3⟩ := h7
    refine ⟨md, hf.2 _ _ e1 (harr _ _ e1 (fun _ q => by cases q)), e2, e3.imp id (fun ⟨f, e4, e5⟩ => ⟨f, hf.2 _ _ e4 (harr _ _ e4 (fun _ q => by cases q)), e5⟩)⟩
  · intro i y r hy ho
    obtain ⟨gs, hgs⟩ := (h10 i y r hy ho).obj
    exact (h10 i y r hy ho).keep2 hf (harr _ _ hgs (fun _ q => by cases q)) (fun q m f _ he => harr _ _ he (fun _ q => by cases q))
  · intro i y r hy hri
    have hri : ((z_ords c).set k o')[i]? = some r := hri
    by_cases hik : i = k
    · subst hik
      cases hx.symm.trans hy
      rw [List.getElem?_set_self hk] at hri
      cases hri
      exact hr
    · rw [List.getElem?_set_ne (Ne.symm hik)] at hri
      refine (h11 i y r hy hri).keep2 hf (fun q => hik ?_) (fun q m f _ he => harr _ _ he (fun _ q => by cases q))
      subst q
      exact z_inj h13 hy hx
/-- the core's own object written: closed cells and the tick -/
theorem z_coreL.setTop (h : z_coreL G M P a kd rl ol sg ra oa ras oas c) (hf : w_fr M M' (fun q => q = a)) {w : Int64} {n : Int32} (ha : M'.get a = some (.inr (1, [.int (nI (z_rows c)), .int (nI (z_cols c)), .ref kd, .ref rl, .ref ol, .ref sg, .long w, .int n]))) : z_coreL G M' P a kd rl ol sg ra oa ras oas (z_setN (z_setW c w) n) := by
  obtain ⟨hp, h1, ⟨f, h2, h3⟩, ⟨g, h4, h5⟩, h6, h7, h8, h9, h10, h11, h12⟩ := h
  have harr : ∀ (y : Nat) (e : w_E), M.get y = some e → (∀ gs, e ≠ .inr (1, gs)) → ¬ y = a := fun y e he hne q => hne _ (Option.some.inj (he.symm.trans ((congrArg M.get q).trans h1)))
  refine ⟨hp, ha, ⟨f, hf.2 _ _ h2 (harr _ _ h2 (fun _ q => by cases q)), h3⟩, ⟨g, hf.2 _ _ h4 (harr _ _ h4 (fun _ q => by cases q)), h5⟩, ?_, ?_, h8, h9, ?_, ?_, h12⟩
  · obtain ⟨md, e1, e2, e3⟩ := h6
    refine ⟨md, hf.2 _ _ e1 (harr _ _ e1 (fun _ q => by cases q)), e2, e3.imp id (fun ⟨f, e4, e5⟩ => ⟨f, hf.2 _ _ e4 (harr _ _ e4 (fun _ q => by cases q)), e5⟩)⟩
  · obtain ⟨md, e1, e2, e3⟩ := h7
    refine ⟨md, hf.2 _ _ e1 (harr _ _ e1 (fun _ q => by cases q)), e2, e3.imp id (fun ⟨f, e4, e5⟩ => ⟨f, hf.2 _ _ e4 (harr _ _ e4 (fun _ q => by cases q)), e5⟩)⟩
  · intro i y r hy ho
    obtain ⟨gs, hgs⟩ := (h10 i y r hy ho).obj
    exact (h10 i y r hy ho).keep2 hf (harr _ _ hgs (fun _ q => by cases q)) (fun q m f _ he => harr _ _ he (fun _ q => by cases q))
  · intro i y r hy ho
    obtain ⟨gs, hgs⟩ := (h11 i y r hy ho).obj
    exact (h11 i y r hy ho).keep2 hf (harr _ _ hgs (fun _ q => by cases q)) (fun q m f _ he => harr _ _ he (fun _ q => by cases q))
/-- the settings written -/
theorem z_coreL.setSet (h : z_coreL G M P a kd rl ol sg ra oa ras oas c) (hf : w_fr M M' (fun q => q = sg)) {g' : Nat → Int32} (ha : M'.get sg = some (.inl (.int, 3, .inl g'))) : z_coreL G M' P a kd rl ol sg ra oa ras oas (z_setS c g') := by
  obtain ⟨hp, h1, ⟨f, h2, h3⟩, ⟨g, h4, h5⟩, h6, h7, h8, h9, h10, h11, h12, h13, h14, h15, h16⟩ := h
  have harr : ∀ (y : Nat) (e : w_E), M.get y = some e → (∀ gs, e ≠ .inl (.int, 3, gs)) → ¬ y = sg := fun y e he hne q => hne _ (Option.some.inj (he.symm.trans ((congrArg M.get q).trans h4)))
  refine ⟨hp, hf.2 _ _ h1 (harr _ _ h1 (fun _ q => by cases q)), ⟨f, hf.2 _ _ h2 h16, h3⟩, ⟨g', ha, fun _ _ => rfl⟩, ?_, ?_, h8, h9, ?_, ?_, h12, h13, h14, h15, h16⟩
  · obtain ⟨md, e1, e2, e3⟩ := h6
    refine ⟨md, hf.2 _ _ e1 (harr _ _ e1 (fun _ q => by cases q)), e2, e3.imp id (fun ⟨f, e4, e5⟩ => ⟨f, hf.2 _ _ e4 (harr _ _ e4 (fun _ q => by cases q)), e5⟩)⟩
  · obtain ⟨md, e1, e2, e3⟩ := h7
    refine ⟨md, hf.2 _ _ e1 (harr _ _ e1 (fun _ q => by cases q)), e2, e3.imp id (fun ⟨f, e4, e5⟩ => ⟨f, hf.2 _ _ e4 (harr _ _ e4 (fun _ q => by cases q)), e5⟩)⟩
  · intro i y r hy ho
    exact (h10 i y r hy ho).keep hf (fun q z => z.2)
  · intro i y r hy ho
    exact (h11 i y r hy ho).keep hf (fun q z => z.2)
/-- the robots' list written: M' differs in the list's two cells alone -/
theorem z_coreL.setRobs (h : z_coreL G M P a kd rl ol sg ra oa ras oas c) {ra' : Nat} {ras' : List Nat} {rs' : List z_R} (hf : w_fr M M' (fun q => q = rl ∨ q = ra)) (hal : w_AL G M' rl ra' ras') (hra : ra' = ra ∨ (M.sz ≤ ra' ∧ P ra')) (hlen : ras'.length = rs'.length) (hnd : ras'.Nodup) (hrob : ∀ (i x : Nat) (r : z_R), ras'[i]? = some x → rs'[i]? = some r → z_rob M' (fun q => P q ∧ q ≠ sg) x r) (hd : ∀ e, M.get (w_ad G 0) ≠ some e) : z_coreL G M' P a kd rl ol sg ra' oa ras' oas (z_setR c rs') := by
  obtain ⟨⟨p1, p2, p3, p4, p5, p6, p7⟩, h1, ⟨f, h2, h3⟩, ⟨g, h4, h5⟩, h6, h7, h8, h9, h10, h11, h12, h13, h14, h15, h16⟩ := h
  obtain ⟨fl, hrl⟩ := h6.obj
  have hr9 : ∀ e, M.get ra = some e → ∃ f, e = .inl (.object "java/lang/Object", 10, .inr (.inr (.inr (.inr f)))) := fun e he => by
    obtain ⟨md, e1, e2, e3⟩ := h6
    rcases e3 with ⟨e3, -⟩ | ⟨f, e4, e5⟩
    · rw [e3] at he; exact (hd _ he).elim
    · exact ⟨f, Option.some.inj (he.symm.trans e4)⟩
  have harr : ∀ (y : Nat) (e : w_E), M.get y = some e → (∀ gs, e ≠ .inr (11, gs)) → (∀ f, e ≠ .inl (.object "java/lang/Object", 10, .inr (.inr (.inr (.inr f))))) → ¬ (y = rl ∨ y = ra) := fun y e he hne hne2 q => by
    rcases q with q | q
    · exact hne _ (Option.some.inj (he.symm.trans ((congrArg M.get q).trans hrl)))
    · rw [q] at he
      obtain ⟨f, rfl⟩ := hr9 e he
      exact hne2 f rfl
  refine ⟨⟨p1, p2, p3, p4, p5, hra.elim (fun q => by rw [q]; exact p6) (fun q => Or.inr q.2), p7⟩, hf.2 _ _ h1 (harr _ _ h1 (fun _ q => by cases q) (fun _ q => by cases q)), ⟨f, hf.2 _ _ h2 (harr _ _ h2 (fun _ q => by cases q) (fun _ q => by cases q)), h3⟩, ⟨g, hf.2 _ _ h4 (harr _ _ h4 (fun _ q => by cases q) (fun _ q => by cases q)), h5⟩, hal, ?_, hlen, h9, hrob, ?_, hnd, h13, h14, ?_, h16⟩
  · obtain ⟨md, e1, e2, e3⟩ := h7
    refine ⟨md, hf.2 _ _ e1 (fun q => ?_), e2, e3.imp id (fun ⟨f, e4, e5⟩ => ⟨f, hf.2 _ _ e4 (fun q => ?_), e5⟩)⟩
    · rcases q with q | q
      · exact h14 q.symm
      · rw [q] at e1; obtain ⟨f, e⟩ := hr9 _ e1; cases e
    · rcases q with q | q
      · rw [q, hrl] at e4; cases e4
      · rw [q, h15 q.symm] at e4; exact hd _ e4
  · intro i y r hy ho
    obtain ⟨gs, hgs⟩ := (h11 i y r hy ho).obj
    exact (h11 i y r hy ho).keep2 hf (harr _ _ hgs (fun _ q => by cases q) (fun _ q => by cases q)) (fun q m f _ he => harr _ _ he (fun _ q => by cases q) (fun _ q => by cases q))
  · intro q
    rcases hra with e | e
    · rw [e] at q ⊢; exact h15 q
    · rcases h7.lt.2 with z | z
      · exact q.trans z
      · omega
theorem z_coreL.setOrds (h : z_coreL G M P a kd rl ol sg ra oa ras oas c) {oa' : Nat} {oas' : List Nat} {os' : List z_O} (hf : w_fr M M' (fun q => q = ol ∨ q = oa)) (hal : w_AL G M' ol oa' oas') (hra : oa' = oa ∨ (M.sz ≤ oa' ∧ P oa')) (hlen : oas'.length = os'.length) (hnd : oas'.Nodup) (hrob : ∀ (i x : Nat) (r : z_O), oas'[i]? = some x → os'[i]? = some r → z_ord M' (fun q => P q ∧ q ≠ sg) x i r) (hd : ∀ e, M.get (w_ad G 0) ≠ some e) : z_coreL G M' P a kd rl ol sg ra oa' ras oas' (z_setO c os') := by
  obtain ⟨⟨p1, p2, p3, p4, p5, p6, p7⟩, h1, ⟨f, h2, h3⟩, ⟨g, h4, h5⟩, h6, h7, h8, h9, h10, h11, h12, h13, h14, h15, h16⟩ := h
  obtain ⟨fl, hrl⟩ := h7.obj
  have hr9 : ∀ e, M.get oa = some e → ∃ f, e = .inl (.object "java/lang/Object", 10, .inr (.inr (.inr (.inr f)))) := fun e he => by
    obtain ⟨md, e1, e2, e3⟩ := h7
    rcases e3 with ⟨e3, -⟩ | ⟨f, e4, e5⟩
    · rw [e3] at he; exact (hd _ he).elim
    · exact ⟨f, Option.some.inj (he.symm.trans e4)⟩
  have harr : ∀ (y : Nat) (e : w_E), M.get y = some e → (∀ gs, e ≠ .inr (11, gs)) → (∀ f, e ≠ .inl (.object "java/lang/Object", 10, .inr (.inr (.inr (.inr f))))) → ¬ (y = ol ∨ y = oa) := fun y e he hne hne2 q => by
    rcases q with q | q
    · exact hne _ (Option.some.inj (he.symm.trans ((congrArg M.get q).trans hrl)))
    · rw [q] at he
      obtain ⟨f, rfl⟩ := hr9 e he
      exact hne2 f rfl
  refine ⟨⟨p1, p2, p3, p4, p5, p6, hra.elim (fun q => by rw [q]; exact p7) (fun q => Or.inr q.2)⟩, hf.2 _ _ h1 (harr _ _ h1 (fun _ q => by cases q) (fun _ q => by cases q)), ⟨f, hf.2 _ _ h2 (harr _ _ h2 (fun _ q => by cases q) (fun _ q => by cases q)), h3⟩, ⟨g, hf.2 _ _ h4 (harr _ _ h4 (fun _ q => by cases q) (fun _ q => by cases q)), h5⟩, ?_, hal, h8, hlen, ?_, hrob, h12, hnd, h14, ?_, h16⟩
  · obtain ⟨md, e1, e2, e3⟩ := h6
    refine ⟨md, hf.2 _ _ e1 (fun q => ?_), e2, e3.imp id (fun ⟨f, e4, e5⟩ => ⟨f, hf.2 _ _ e4 (fun q => ?_), e5⟩)⟩
    · rcases q with q | q
      · exact h14 q
      · rw [q] at e1; obtain ⟨f, e⟩ := hr9 _ e1; cases e
    · rcases q with q | q
      · rw [q, hrl] at e4; cases e4
      · rw [h15 q] at e4; exact hd _ e4
  · intro i y r hy ho
    obtain ⟨gs, hgs⟩ := (h10 i y r hy ho).obj
    exact (h10 i y r hy ho).keep2 hf (harr _ _ hgs (fun _ q => by cases q) (fun _ q => by cases q)) (fun q m f _ he => harr _ _ he (fun _ q => by cases q) (fun _ q => by cases q))
  · intro q
    rcases hra with e | e
    · exact h15 (q.trans e)
    · rcases h6.lt.2 with z | z
      · exact z
      · omega
theorem z_coreL.rarr (h : z_coreL G M P a kd rl ol sg ra oa ras oas c) (hd : ∀ e, M.get (w_ad G 0) ≠ some e) {y : Nat} {e : w_E} (he : M.get y = some e) (hne : ∀ gs, e ≠ .inr (11, gs)) (hne2 : ∀ f, e ≠ .inl (.object "java/lang/Object", 10, .inr (.inr (.inr (.inr f))))) : ¬ (y = rl ∨ y = ra) := by
  obtain ⟨md, e1, e2, e3⟩ := h.2.2.2.2.1
  rintro (q | q)
  · exact hne _ (Option.some.inj (he.symm.trans ((congrArg M.get q).trans e1)))
  · rw [q] at he
    rcases e3 with ⟨e3, -⟩ | ⟨f, e4, e5⟩
    · rw [e3] at he; exact hd _ he
    · exact hne2 f (Option.some.inj (he.symm.trans e4))
theorem z_coreL.oarr (h : z_coreL G M P a kd rl ol sg ra oa ras oas c) (hd : ∀ e, M.get (w_ad G 0) ≠ some e) {y : Nat} {e : w_E} (he : M.get y = some e) (hne : ∀ gs, e ≠ .inr (11, gs)) (hne2 : ∀ f, e ≠ .inl (.object "java/lang/Object", 10, .inr (.inr (.inr (.inr f))))) : ¬ (y = ol ∨ y = oa) := by
  obtain ⟨md, e1, e2, e3⟩ := h.2.2.2.2.2.1
  rintro (q | q)
  · exact hne _ (Option.some.inj (he.symm.trans ((congrArg M.get q).trans e1)))
  · rw [q] at he
    rcases e3 with ⟨e3, -⟩ | ⟨f, e4, e5⟩
    · rw [e3] at he; exact hd _ he
    · exact hne2 f (Option.some.inj (he.symm.trans e4))
/-- a robot put at the list's end -/
theorem z_coreL.addRob (h : z_coreL G M P a kd rl ol sg ra oa ras oas c) {x ra' : Nat} {r' : z_R} (hf : w_fr M M' (fun q => q = rl ∨ q = ra)) (hal : w_AL G M' rl ra' (ras ++ [x])) (hra : ra' = ra ∨ (M.sz ≤ ra' ∧ P ra')) (hx : z_rob M (fun q => P q ∧ q ≠ sg) x r') (hnx : x ∉ ras) (hd : ∀ e, M.get (w_ad G 0) ≠ some e) : z_coreL G M' P a kd rl ol sg ra' oa (ras ++ [x]) oas (z_setR c (z_robs c ++ [r'])) := by
  have hlen : ras.length = (z_robs c).length := h.2.2.2.2.2.2.1
  have kp : ∀ (y : Nat) (r : z_R), z_rob M (fun q => P q ∧ q ≠ sg) y r → z_rob M' (fun q => P q ∧ q ≠ sg) y r := fun y r hy => by
    obtain ⟨gs, hgs⟩ := hy.obj
    exact hy.keep2 hf (h.rarr hd hgs (fun _ q => by cases q) (fun _ q => by cases q)) (fun q m f _ he => h.rarr hd he (fun _ q => by cases q) (fun _ q => by cases q))
  refine h.setRobs hf hal hra (by simp [hlen]) ?_ ?_ hd
  · rw [List.nodup_append]
    refine ⟨h.2.2.2.2.2.2.2.2.2.2.1, by simp, fun y hy z hz q => hnx ?_⟩
    rw [List.mem_singleton.mp hz] at q
    rw [← q]
    exact hy
  · intro i y r hy hr
    by_cases hi : i < ras.length
    · rw [List.getElem?_append_left hi] at hy
      rw [List.getElem?_append_left (by omega)] at hr
      exact kp _ _ (h.2.2.2.2.2.2.2.2.1 i y r hy hr)
    · rw [List.getElem?_append_right (by omega)] at hy hr
      rw [← hlen] at hr
      have hi1 : i - ras.length < 1 := (List.getElem?_eq_some_iff.mp hy).1
      rw [show i - ras.length = 0 by omega] at hy hr
      cases hy
      cases hr
      exact kp _ _ hx
/-- a robot taken out -/
theorem z_coreL.delRob (h : z_coreL G M P a kd rl ol sg ra oa ras oas c) {k : Nat} (hf : w_fr M M' (fun q => q = rl ∨ q = ra)) (hal : w_AL G M' rl ra (ras.eraseIdx k)) (hk : k < ras.length) (hd : ∀ e, M.get (w_ad G 0) ≠ some e) : z_coreL G M' P a kd rl ol sg ra oa (ras.eraseIdx k) oas (z_setR c ((z_robs c).eraseIdx k)) := by
  have hlen : ras.length = (z_robs c).length := h.2.2.2.2.2.2.1
  refine h.setRobs hf hal (Or.inl rfl) (by rw [List.length_eraseIdx_of_lt hk, List.length_eraseIdx_of_lt (by omega), hlen]) ?_ ?_ hd
  · exact List.Nodup.sublist (List.eraseIdx_sublist _ _) h.2.2.2.2.2.2.2.2.2.2.1
  · intro i y r hy hr
    rw [List.getElem?_eraseIdx] at hy hr
    have hy' : ∃ j : Nat, ras[j]? = some y ∧ (z_robs c)[j]? = some r := by
      split at hy
      · rename_i hi
        rw [if_pos hi] at hr
        exact ⟨i, hy, hr⟩
      · rename_i hi
        rw [if_neg hi] at hr
        exact ⟨i + 1, hy, hr⟩
    obtain ⟨j, hj1, hj2⟩ := hy'
    have hy2 := h.2.2.2.2.2.2.2.2.1 j y r hj1 hj2
    obtain ⟨gs, hgs⟩ := hy2.obj
    exact hy2.keep2 hf (h.rarr hd hgs (fun _ q => by cases q) (fun _ q => by cases q)) (fun q m f _ he => h.rarr hd he (fun _ q => by cases q) (fun _ q => by cases q))
/-- an order put at the list's end -/
theorem z_coreL.addOrd (h : z_coreL G M P a kd rl ol sg ra oa ras oas c) {x oa' : Nat} {o' : z_O} (hf : w_fr M M' (fun q => q = ol ∨ q = oa)) (hal : w_AL G M' ol oa' (oas ++ [x])) (hra : oa' = oa ∨ (M.sz ≤ oa' ∧ P oa')) (hx : z_ord M (fun q => P q ∧ q ≠ sg) x oas.length o') (hnx : x ∉ oas) (hd : ∀ e, M.get (w_ad G 0) ≠ some e) : z_coreL G M' P a kd rl ol sg ra oa' ras (oas ++ [x]) (z_setO c (z_ords c ++ [o'])) := by
  have hlen : oas.length = (z_ords c).length := h.2.2.2.2.2.2.2.1
  have kp : ∀ (y n : Nat) (r : z_O), z_ord M (fun q => P q ∧ q ≠ sg) y n r → z_ord M' (fun q => P q ∧ q ≠ sg) y n r := fun y n r hy => by
    obtain ⟨gs, hgs⟩ := hy.obj
    exact hy.keep2 hf (h.oarr hd hgs (fun _ q => by cases q) (fun _ q => by cases q)) (fun q m f _ he => h.oarr hd he (fun _ q => by cases q) (fun _ q => by cases q))
  refine h.setOrds hf hal hra (by simp [hlen]) ?_ ?_ hd
  · rw [List.nodup_append]
    refine ⟨h.2.2.2.2.2.2.2.2.2.2.2.1, by simp, fun y hy z hz q => hnx ?_⟩
    rw [List.mem_singleton.mp hz] at q
    rw [← q]
    exact hy
  · intro i y r hy hr
    by_cases hi : i < oas.length
    · rw [List.getElem?_append_left hi] at hy
      rw [List.getElem?_append_left (by omega)] at hr
      exact kp _ _ _ (h.2.2.2.2.2.2.2.2.2.1 i y r hy hr)
    · rw [List.getElem?_append_right (by omega)] at hy hr
      rw [← hlen] at hr
      have hi1 : i - oas.length < 1 := (List.getElem?_eq_some_iff.mp hy).1
      rw [show i - oas.length = 0 by omega] at hy hr
      cases hy
      cases hr
      rw [show i = oas.length by omega]
      exact kp _ _ _ hx
end UP
