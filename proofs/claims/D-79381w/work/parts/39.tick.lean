/-! ===== the core's tick ===== -/
set_option maxRecDepth 100000
/-- the core at a, with what is known of each robot's plan's array -/
def z_coreE (F : Nat → z_R → Option Nat → Prop) (G : w_G) (M : w_M) (P : Nat → Prop) (a kd rl ol sg ra oa : Nat) (ras oas : List Nat) (c : z_C) : Prop :=
  (P a ∧ P kd ∧ P rl ∧ P ol ∧ P sg ∧ (ra = w_ad G 0 ∨ P ra) ∧ (oa = w_ad G 0 ∨ P oa)) ∧
  M.get a = some (.inr (1, [.int (nI (z_rows c)), .int (nI (z_cols c)), .ref kd, .ref rl, .ref ol, .ref sg, .long (z_closed c), .int (z_now c)])) ∧
  (∃ f : Nat → Int32, M.get kd = some (.inl (.int, z_size c, .inl f)) ∧ ∀ k, k < z_size c → f k = z_kinds c k) ∧
  (∃ f : Nat → Int32, M.get sg = some (.inl (.int, 3, .inl f)) ∧ ∀ k, k < 3 → f k = z_sets c k) ∧
  w_AL G M rl ra ras ∧ w_AL G M ol oa oas ∧ ras.length = (z_robs c).length ∧ oas.length = (z_ords c).length ∧
  (∀ (i x : Nat) (r : z_R), ras[i]? = some x → (z_robs c)[i]? = some r → ∃ pv, z_robP M (fun q => P q ∧ q ≠ sg) x r pv ∧ F i r pv) ∧ (∀ (i x : Nat) (o : z_O), oas[i]? = some x → (z_ords c)[i]? = some o → z_ord M (fun q => P q ∧ q ≠ sg) x i o) ∧
  ras.Nodup ∧ oas.Nodup ∧ rl ≠ ol ∧ (ra = oa → ra = w_ad G 0) ∧ kd ≠ sg
def z_F0 : Nat → z_R → Option Nat → Prop := fun _ r pv => pv = none ↔ z_plan r = []
section TE
variable {G : w_G} {M M' : w_M} {P : Nat → Prop} {a kd rl ol sg ra oa : Nat} {ras oas : List Nat} {c : z_C} {F F' : Nat → z_R → Option Nat → Prop}
theorem z_coreL.toE (h : z_coreL G M P a kd rl ol sg ra oa ras oas c) : z_coreE z_F0 G M P a kd rl ol sg ra oa ras oas c := h
theorem z_coreE.toL (h : z_coreE z_F0 G M P a kd rl ol sg ra oa ras oas c) : z_coreL G M P a kd rl ol sg ra oa ras oas c := h
theorem z_coreE.imp (h : z_coreE F G M P a kd rl ol sg ra oa ras oas c) (hF : ∀ i r pv, (z_robs c)[i]? = some r → F i r pv → F' i r pv) : z_coreE F' G M P a kd rl ol sg ra oa ras oas c := by
  obtain ⟨h1, h2, h3, h4, h5, h6, h7, h8, h9, h10⟩ := h
  exact ⟨h1, h2, h3, h4, h5, h6, h7, h8, fun i x r e1 e2 => (h9 i x r e1 e2).imp (fun pv z => ⟨z.1, hF i r pv e2 z.2⟩), h10⟩
theorem z_robP.obj {M : w_M} {P : Nat → Prop} {a : Nat} {r : z_R} {pv : Option Nat} (h : z_robP M P a r pv) : ∃ fs, M.get a = some (.inr (5, fs)) := by
  obtain ⟨dn, -, h2, -⟩ := h
  exact ⟨_, h2⟩
theorem z_robE.obj {M : w_M} {P : Nat → Prop} {a : Nat} {r : z_R} {Fp : Option Nat → Prop} (h : ∃ pv, z_robP M P a r pv ∧ Fp pv) : ∃ fs, M.get a = some (.inr (5, fs)) := by
  obtain ⟨pv, h1, -⟩ := h
  exact h1.obj
theorem z_robE.keep2 {M M' : w_M} {P W : Nat → Prop} {a : Nat} {r : z_R} {Fp Fq : Option Nat → Prop} (h : ∃ pv, z_robP M P a r pv ∧ Fp pv) (hpq : ∀ pv, Fp pv → Fq pv) (hf : w_fr M M' W) (h1 : ¬ W a) (h2 : ∀ q m f, P q → M.get q = some (.inl (.int, m, .inl f)) → ¬ W q) : ∃ pv, z_robP M' P a r pv ∧ Fq pv := by
  obtain ⟨pv, e1, e2⟩ := h
  exact ⟨pv, e1.keep2 hf h1 h2, hpq _ e2⟩
theorem z_coreE.setRob (h : z_coreE F G M P a kd rl ol sg ra oa ras oas c) {k x : Nat} {r' : z_R} (hx : ras[k]? = some x) (hf : w_fr M M' (fun q => q = x)) (hr : ∃ pv, z_robP M' (fun q => P q ∧ q ≠ sg) x r' pv ∧ F' k r' pv) (hF : ∀ i r pv, i ≠ k → F i r pv → F' i r pv) : z_coreE F' G M' P a kd rl ol sg ra oa ras oas (z_setR c ((z_robs c).set k r')) := by
  obtain ⟨hp, h1, ⟨f, h2, h3⟩, ⟨g, h4, h5⟩, h6, h7, h8, h9, h10, h11, h12, h13, h14, h15, h16⟩ := h
  have hk : k < (z_robs c).length := by rw [← h8]; exact (List.getElem?_eq_some_iff.mp hx).1
  obtain ⟨fs, hob⟩ := z_robE.obj (h10 k x _ hx (List.getElem?_eq_getElem hk))
  obtain ⟨fl, hrl⟩ := h6.obj
  obtain ⟨fo, hol⟩ := h7.obj
  have harr : ∀ (y : Nat) (e : w_E), M.get y = some e → (∀ gs, e ≠ .inr (5, gs)) → ¬ y = x := fun y e he hne q => hne fs (Option.some.inj (he.symm.trans ((congrArg M.get q).trans hob)))
  refine ⟨hp, hf.2 _ _ h1 (harr _ _ h1 (fun _ q => by cases q)), ⟨f, hf.2 _ _ h2 (harr _ _ h2 (fun _ q => by cases q)), h3⟩, ⟨g, hf.2 _ _ h4 (harr _ _ h4 (fun _ q => by cases q)), h5⟩, ?_, ?_, by rw [h8]; exact (List.length_set).symm, h9, ?_, ?_, h12, h13, h14, h15, h16⟩
  · obtain ⟨md, e1, e2, e3⟩ := h6
    refine ⟨md, hf.2 _ _ e1 (harr _ _ e1 (fun _ q => by cases q)), e2, e3.imp id (fun ⟨f, e4, e5⟩ => ⟨f, hf.2 _ _ e4 (harr _ _ e4 (fun _ q => by cases q)), e5⟩)⟩
  · obtain ⟨md, e1, e2, e3⟩ := h7
    refine ⟨md, hf.2 _ _ e1 (harr _ _ e1 (fun _ q => by cases q)), e2, e3.imp id (fun ⟨f, e4, e5⟩ => ⟨f, hf.2 _ _ e4 (harr _ _ e4 (fun _ q => by cases q)), e5⟩)⟩
  · intro i y r hy hri
    have hri : ((z_robs c).set k r')[i]? = some r := hri
    by_cases hik : i = k
    · subst hik
      cases hx.symm.trans hy
      rw [List.getElem?_set_self hk] at hri
      cases hri
      exact hr
    · rw [List.getElem?_set_ne (Ne.symm hik)] at hri
      refine z_robE.keep2 (h10 i y r hy hri) (fun pv z => hF i r pv hik z) hf (fun q => hik ?_) (fun q m f _ he => harr _ _ he (fun _ q => by cases q))
      subst q
      exact z_inj h12 hy hx
  · intro i y o hy ho
    obtain ⟨gs, hgs⟩ := (h11 i y o hy ho).obj
    exact (h11 i y o hy ho).keep2 hf (harr _ _ hgs (fun _ q => by cases q)) (fun q m f _ he => harr _ _ he (fun _ q => by cases q))
theorem z_coreE.setOrd (h : z_coreE F G M P a kd rl ol sg ra oa ras oas c) {k x : Nat} {o' : z_O} (hx : oas[k]? = some x) (hf : w_fr M M' (fun q => q = x)) (hr : z_ord M' (fun q => P q ∧ q ≠ sg) x k o') : z_coreE F G M' P a kd rl ol sg ra oa ras oas (z_setO c ((z_ords c).set k o')) := by
  obtain ⟨hp, h1, ⟨f, h2, h3⟩, ⟨g, h4, h5⟩, h6, h7, h8, h9, h10, h11, h12, h13, h14, h15, h16⟩ := h
  have hk : k < (z_ords c).length := by rw [← h9]; exact (List.getElem?_eq_some_iff.mp hx).1
  obtain ⟨fs, hob⟩ := (h11 k x _ hx (List.getElem?_eq_getElem hk)).obj
  have harr : ∀ (y : Nat) (e : w_E), M.get y = some e → (∀ gs, e ≠ .inr (6, gs)) → ¬ y = x := fun y e he hne q => hne fs (Option.some.inj (he.symm.trans ((congrArg M.get q).trans hob)))
  refine ⟨hp, hf.2 _ _ h1 (harr _ _ h1 (fun _ q => by cases q)), ⟨f, hf.2 _ _ h2 (harr _ _ h2 (fun _ q => by cases q)), h3⟩, ⟨g, hf.2 _ _ h4 (harr _ _ h4 (fun _ q => by cases q)), h5⟩, ?_, ?_, h8, by rw [h9]; exact (List.length_set).symm, ?_, ?_, h12, h13, h14, h15, h16⟩
  · obtain ⟨md, e1, e2, e3⟩ := h6
    refine ⟨md, hf.2 _ _ e1 (harr _ _ e1 (fun _ q => by cases q)), e2, e3.imp id (fun ⟨f, e4, e5⟩ => ⟨f, hf.2 _ _ e4 (harr _ _ e4 (fun _ q => by cases q)), e5⟩)⟩
  · obtain ⟨md, e1, e2, e3⟩ := h7
    refine ⟨md, hf.2 _ _ e1 (harr _ _ e1 (fun _ q => by cases q)), e2, e3.imp id (fun ⟨f, e4, e5⟩ => ⟨f, hf.2 _ _ e4 (harr _ _ e4 (fun _ q => by cases q)), e5⟩)⟩
  · intro i y r hy ho
    obtain ⟨gs, hgs⟩ := z_robE.obj (h10 i y r hy ho)
    exact z_robE.keep2 (h10 i y r hy ho) (fun _ z => z) hf (harr _ _ hgs (fun _ q => by cases q)) (fun q m f _ he => harr _ _ he (fun _ q => by cases q))
  · intro i y r hy hri
    have hri : ((z_ords c).set k o')[i]? = some r := hri
    by_cases hik : i = k
    · subst hik
      cases hx.symm.trans hy
      rw [List.getElem?_set_self hk] at hri
      cases hri
      exact hr
    · rw [List.getElem?_set_ne (Ne.symm hik)] at hri
      refine (h11 i y r hy hri).keep2 hf (fun q => hik ?_) (fun q m f _ he => harr _ _ he (fun _ q => by cases q))
      subst q
      exact z_inj h13 hy hx
theorem z_robP.setBatt {M : w_M} {P : Nat → Prop} {x : Nat} {r : z_R} {pv : Option Nat} (h : z_robP M P x r pv) (b : Int32) {dn : Int32} (hob : M.get x = some (.inr (5, [.int (nI (z_cell r)), .int (z_batt r), .int (z_enc (z_has r)), .int (z_steps r), va_rf pv, .int dn, .int (z_cost r)]))) : z_robP (M.set x (.inr (5, [.int (nI (z_cell r)), .int b, .int (z_enc (z_has r)), .int (z_steps r), va_rf pv, .int dn, .int (z_cost r)]))) P x (z_battR r b) pv := by
  obtain ⟨dn', h1, h2, h3⟩ := h
  have e := hob.symm.trans h2
  simp only [Option.some.injEq, Sum.inr.injEq, Prod.mk.injEq, List.cons.injEq, Value.int.injEq, true_and, and_true] at e
  subst e
  refine ⟨dn, h1, w_set_self hob, ?_⟩
  cases pv with
  | none => exact h3
  | some p =>
    obtain ⟨h4, m, d, f, h5, h6⟩ := h3
    exact ⟨h4, m, d, f, by rw [w_set_ne (w_neA hob h5).symm]; exact h5, h6⟩
end TE
section TK
variable {l : Launch} {G : w_G} {M : w_M} {P : Nat → Prop} {a kd rl ol sg ra oa s0 : Nat} {ras oas : List Nat} {c : z_C} {F : Nat → z_R → Option Nat → Prop}
theorem sp_arrive (h : z_coreE F G M P a kd rl ol sg ra oa ras oas c) (hs : z_small c) (ho : z_own G s0 a rl ol sg ra oa ras oas) {k y : Nat} {r : z_R} (hr : (z_robs c)[k]? = some r) (hy : ras[k]? = some y) (hF : ∀ pv, F k r pv → F k (z_hasR r none) pv) : w_S l G tX2_arrive (4, 0, 0) [.ref a, .ref y] M (w_rI (fun v M' => v = (z_arriveC c k).2 ∧ z_coreE F G M' P a kd rl ol sg ra oa ras oas (z_arriveC c k).1 ∧ w_fr M M' (fun q => s0 ≤ q))) := by
  have hg := h.2.1
  have hol : w_AL G M ol oa oas := h.2.2.2.2.2.1
  have hgo := hol.choose_spec.1
  have hleo : oas.length = (z_ords c).length := h.2.2.2.2.2.2.2.1
  have h10 : (z_ords c).length ≤ 10 := hs.2.2.2.2.2.1
  obtain ⟨n1, n2, n3⟩ := z_idxL hs
  obtain ⟨kf, hk1, hk2⟩ := h.2.2.1
  obtain ⟨pv, hrp, hrF⟩ := h.2.2.2.2.2.2.2.2.1 k y r hy hr
  obtain ⟨dn, hpy, hob, hrest⟩ := id hrp
  have hsm := hs.2.2.2.2.2.2.1 r (List.mem_of_getElem? hr)
  have hho := hsm.2.2.2
  have hcn := hsm.1
  have hm1 := z_enc_m1 (g := z_has r) (fun j e => by have := hho j e; omega)
  have hys := ho.2.2.2.2.2.2.1 y (List.mem_of_getElem? hy)
  refine w_start (by decide) (Nat.le_of_ble_eq_true rfl) (fun X => ?_)
  refine wa_locals [(0, _), (1, _)] [0, 1] rfl ?_
  refine wa_aload_n 1 dX2_arrive_0 rfl rfl ?_
  refine wa_getf dX2_arrive_1 gX2_117 hob rfl ?_
  refine wa_iconst (-1) dX2_arrive_4 (by decide) ?_
  refine wa_icmp_ne 10 dX2_arrive_5 rfl (fun c5 => ?_) (fun c5 => ?_)
  ·
    obtain ⟨i, i1⟩ : ∃ o, z_has r = some o := Option.ne_none_iff_exists'.mp (fun q => c5 (hm1.mpr q))
    have hi := hho i i1
    obtain ⟨od, hod⟩ : ∃ od, (z_ords c)[i]? = some od := ⟨_, List.getElem?_eq_getElem hi⟩
    obtain ⟨yo, hyo, hor⟩ : ∃ yo, oas[i]? = some yo ∧ z_ord M (fun q => P q ∧ q ≠ sg) yo i od := ⟨oas[i], List.getElem?_eq_getElem (by omega), h.2.2.2.2.2.2.2.2.2.1 i _ od (List.getElem?_eq_getElem (by omega)) hod⟩
    obtain ⟨la, hp1, hp2, hoo, f, hla, hlf⟩ := id hor
    have hpk := hs.2.2.2.2.2.2.2 od (List.mem_of_getElem? hod)
    have hyoy : yo ≠ y := w_neC hoo hob (by decide)
    have hay : a ≠ yo := w_neC hg hoo (by decide)
    have hyos := ho.2.2.2.2.2.2.2 yo (List.mem_of_getElem? hyo)
    have ee : z_enc (z_has r) = nI i := by rw [i1]; rfl
    refine wa_aload_n 0 dX2_arrive_10 rfl rfl ?_
    refine wa_getf dX2_arrive_11 gX2_18 hg rfl ?_
    refine wa_aload_n 1 dX2_arrive_14 rfl rfl ?_
    refine wa_getf dX2_arrive_15 gX2_117 hob rfl ?_
    rw [ee]
    refine wc_isA (wr_V dX2_arrive_18 mX2_42 (sp_get hol hyo) hgo rfl rfl rfl (Nat.le_of_ble_eq_true rfl)) ?_
    refine wa_castS dX2_arrive_21 q377 hoo rfl ?_
    refine wa_astore_n [(2, _), (0, _), (1, _)] dX2_arrive_24 rfl (Nat.le_of_ble_eq_true rfl) rfl ?_
    refine wa_aload_n 0 dX2_arrive_25 rfl rfl ?_
    refine wc_isI (wr_V dX2_arrive_26 mX2_130 (sp_left hor hpk.1) (by assumption) rfl rfl rfl (Nat.le_of_ble_eq_true rfl)) ?_
    refine wa_if_le 64 dX2_arrive_29 rfl (fun c29 => ?_) (fun c29 => ?_)
    ·
      have i2 : ¬ z_picked od < (z_lines od).length := fun q => by
        have := (nI_leI (a := (z_lines od).length - z_picked od) (b := 0) (by omega) (by decide)).mp c29
        omega
      refine wa_aload_n 1 dX2_arrive_64 rfl rfl ?_
      refine wa_getf dX2_arrive_65 gX2_32 hg rfl ?_
      refine wa_aload_n 2 dX2_arrive_68 rfl rfl ?_
      refine wa_getf dX2_arrive_69 gX2_151 hob rfl ?_
      refine wa_iald dX2_arrive_72 hk1 (vp_in_nI hcn (by omega)) ?_
      rw [nI_clamp (by omega), hk2 _ hcn]
      refine wa_iconst (3) dX2_arrive_73 (by decide) ?_
      refine wa_icmp_eq 79 dX2_arrive_74 rfl (fun c74 => ?_) (fun c74 => ?_)
      ·
        have i3 : z_kinds c (z_cell r) = 3 := c74
        refine wa_aload_n 0 dX2_arrive_79 rfl rfl ?_
        refine wa_iconst (2) dX2_arrive_80 (by decide) ?_
        refine wa_putf [_, _, _, _, _, _] dX2_arrive_81 pX2_127 hoo (Nat.le_of_ble_eq_true rfl) rfl rfl rfl ?_
        have hoo2 := w_set_self (e := .inr (6, [.int (nI i), .int (z_due od), .ref la, .int (nI (z_picked od)), .int 2, .int (z_del od)])) hoo
        refine wa_aload_n 0 dX2_arrive_84 rfl rfl ?_
        refine wa_aload_n 1 dX2_arrive_85 rfl rfl ?_
        refine wa_getf dX2_arrive_86 gX2_71 (w_sne hg hay) rfl ?_
        refine wa_putf [_, _, _, _, _, _] dX2_arrive_89 pX2_205 hoo2 (Nat.le_of_ble_eq_true rfl) rfl rfl rfl ?_
        rw [w_set_set]
        have hor2 := hor.setSt (z_picked od) 2 (z_now c) hoo
        have hc := h.setOrd hyo w_fr_me hor2
        have hob2 := w_sne (e := .inr (6, [.int (nI i), .int (z_due od), .ref la, .int (nI (z_picked od)), .int 2, .int (z_now c)])) hob hyoy.symm
        obtain ⟨pv2, hrp2, hrF2⟩ := hc.2.2.2.2.2.2.2.2.1 k y r hy hr
        have epv : pv2 = pv := by
          obtain ⟨dn2, -, hob3, -⟩ := hrp2
          have e := hob2.symm.trans hob3
          simp only [Option.some.injEq, Sum.inr.injEq, Prod.mk.injEq, List.cons.injEq, true_and, and_true] at e
          cases pv <;> cases pv2 <;> simp_all [va_rf]
        subst epv
        refine wa_aload_n 2 dX2_arrive_92 rfl rfl ?_
        refine wa_iconst (-1) dX2_arrive_93 (by decide) ?_
        refine wa_putf [_, _, _, _, _, _, _] dX2_arrive_94 pX2_117 hob2 (Nat.le_of_ble_eq_true rfl) rfl rfl rfl ?_
        have hr3 := hrp2.setHas none hob2
        have hc3 := hc.setRob (F' := F) (r' := z_hasR r none) hy w_fr_me ⟨pv2, hr3, hF _ hrF2⟩ (fun _ _ _ _ z => z)
        refine wa_iconst (1) dX2_arrive_97 (by decide) ?_
        refine wa_iret FieldType.int dX2_arrive_98 rfl rfl (Nat.le_of_ble_eq_true rfl) (Nat.le_of_ble_eq_true rfl) ?_
        exact ⟨_, rfl, by simp only [z_arriveC, hr, i1, hod, if_neg i2, if_pos i3], by simp only [z_arriveC, hr, i1, hod, if_neg i2, if_pos i3]; exact hc3, (z_fr1 w_fr_me hyos).set hys⟩
      ·
        have i3 : ¬ z_kinds c (z_cell r) = 3 := c74
        refine wa_iconst (0) dX2_arrive_77 (by decide) ?_
        refine wa_iret FieldType.int dX2_arrive_78 rfl rfl (Nat.le_of_ble_eq_true rfl) (Nat.le_of_ble_eq_true rfl) ?_
        exact ⟨_, rfl, by simp only [z_arriveC, hr, i1, hod, if_neg i2, if_neg i3], by simp only [z_arriveC, hr, i1, hod, if_neg i2, if_neg i3]; exact h, w_fr.rf⟩
    ·
      have i2 : z_picked od < (z_lines od).length := by
        exact Classical.byContradiction fun w => c29 ((nI_leI (a := (z_lines od).length - z_picked od) (b := 0) (by omega) (by decide)).mpr (by omega))
      obtain ⟨q, hq⟩ : ∃ q, (z_lines od)[z_picked od]? = some q := ⟨_, List.getElem?_eq_getElem i2⟩
      have hqn := hpk.2.2.2.1 q (List.mem_of_getElem? hq)
      have hip : vp_in (nI (z_picked od)) (z_lines od).length := vp_in_nI i2 (by omega)
      have hfq : f (nI (z_picked od)).toNatClampNeg = nI q := by rw [nI_clamp (by omega)]; exact hlf _ q hq
      refine wa_aload_n 0 dX2_arrive_32 rfl rfl ?_
      refine wa_dup dX2_arrive_33 rfl ?_
      refine wa_getf dX2_arrive_34 gX2_133 hoo rfl ?_
      refine wa_aload_n 0 dX2_arrive_37 rfl rfl ?_
      refine wa_getf dX2_arrive_38 gX2_202 hoo rfl ?_
      refine wa_aload_n 0 dX2_arrive_41 rfl rfl ?_
      refine wa_getf dX2_arrive_42 gX2_133 hoo rfl ?_
      refine wa_iald dX2_arrive_45 hla hip ?_
      rw [hfq]
      refine wa_aload_n 2 dX2_arrive_46 rfl rfl ?_
      refine wa_getf dX2_arrive_47 gX2_151 hob rfl ?_
      refine wa_icmp_ne 57 dX2_arrive_50 rfl (fun c50 => ?_) (fun c50 => ?_)
      ·
        have i3 : ¬ q = z_cell r := fun e => c50 (by rw [e])
        refine wa_iconst (0) dX2_arrive_57 (by decide) ?_
        refine wa_iadd dX2_arrive_58 ?_
        refine wa_putf [_, _, _, _, _, _] dX2_arrive_59 pX2_133 hoo (Nat.le_of_ble_eq_true rfl) rfl rfl rfl ?_
        rw [Int32.add_zero]
        have hor2 := hor.setSt (z_picked od + 0) (z_state od) (z_del od) hoo
        have hc := h.setOrd hyo w_fr_me hor2
        refine wa_iconst (0) dX2_arrive_62 (by decide) ?_
        refine wa_iret FieldType.int dX2_arrive_63 rfl rfl (Nat.le_of_ble_eq_true rfl) (Nat.le_of_ble_eq_true rfl) ?_
        exact ⟨_, rfl, by simp only [z_arriveC, hr, i1, hod, if_pos i2], by simp only [z_arriveC, hr, i1, hod, if_pos i2, hq, if_neg (fun e => i3 (Option.some.inj e))]; exact hc, z_fr1 w_fr_me hyos⟩
      ·
        have i3 : q = z_cell r := (nI_eq (by omega) (by omega)).mp c50
        refine wa_iconst (1) dX2_arrive_53 (by decide) ?_
        refine wa_goto 58 dX2_arrive_54 rfl ?_
        refine wa_iadd dX2_arrive_58 ?_
        refine wa_putf [_, _, _, _, _, _] dX2_arrive_59 pX2_133 hoo (Nat.le_of_ble_eq_true rfl) rfl rfl rfl ?_
        rw [nI_1]
        have hor2 := hor.setSt (z_picked od + 1) (z_state od) (z_del od) hoo
        have hc := h.setOrd hyo w_fr_me hor2
        refine wa_iconst (0) dX2_arrive_62 (by decide) ?_
        refine wa_iret FieldType.int dX2_arrive_63 rfl rfl (Nat.le_of_ble_eq_true rfl) (Nat.le_of_ble_eq_true rfl) ?_
        exact ⟨_, rfl, by simp only [z_arriveC, hr, i1, hod, if_pos i2], by simp only [z_arriveC, hr, i1, hod, if_pos i2, hq, if_pos (congrArg some i3)]; exact hc, z_fr1 w_fr_me hyos⟩
  ·
    have i1 := hm1.mp c5
    refine wa_iconst (0) dX2_arrive_8 (by decide) ?_
    refine wa_iret FieldType.int dX2_arrive_9 rfl rfl (Nat.le_of_ble_eq_true rfl) (Nat.le_of_ble_eq_true rfl) ?_
    exact ⟨_, rfl, by simp only [z_arriveC, hr, i1], by simp only [z_arriveC, hr, i1]; exact h, w_fr.rf⟩
def z_F1 (e : Nat → Bool) (k : Nat) : Nat → z_R → Option Nat → Prop := fun i r pv => if i < k ∧ e i = true then pv ≠ none ∧ z_plan r = [] else (pv = none ↔ z_plan r = [])
def z_F2 (e : Nat → Bool) (k : Nat) : Nat → z_R → Option Nat → Prop := fun i r pv => if k ≤ i ∧ e i = true then pv ≠ none ∧ z_plan r = [] else (pv = none ↔ z_plan r = [])
theorem z_dropE {r : z_R} (h : z_plan r = []) : z_drop r = r := by
  obtain ⟨c, b, o, s, p, k⟩ := r
  cases h
  rfl
theorem z_setE {c : z_C} {k : Nat} {r : z_R} (h : (z_robs c)[k]? = some r) : z_setR c ((z_robs c).set k r) = c := by
  have e : (z_robs c).set k r = z_robs c := by
    apply List.ext_getElem?
    intro i
    by_cases hi : i = k
    · subst hi
      rw [List.getElem?_set_self (List.getElem?_eq_some_iff.mp h).1, h]
    · rw [List.getElem?_set_ne (Ne.symm hi)]
  rw [e]
  rfl
theorem sp_tick (h : z_coreL G M P a kd rl ol sg ra oa ras oas c) (hs : z_small c) (ho : z_own G s0 a rl ol sg ra oa ras oas) : w_S l G tX2_tick (5, 0, 0) [.ref a] M (w_rI (fun v M' => v = (z_tickC c).2 ∧ z_coreL G M' P a kd rl ol sg ra oa ras oas (z_tickC c).1 ∧ w_fr M M' (fun q => s0 ≤ q))) := by
  have hg0 := h.2.1
  have hlen : ras.length = (z_robs c).length := h.2.2.2.2.2.2.1
  have h6 : (z_robs c).length ≤ 6 := hs.2.2.2.2.1
  have hsz := hs.size
  refine w_start (by decide) (Nat.le_of_ble_eq_true rfl) (fun X => ?_)
  refine wa_locals [(0, _)] [0] rfl ?_
  have LP2 : ∀ (n k : Nat) (N : w_M) (cc : z_C) (d : Int32), (z_robs cc).length = (z_robs c).length → k + n = (z_robs c).length → z_small cc → z_coreE (z_F2 (z_ended c) k) G N P a kd rl ol sg ra oa ras oas cc → w_fr M N (fun q => s0 ≤ q) → z_ends (z_ended c) n k (cc, d) = z_tickC c → w_A l G tX2_tick (5, 0, 0) X 0 0 N 92 [(2, .int (nI k)), (1, .int d), (0, .ref a)] [] (w_rI (fun v M' => v = (z_tickC c).2 ∧ z_coreL G M' P a kd rl ol sg ra oa ras oas (z_tickC c).1 ∧ w_fr M M' (fun q => s0 ≤ q))) := by
    intro n
    induction n with
    | zero =>
      intro k N cc d hcl hkn hsc hE hfr he
      have hg := hE.2.1
      have hal := hE.2.2.2.2.1
      have hgl := hal.choose_spec.1
      refine wa_iload_n 0 dX2_tick_92 rfl rfl ?_
      refine wa_aload_n 2 dX2_tick_93 rfl rfl ?_
      refine wa_getf dX2_tick_94 gX2_12 hg rfl ?_
      refine wc_isI (wr_V dX2_tick_97 mX2_38 (sp_size hal) hgl rfl rfl rfl (Nat.le_of_ble_eq_true rfl)) ?_
      refine wa_icmp_ge 158 dX2_tick_100 rfl (fun c100 => ?_) (fun c100 => absurd (nI_le (by omega) (by omega)) c100)
      refine wa_iload_n 1 dX2_tick_158 rfl rfl ?_
      refine wa_iret FieldType.int dX2_tick_159 rfl rfl (Nat.le_of_ble_eq_true rfl) (Nat.le_of_ble_eq_true rfl) ?_
      refine ⟨_, rfl, by rw [← he]; rfl, ?_, hfr⟩
      rw [← he]
      exact (hE.imp (F' := z_F0) (fun i r pv hr hF => by
        have := (List.getElem?_eq_some_iff.mp hr).1
        unfold z_F2 at hF
        rw [if_neg (by omega)] at hF
        exact hF)).toL
    | succ n ih =>
      intro k N cc d hcl hkn hsc hE hfr he
      have hg := hE.2.1
      have hal := hE.2.2.2.2.1
      have hgl := hal.choose_spec.1
      obtain ⟨r, hr⟩ : ∃ r, (z_robs cc)[k]? = some r := ⟨_, List.getElem?_eq_getElem (by omega)⟩
      obtain ⟨y, hy⟩ : ∃ y, ras[k]? = some y := ⟨_, List.getElem?_eq_getElem (by omega)⟩
      obtain ⟨pv, hrp, hrF⟩ := hE.2.2.2.2.2.2.2.2.1 k y r hy hr
      obtain ⟨dn, hpy, hob, hrest⟩ := id hrp
      have hys := ho.2.2.2.2.2.2.1 y (List.mem_of_getElem? hy)
      have iff1 : z_ended c k = true ↔ (pv ≠ none ∧ z_plan r = []) := by
        unfold z_F2 at hrF
        constructor
        · intro q
          rw [if_pos ⟨Nat.le_refl k, q⟩] at hrF
          exact hrF
        · intro q
          refine Classical.byContradiction fun w => ?_
          rw [if_neg (fun z => w z.2)] at hrF
          exact q.1 (hrF.mpr q.2)
      have step : ∀ i r pv, i ≠ k → z_F2 (z_ended c) k i r pv → z_F2 (z_ended c) (k + 1) i r pv := fun i r pv hik z => by
        unfold z_F2 at z ⊢
        by_cases w : k ≤ i ∧ z_ended c i = true
        · rw [if_pos w] at z
          rw [if_pos ⟨by omega, w.2⟩]
          exact z
        · rw [if_neg w] at z
          rw [if_neg (fun q => w ⟨by omega, q.2⟩)]
          exact z
      refine wa_iload_n 0 dX2_tick_92 rfl rfl ?_
      refine wa_aload_n 2 dX2_tick_93 rfl rfl ?_
      refine wa_getf dX2_tick_94 gX2_12 hg rfl ?_
      refine wc_isI (wr_V dX2_tick_97 mX2_38 (sp_size hal) hgl rfl rfl rfl (Nat.le_of_ble_eq_true rfl)) ?_
      refine wa_icmp_ge 158 dX2_tick_100 rfl (fun c100 => absurd c100 (nI_lt_not (by omega) (by omega))) (fun c100 => ?_)
      refine wa_aload_n 2 dX2_tick_103 rfl rfl ?_
      refine wa_getf dX2_tick_104 gX2_12 hg rfl ?_
      refine wa_iload_n 0 dX2_tick_107 rfl rfl ?_
      refine wc_isA (wr_V dX2_tick_108 mX2_42 (sp_get hal hy) hgl rfl rfl rfl (Nat.le_of_ble_eq_true rfl)) ?_
      refine wa_castS dX2_tick_111 q259 hob rfl ?_
      refine wc_isI (wr_V dX2_tick_114 mX2_195 (sp_isAtEnd hrp) hob rfl rfl rfl (Nat.le_of_ble_eq_true rfl)) ?_
      refine wa_if_eq 152 dX2_tick_117 rfl (fun c117 => ?_) (fun c117 => ?_)
      ·
        refine wa_iinc 0 [(2, _), (1, _), (0, _)] dX2_tick_152 rfl (w_inc k) (Nat.le_of_ble_eq_true rfl) rfl ?_
        refine wa_goto 92 dX2_tick_155 rfl ?_
        refine wa_locals [(2, _), (1, _), (0, _)] [0, 1, 2] rfl ?_
        have ne : ¬ z_ended c k = true := fun q => z_n c117 (iff1.mp q)
        refine ih (k + 1) N cc d hcl (by omega) hsc (hE.imp (fun i r' pv' hr' z => ?_)) hfr (by rw [← he]; show _ = z_ends _ n (k + 1) _; rw [if_neg ne])
        by_cases hik : i = k
        · subst hik
          unfold z_F2 at z ⊢
          rw [if_neg (fun q => ne q.2)] at z
          rw [if_neg (by omega)]
          exact z
        · exact step i r' pv' hik z
      ·
        have i1 := z_y c117
        have en := iff1.mpr i1
        refine wa_aload_n 2 dX2_tick_120 rfl rfl ?_
        refine wa_getf dX2_tick_121 gX2_12 hg rfl ?_
        refine wa_iload_n 0 dX2_tick_124 rfl rfl ?_
        refine wc_isA (wr_V dX2_tick_125 mX2_42 (sp_get hal hy) hgl rfl rfl rfl (Nat.le_of_ble_eq_true rfl)) ?_
        refine wa_castS dX2_tick_128 q259 hob rfl ?_
        refine wc_V (wr_V dX2_tick_131 mX2_181 (sp_drop hrp) hob rfl rfl rfl (Nat.le_of_ble_eq_true rfl)) (fun M131 h131 => ?_)
        have hE2 := hE.setRob (F' := z_F2 (z_ended c) (k + 1)) hy h131.2 ⟨none, h131.1, by unfold z_F2; rw [if_neg (by omega)]; exact ⟨fun _ => rfl, fun _ => rfl⟩⟩ step
        rw [z_dropE i1.2, z_setE hr] at hE2
        obtain ⟨pv2, hrp2, -⟩ := hE2.2.2.2.2.2.2.2.2.1 k y r hy hr
        obtain ⟨dn2, -, hob2, -⟩ := id hrp2
        have hFF : ∀ pv, z_F2 (z_ended c) (k + 1) k r pv → z_F2 (z_ended c) (k + 1) k (z_hasR r none) pv := fun pv z => z
        refine wa_iload_n 1 dX2_tick_134 rfl rfl ?_
        refine wa_aload_n 2 dX2_tick_135 rfl rfl ?_
        refine wa_aload_n 2 dX2_tick_136 rfl rfl ?_
        refine wa_getf dX2_tick_137 gX2_12 hE2.2.1 rfl ?_
        refine wa_iload_n 0 dX2_tick_140 rfl rfl ?_
        refine wc_isA (wr_V dX2_tick_141 mX2_42 (sp_get hE2.2.2.2.2.1 hy) hE2.2.2.2.2.1.choose_spec.1 rfl rfl rfl (Nat.le_of_ble_eq_true rfl)) ?_
        refine wa_castS dX2_tick_144 q259 hob2 rfl ?_
        refine wc_I (wr_V dX2_tick_147 mX2_198 (sp_arrive hE2 hsc ho hr hy hFF) hE2.2.1 rfl rfl rfl (Nat.le_of_ble_eq_true rfl)) (fun r147 M147 h147 => ?_)
        obtain ⟨e1, hE3, hf3⟩ := h147
        refine wa_iadd dX2_tick_150 ?_
        refine wa_istore_n [(1, _), (2, _), (0, _)] dX2_tick_151 rfl (Nat.le_of_ble_eq_true rfl) rfl ?_
        refine wa_iinc 1 [(2, _), (1, _), (0, _)] dX2_tick_152 rfl (w_inc k) (Nat.le_of_ble_eq_true rfl) rfl ?_
        refine wa_goto 92 dX2_tick_155 rfl ?_
        refine wa_locals [(2, _), (1, _), (0, _)] [0, 1, 2] rfl ?_
        subst e1
        exact ih (k + 1) M147 (z_arriveC cc k).1 (d + (z_arriveC cc k).2) (by rw [z_arr_len]; exact hcl) (by omega) (z_small_arr hsc k) hE3 ((hfr.trans (z_fr1 h131.2 hys)).trans hf3) (by rw [← he]; show _ = z_ends _ n (k + 1) _; rw [if_pos en])
  have LP1 : ∀ (n k : Nat) (N : w_M), k + n = (z_robs c).length → z_coreE (z_F1 (z_ended c) k) G N P a kd rl ol sg ra oa ras oas (z_setR (z_setN c (z_now c + 1)) (z_goTo c k)) → w_fr M N (fun q => s0 ≤ q) → w_A l G tX2_tick (5, 0, 0) X 0 0 N 12 [(1, .int (nI k)), (0, .ref a)] [] (w_rI (fun v M' => v = (z_tickC c).2 ∧ z_coreL G M' P a kd rl ol sg ra oa ras oas (z_tickC c).1 ∧ w_fr M M' (fun q => s0 ≤ q))) := by
    intro n
    induction n with
    | zero =>
      intro k N hkn hE hfr
      have hg := hE.2.1
      have hal := hE.2.2.2.2.1
      have hgl := hal.choose_spec.1
      refine wa_iload_n 0 dX2_tick_12 rfl rfl ?_
      refine wa_aload_n 1 dX2_tick_13 rfl rfl ?_
      refine wa_getf dX2_tick_14 gX2_12 hg rfl ?_
      refine wc_isI (wr_V dX2_tick_17 mX2_38 (sp_size hal) hgl rfl rfl rfl (Nat.le_of_ble_eq_true rfl)) ?_
      refine wa_icmp_ge 88 dX2_tick_20 rfl (fun c20 => ?_) (fun c20 => absurd (nI_le (by omega) (by omega)) c20)
      refine wa_iconst (0) dX2_tick_88 (by decide) ?_
      refine wa_istore_n [(1, _), (0, _)] dX2_tick_89 rfl (Nat.le_of_ble_eq_true rfl) rfl ?_
      refine wa_iconst (0) dX2_tick_90 (by decide) ?_
      refine wa_istore_n [(2, _), (1, _), (0, _)] dX2_tick_91 rfl (Nat.le_of_ble_eq_true rfl) rfl ?_
      refine wa_locals [(2, _), (1, _), (0, _)] [0, 1, 2] rfl ?_
      have ek : k = (z_robs c).length := by omega
      subst ek
      rw [z_goTo_end (Nat.le_refl _)] at hE
      refine LP2 (z_robs c).length 0 N (z_tick1 c) 0 (List.length_map ..) (by omega) (z_small_go hs) (hE.imp (fun i r pv hr z => ?_)) hfr rfl
      have hi : i < (z_robs c).length := by have := (List.getElem?_eq_some_iff.mp hr).1; rw [show z_robs (z_setR (z_setN c (z_now c + 1)) _) = (z_robs c).map (z_goC c) from rfl, List.length_map] at this; exact this
      unfold z_F1 at z
      unfold z_F2
      by_cases w : z_ended c i = true
      · rw [if_pos ⟨hi, w⟩] at z
        rw [if_pos ⟨Nat.zero_le _, w⟩]
        exact z
      · rw [if_neg (fun q => w q.2)] at z
        rw [if_neg (fun q => w q.2)]
        exact z
    | succ n ih =>
      intro k N hkn hE hfr
      have hg := hE.2.1
      have hal := hE.2.2.2.2.1
      have hgl := hal.choose_spec.1
      obtain ⟨r, hr⟩ : ∃ r, (z_robs c)[k]? = some r := ⟨_, List.getElem?_eq_getElem (by omega)⟩
      obtain ⟨y, hy⟩ : ∃ y, ras[k]? = some y := ⟨_, List.getElem?_eq_getElem (by omega)⟩
      obtain ⟨pv, hrp, hrF⟩ := hE.2.2.2.2.2.2.2.2.1 k y r hy (z_goTo_at hr)
      unfold z_F1 at hrF
      rw [if_neg (by omega)] at hrF
      obtain ⟨dn, hpy, hob, hrest⟩ := id hrp
      have hkk : ∃ f : Nat → Int32, N.get kd = some (.inl (.int, z_size c, .inl f)) ∧ ∀ k, k < z_size c → f k = z_kinds c k := hE.2.2.1
      have hss : ∃ f : Nat → Int32, N.get sg = some (.inl (.int, 3, .inl f)) ∧ ∀ k, k < 3 → f k = z_sets c k := hE.2.2.2.1
      obtain ⟨kf, hk1, hk2⟩ := hkk
      obtain ⟨sf, hs1, hs2⟩ := hss
      have hys := ho.2.2.2.2.2.2.1 y (List.mem_of_getElem? hy)
      have hsm := hs.2.2.2.2.2.2.1 r (List.mem_of_getElem? hr)
      have hcn := hsm.1
      have step : ∀ i r pv, i ≠ k → z_F1 (z_ended c) k i r pv → z_F1 (z_ended c) (k + 1) i r pv := fun i r pv hik z => by
        unfold z_F1 at z ⊢
        by_cases w : i < k ∧ z_ended c i = true
        · rw [if_pos w] at z
          rw [if_pos ⟨by omega, w.2⟩]
          exact z
        · rw [if_neg w] at z
          rw [if_neg (fun q => w ⟨by omega, q.2⟩)]
          exact z
      have fin : ∀ (N' : w_M) (r' : z_R), z_goC c r = r' → w_fr N N' (fun q => q = y) → (∃ pv, z_robP N' (fun q => P q ∧ q ≠ sg) y r' pv ∧ z_F1 (z_ended c) (k + 1) k r' pv) → w_A l G tX2_tick (5, 0, 0) X 0 0 N' 12 [(1, .int (nI (k + 1))), (0, .ref a)] [] (w_rI (fun v M' => v = (z_tickC c).2 ∧ z_coreL G M' P a kd rl ol sg ra oa ras oas (z_tickC c).1 ∧ w_fr M M' (fun q => s0 ≤ q))) := fun N' r' er hf' hr' => by
        have hE2 := hE.setRob (F' := z_F1 (z_ended c) (k + 1)) hy hf' hr' step
        subst er
        rw [show (z_robs (z_setR (z_setN c (z_now c + 1)) (z_goTo c k))).set k (z_goC c r) = z_goTo c (k + 1) from z_goTo_set hr] at hE2
        exact ih (k + 1) N' (by omega) hE2 (hfr.trans (z_fr1 hf' hys))
      refine wa_iload_n 0 dX2_tick_12 rfl rfl ?_
      refine wa_aload_n 1 dX2_tick_13 rfl rfl ?_
      refine wa_getf dX2_tick_14 gX2_12 hg rfl ?_
      refine wc_isI (wr_V dX2_tick_17 mX2_38 (sp_size hal) hgl rfl rfl rfl (Nat.le_of_ble_eq_true rfl)) ?_
      refine wa_icmp_ge 88 dX2_tick_20 rfl (fun c20 => absurd c20 (nI_lt_not (by omega) (by omega))) (fun c20 => ?_)
      refine wa_aload_n 1 dX2_tick_23 rfl rfl ?_
      refine wa_getf dX2_tick_24 gX2_12 hg rfl ?_
      refine wa_iload_n 0 dX2_tick_27 rfl rfl ?_
      refine wc_isA (wr_V dX2_tick_28 mX2_42 (sp_get hal hy) hgl rfl rfl rfl (Nat.le_of_ble_eq_true rfl)) ?_
      refine wa_castS dX2_tick_31 q259 hob rfl ?_
      refine wa_astore_n [(2, _), (1, _), (0, _)] dX2_tick_34 rfl (Nat.le_of_ble_eq_true rfl) rfl ?_
      refine wa_aload_n 0 dX2_tick_35 rfl rfl ?_
      refine wc_isI (wr_V dX2_tick_36 mX2_144 (sp_hasPlan hrp) hob rfl rfl rfl (Nat.le_of_ble_eq_true rfl)) ?_
      refine wa_if_eq 49 dX2_tick_39 rfl (fun c39 => ?_) (fun c39 => ?_)
      ·
        have ipn := z_nN c39
        have ipl := hrF.mp ipn
        refine wa_aload_n 2 dX2_tick_49 rfl rfl ?_
        refine wa_getf dX2_tick_50 gX2_32 hg rfl ?_
        refine wa_aload_n 0 dX2_tick_53 rfl rfl ?_
        refine wa_getf dX2_tick_54 gX2_151 hob rfl ?_
        refine wa_iald dX2_tick_57 hk1 (vp_in_nI (show z_cell r < z_size c from hcn) (by omega)) ?_
        rw [nI_clamp (by omega), hk2 _ hcn]
        refine wa_iconst (2) dX2_tick_58 (by decide) ?_
        refine wa_icmp_ne 82 dX2_tick_59 rfl (fun c59 => ?_) (fun c59 => ?_)
        ·
          refine wa_iinc 1 [(1, _), (2, _), (0, _)] dX2_tick_82 rfl (w_inc k) (Nat.le_of_ble_eq_true rfl) rfl ?_
          refine wa_goto 12 dX2_tick_85 rfl ?_
          refine wa_locals [(1, _), (0, _)] [0, 2] rfl ?_
          have w : ¬ z_ended c k = true := fun w => by
            unfold z_ended at w
            rw [hr] at w
            simp only [decide_eq_true_eq, ipl] at w
            cases w
          refine fin _ r (by unfold z_goC; rw [if_pos ipl, if_neg c59]) w_fr.rf ⟨pv, hrp, ?_⟩
          unfold z_F1
          rw [if_neg (fun q => w q.2)]
          exact hrF
        ·
          have ich : z_kinds c (z_cell r) = 2 := c59
          refine wa_aload_n 0 dX2_tick_62 rfl rfl ?_
          refine wa_bipush (99) dX2_tick_63 (by decide) ?_
          refine wa_aload_n 0 dX2_tick_65 rfl rfl ?_
          refine wa_getf dX2_tick_66 gX2_170 hob rfl ?_
          refine wa_aload_n 2 dX2_tick_69 rfl rfl ?_
          refine wa_getf dX2_tick_70 gX2_21 hg rfl ?_
          refine wa_iconst (0) dX2_tick_73 (by decide) ?_
          refine wa_iald dX2_tick_74 hs1 (vp_in_nI (n := 0) (by decide) (by decide)) ?_
          rw [show sf (Int32.toNatClampNeg 0) = z_sets c 0 from hs2 0 (by decide)]
          refine wa_iadd dX2_tick_75 ?_
          refine wa_mmin dX2_tick_76 q1025 rfl (Nat.le_of_ble_eq_true rfl) (Nat.le_of_ble_eq_true rfl) (Nat.le_of_ble_eq_true rfl) ?_
          refine wa_putf [_, _, _, _, _, _, _] dX2_tick_79 pX2_170 hob (Nat.le_of_ble_eq_true rfl) rfl rfl rfl ?_
          refine wa_iinc 1 [(1, _), (2, _), (0, _)] dX2_tick_82 rfl (w_inc k) (Nat.le_of_ble_eq_true rfl) rfl ?_
          refine wa_goto 12 dX2_tick_85 rfl ?_
          refine wa_locals [(1, _), (0, _)] [0, 2] rfl ?_
          have w : ¬ z_ended c k = true := fun w => by
            unfold z_ended at w
            rw [hr] at w
            simp only [decide_eq_true_eq, ipl] at w
            cases w
          refine fin _ _ (by unfold z_goC; rw [if_pos ipl, if_pos ich]) w_fr_me ⟨pv, hrp.setBatt _ hob, ?_⟩
          unfold z_F1
          rw [if_neg (fun q => w q.2)]
          exact hrF
      ·
        obtain ⟨p, rfl⟩ : ∃ p, pv = some p := Option.ne_none_iff_exists'.mp (z_yN c39)
        have hpne : z_plan r ≠ [] := fun q => by have := hrF.mpr q; cases this
        have hpy2 : p ≠ y := by
          obtain ⟨h4, m, d, f, h5, h7⟩ := hrest
          exact (w_neA hob h5).symm
        refine wa_aload_n 0 dX2_tick_42 rfl rfl ?_
        refine wc_V (wr_V dX2_tick_43 mX2_187 (sp_goOn hrp hpne (by omega) (fun q hq => by have := hsm.2.1 q hq; omega) hpy2) hob rfl rfl rfl (Nat.le_of_ble_eq_true rfl)) (fun M43 h43 => ?_)
        refine wa_goto 82 dX2_tick_46 rfl ?_
        refine wa_iinc 1 [(1, _), (2, _), (0, _)] dX2_tick_82 rfl (w_inc k) (Nat.le_of_ble_eq_true rfl) rfl ?_
        refine wa_goto 12 dX2_tick_85 rfl ?_
        refine wa_locals [(1, _), (0, _)] [0, 2] rfl ?_
        refine fin _ (z_goOn r) (by unfold z_goC; rw [if_neg hpne]) h43.2 ⟨some p, h43.1, ?_⟩
        unfold z_F1
        have hpl := z_planGo r
        by_cases w : z_ended c k = true
        · rw [if_pos ⟨Nat.lt_succ_self k, w⟩]
          unfold z_ended at w
          rw [hr] at w
          simp only [decide_eq_true_eq] at w
          exact ⟨fun q => (by cases q), by rw [hpl]; exact List.eq_nil_of_length_eq_zero (by rw [List.length_tail]; omega)⟩
        · rw [if_neg (fun q => w q.2)]
          unfold z_ended at w
          rw [hr] at w
          simp only [decide_eq_true_eq] at w
          have : 0 < (z_plan r).length := List.length_pos_iff.mpr hpne
          exact ⟨fun q => (by cases q), fun q => by rw [hpl] at q; have := congrArg List.length q; rw [List.length_tail] at this; simp only [List.length_nil] at this; omega⟩
  refine wa_aload_n 0 dX2_tick_0 rfl rfl ?_
  refine wa_dup dX2_tick_1 rfl ?_
  refine wa_getf dX2_tick_2 gX2_71 hg0 rfl ?_
  refine wa_iconst (1) dX2_tick_5 (by decide) ?_
  refine wa_iadd dX2_tick_6 ?_
  refine wa_putf [_, _, _, _, _, _, _, _] dX2_tick_7 pX2_71 hg0 (Nat.le_of_ble_eq_true rfl) rfl rfl rfl ?_
  refine wa_iconst (0) dX2_tick_10 (by decide) ?_
  refine wa_istore_n [(1, _), (0, _)] dX2_tick_11 rfl (Nat.le_of_ble_eq_true rfl) rfl ?_
  have h1 : z_coreL G _ P a kd rl ol sg ra oa ras oas (z_setN c (z_now c + 1)) := h.setTop (w := z_closed c) (n := z_now c + 1) w_fr_me (w_set_self hg0)
  refine LP1 (z_robs c).length 0 _ (by omega) ?_ (z_fr1 w_fr_me ho.1)
  rw [z_goTo_0]
  exact h1.toE.imp (fun i r pv hr z => by unfold z_F1; rw [if_neg (by omega)]; exact z)
end TK
