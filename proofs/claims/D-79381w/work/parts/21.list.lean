/-! ===== ArrayList ===== -/
set_option maxRecDepth 100000
/-- an ArrayList at a, its elements xs (never more than ten) in the array arr -/
def w_AL (G : w_G) (M : w_M) (a arr : Nat) (xs : List Nat) : Prop := ∃ md : Int32, M.get a = some (.inr (11, [.int md, .ref arr, .int (nI xs.length)])) ∧ xs.length ≤ 10 ∧ ((arr = w_ad G 0 ∧ xs = []) ∨ ∃ f : Nat → Option Nat, M.get arr = some (.inl (.object "java/lang/Object", 10, .inr (.inr (.inr (.inr f))))) ∧ ∀ i, i < xs.length → f i = xs[i]?)
theorem w_AL.keep {G : w_G} {M M' : w_M} {a arr : Nat} {xs : List Nat} {W : Nat → Prop} (h : w_AL G M a arr xs) (hf : w_fr M M' W) (h1 : ¬ W a) (h2 : ¬ W arr) : w_AL G M' a arr xs := by
  obtain ⟨md, e1, e2, e3⟩ := h
  refine ⟨md, hf.2 _ _ e1 h1, e2, ?_⟩
  rcases e3 with e3 | ⟨f, e4, e5⟩
  · exact Or.inl e3
  · exact Or.inr ⟨f, hf.2 _ _ e4 h2, e5⟩
section AL
variable {l : Launch} {G : w_G} {M : w_M} {a arr : Nat} {xs : List Nat}
theorem sp_size (h : w_AL G M a arr xs) : w_S l G tJ2_size (1, 0, 0) [.ref a] M (w_is (.inl (some (.int (nI xs.length)))) M) := by
  obtain ⟨md, h1, h2, h3⟩ := h
  refine w_start (by decide) (Nat.le_of_ble_eq_true rfl) (fun X => ?_)
  refine wa_locals [(0, _)] [0] rfl ?_
  refine wa_aload_n 0 dJ2_size_0 rfl rfl ?_
  refine wa_getf dJ2_size_1 gJ2_48 (by assumption) rfl ?_
  refine wa_iret FieldType.int dJ2_size_4 rfl rfl (Nat.le_of_ble_eq_true rfl) (Nat.le_of_ble_eq_true rfl) ?_
  exact ⟨rfl, rfl⟩
theorem sp_isEmpty (h : w_AL G M a arr xs) : w_S l G tJ2_isEmpty (1, 0, 0) [.ref a] M (w_is (.inl (some (.int (if xs.length = 0 then 1 else 0)))) M) := by
  obtain ⟨md, h1, h2, h3⟩ := h
  have hz : nI xs.length = 0 ↔ xs.length = 0 := nI_eq (b := 0) (by omega) (by omega)
  refine w_start (by decide) (Nat.le_of_ble_eq_true rfl) (fun X => ?_)
  refine wa_locals [(0, _)] [0] rfl ?_
  refine wa_aload_n 0 dJ2_isEmpty_0 rfl rfl ?_
  refine wa_getf dJ2_isEmpty_1 gJ2_48 (by assumption) rfl ?_
  refine wa_if_ne 11 dJ2_isEmpty_4 rfl (fun c4 => ?_) (fun c4 => ?_)
  ·
    refine wa_iconst (0) dJ2_isEmpty_11 (by decide) ?_
    refine wa_iret FieldType.boolean dJ2_isEmpty_12 rfl rfl (Nat.le_of_ble_eq_true rfl) (Nat.le_of_ble_eq_true rfl) ?_
    exact ⟨by simp [← hz, c4], rfl⟩
  ·
    refine wa_iconst (1) dJ2_isEmpty_7 (by decide) ?_
    refine wa_goto 12 dJ2_isEmpty_8 rfl ?_
    refine wa_iret FieldType.boolean dJ2_isEmpty_12 rfl rfl (Nat.le_of_ble_eq_true rfl) (Nat.le_of_ble_eq_true rfl) ?_
    exact ⟨by simp [← hz, c4], rfl⟩
theorem sp_pcheck {x : Int32} {n : Nat} (hi : vp_in x n) (hn : n < 2 ^ 31) : w_S l G tJ11_checkIndex (1, 0, 0) [.int x, .int (nI n), .null] M (w_is (.inl (some (.int x))) M) := by
  have hlt : x < nI n := by
    obtain ⟨j, hj, rfl⟩ := vp_in_of hi hn
    exact nI_lt hj hn
  have h0 : ¬ x < 0 := fun q => hi (Or.inl q)
  refine w_start (by decide) (Nat.le_of_ble_eq_true rfl) (fun X => ?_)
  refine wa_locals [(0, _), (1, _), (2, _)] [0, 1, 2] rfl ?_
  refine wa_iload_n 0 dJ11_checkIndex_0 rfl rfl ?_
  refine wa_if_lt 9 dJ11_checkIndex_1 rfl (fun c1 => absurd c1 h0) (fun c1 => ?_)
  refine wa_iload_n 0 dJ11_checkIndex_4 rfl rfl ?_
  refine wa_iload_n 1 dJ11_checkIndex_5 rfl rfl ?_
  refine wa_icmp_lt 16 dJ11_checkIndex_6 rfl (fun c6 => ?_) (fun c6 => absurd hlt c6)
  refine wa_iload_n 0 dJ11_checkIndex_16 rfl rfl ?_
  refine wa_iret FieldType.int dJ11_checkIndex_17 rfl rfl (Nat.le_of_ble_eq_true rfl) (Nat.le_of_ble_eq_true rfl) ?_
  exact ⟨rfl, rfl⟩
theorem sp_checkIndex {x : Int32} {n : Nat} (hi : vp_in x n) (hn : n < 2 ^ 31) : w_S l G tJ13_checkIndex (2, 0, 0) [.int x, .int (nI n)] M (w_is (.inl (some (.int x))) M) := by
  refine w_start (by decide) (Nat.le_of_ble_eq_true rfl) (fun X => ?_)
  refine wa_locals [(0, _), (1, _)] [0, 1] rfl ?_
  refine wa_iload_n 0 dJ13_checkIndex_0 rfl rfl ?_
  refine wa_iload_n 1 dJ13_checkIndex_1 rfl rfl ?_
  refine wa_null dJ13_checkIndex_2 ?_
  refine wc_isI (wr_S dJ13_checkIndex_3 mJ13_105 (sp_pcheck hi hn) rfl rfl rfl (Nat.le_of_ble_eq_true rfl)) ?_
  refine wa_iret FieldType.int dJ13_checkIndex_6 rfl rfl (Nat.le_of_ble_eq_true rfl) (Nat.le_of_ble_eq_true rfl) ?_
  exact ⟨rfl, rfl⟩
theorem sp_elementData {x : Int32} {y m : Nat} {f : Nat → Option Nat} {v0 v2 : Value} (h : M.get a = some (.inr (11, [v0, .ref arr, v2]))) (h1 : M.get arr = some (.inl (.object "java/lang/Object", m, .inr (.inr (.inr (.inr f)))))) (hi : vp_in x m) (hy : f x.toNatClampNeg = some y) : w_S l G tJ2_elementData (1, 0, 0) [.ref a, .int x] M (w_is (.inl (some (.ref y))) M) := by
  refine w_start (by decide) (Nat.le_of_ble_eq_true rfl) (fun X => ?_)
  refine wa_locals [(0, _), (1, _)] [0, 1] rfl ?_
  refine wa_aload_n 0 dJ2_elementData_0 rfl rfl ?_
  refine wa_getf dJ2_elementData_1 gJ2_9 (by assumption) rfl ?_
  refine wa_iload_n 1 dJ2_elementData_4 rfl rfl ?_
  refine wa_aaldS dJ2_elementData_5 (by assumption) (by assumption) (by assumption) ?_
  refine wa_aret (FieldType.object "java/lang/Object") dJ2_elementData_6 rfl rfl (Nat.le_of_ble_eq_true rfl) (Nat.le_of_ble_eq_true rfl) ?_
  exact ⟨rfl, rfl⟩
theorem sp_get (h : w_AL G M a arr xs) {i y : Nat} (hi : xs[i]? = some y) : w_S l G tJ2_get (3, 0, 0) [.ref a, .int (nI i)] M (w_is (.inl (some (.ref y))) M) := by
  obtain ⟨md, h1, h2, h3⟩ := h
  have hlt : i < xs.length := (List.getElem?_eq_some_iff.mp hi).1
  obtain ⟨rfl, rfl⟩ | ⟨f, h4, h5⟩ := h3
  · simp at hlt
  have hin : vp_in (nI i) xs.length := vp_in_nI hlt (by omega)
  have hin2 : vp_in (nI i) 10 := vp_in_nI (by omega) (by omega)
  have hf : f (nI i).toNatClampNeg = some y := by rw [nI_clamp (by omega), h5 i hlt, hi]
  refine w_start (by decide) (Nat.le_of_ble_eq_true rfl) (fun X => ?_)
  refine wa_locals [(0, _), (1, _)] [0, 1] rfl ?_
  refine wa_iload_n 1 dJ2_get_0 rfl rfl ?_
  refine wa_aload_n 0 dJ2_get_1 rfl rfl ?_
  refine wa_getf dJ2_get_2 gJ2_48 (by assumption) rfl ?_
  refine wc_isI (wr_S dJ2_get_5 mJ2_118 (sp_checkIndex hin (by omega)) rfl rfl rfl (Nat.le_of_ble_eq_true rfl)) ?_
  refine wa_pop dJ2_get_8 rfl ?_
  refine wa_aload_n 0 dJ2_get_9 rfl rfl ?_
  refine wa_iload_n 1 dJ2_get_10 rfl rfl ?_
  refine wc_isA (wr_V dJ2_get_11 mJ2_123 (sp_elementData h1 h4 hin2 hf) (by assumption) rfl rfl rfl (Nat.le_of_ble_eq_true rfl)) ?_
  refine wa_aret (FieldType.object "java/lang/Object") dJ2_get_14 rfl rfl (Nat.le_of_ble_eq_true rfl) (Nat.le_of_ble_eq_true rfl) ?_
  exact ⟨rfl, rfl⟩
theorem sp_grow2 {md : Int32} (h : M.get a = some (.inr (11, [.int md, .ref (w_ad G 0), .int 0]))) : w_S l G tJ2_grow_2 (2, 1, 10) [.ref a, .int 1] M (w_is (.inl (some (.ref M.sz))) ((M.push (.inl (.object "java/lang/Object", 10, .inr (.inr (.inr (.inr (fun _ => none))))))).set a (.inr (11, [.int md, .ref M.sz, .int 0])))) := by
  refine w_start (by decide) (Nat.le_of_ble_eq_true rfl) (fun X => ?_)
  refine wa_locals [(0, _), (1, _)] [0, 1] rfl ?_
  refine wa_aload_n 0 dJ2_grow_2_0 rfl rfl ?_
  refine wa_getf dJ2_grow_2_1 gJ2_9 (by assumption) rfl ?_
  refine wa_alenD dJ2_grow_2_4 ?_
  refine wa_istore_n [(2, _), (0, _), (1, _)] dJ2_grow_2_5 rfl (Nat.le_of_ble_eq_true rfl) rfl ?_
  refine wa_iload_n 0 dJ2_grow_2_6 rfl rfl ?_
  refine wa_if_gt 20 dJ2_grow_2_7 rfl (fun c7 => absurd c7 (by decide)) (fun c7 => ?_)
  refine wa_aload_n 1 dJ2_grow_2_10 rfl rfl ?_
  refine wa_getf dJ2_grow_2_11 gJ2_9 (by assumption) rfl ?_
  refine wa_getdflt dJ2_grow_2_14 q146 ?_
  refine wa_acmpRR_eq 45 dJ2_grow_2_17 rfl (fun c17 => ?_) (fun c17 => absurd rfl c17)
  refine wa_aload_n 1 dJ2_grow_2_45 rfl rfl ?_
  refine wa_bipush (10) dJ2_grow_2_46 (by decide) ?_
  refine wa_iload_n 2 dJ2_grow_2_48 rfl rfl ?_
  refine wa_mmax dJ2_grow_2_49 q375 rfl (Nat.le_of_ble_eq_true rfl) (Nat.le_of_ble_eq_true rfl) (Nat.le_of_ble_eq_true rfl) ?_
  refine wa_newq 10 dJ2_grow_2_52 q376 (by decide) (by decide) (Nat.le_of_ble_eq_true rfl) (Nat.le_of_ble_eq_true rfl) ?_
  refine wa_dup_x1 dJ2_grow_2_55 rfl rfl ?_
  refine wa_putf [_, _, _] dJ2_grow_2_56 pJ2_9 (w_push_old h) (Nat.le_of_ble_eq_true rfl) rfl rfl rfl ?_
  refine wa_aret (FieldType.array (FieldType.object "java/lang/Object")) dJ2_grow_2_59 rfl rfl (Nat.le_of_ble_eq_true rfl) (Nat.le_of_ble_eq_true rfl) ?_
  exact ⟨rfl, rfl⟩
theorem sp_grow {md : Int32} (h : M.get a = some (.inr (11, [.int md, .ref (w_ad G 0), .int 0]))) : w_S l G tJ2_grow (3, 1, 10) [.ref a] M (w_is (.inl (some (.ref M.sz))) ((M.push (.inl (.object "java/lang/Object", 10, .inr (.inr (.inr (.inr (fun _ => none))))))).set a (.inr (11, [.int md, .ref M.sz, .int 0])))) := by
  refine w_start (by decide) (Nat.le_of_ble_eq_true rfl) (fun X => ?_)
  refine wa_locals [(0, _)] [0] rfl ?_
  refine wa_aload_n 0 dJ2_grow_0 rfl rfl ?_
  refine wa_aload_n 0 dJ2_grow_1 rfl rfl ?_
  refine wa_getf dJ2_grow_2 gJ2_48 (by assumption) rfl ?_
  refine wa_iconst (1) dJ2_grow_5 (by decide) ?_
  refine wa_iadd dJ2_grow_6 ?_
  refine wc_isA (wr_V dJ2_grow_7 mJ2_69 (sp_grow2 h) (by assumption) rfl rfl rfl (Nat.le_of_ble_eq_true rfl)) ?_
  refine wa_aret (FieldType.array (FieldType.object "java/lang/Object")) dJ2_grow_10 rfl rfl (Nat.le_of_ble_eq_true rfl) (Nat.le_of_ble_eq_true rfl) ?_
  exact ⟨rfl, rfl⟩
/-- an object of a class of the list, that may be an element -/
def w_el (M : w_M) (v : Nat) : Prop := ∃ (ci : Nat) (vs : List Value) (C : String) (F : u_T) (N : Nat), M.get v = some (.inr (ci, vs)) ∧ w_CL[ci]? = some (C, F, N) ∧ Cond.castable C "java/lang/Object" ∈ lw_tbl
theorem w_el.keep {M M' : w_M} {v : Nat} {W : Nat → Prop} (h : w_el M v) (hf : w_fr M M' W) (h1 : ¬ W v) : w_el M' v := by
  obtain ⟨ci, vs, C, F, N, e1, e2, e3⟩ := h
  exact ⟨ci, vs, C, F, N, hf.2 _ _ e1 h1, e2, e3⟩
theorem sp_add2 (h : w_AL G M a arr xs) (hlt : xs.length < 10) {v : Nat} (hv : w_el M v) (hva : v ≠ a) : w_S l G tJ2_add_2 (4, 1, 10) [.ref a, .ref v, .ref arr, .int (nI xs.length)] M (w_rV (fun M' => ∃ arr', w_AL G M' a arr' (xs ++ [v]) ∧ (arr' = arr ∨ arr' = M.sz) ∧ w_fr M M' (fun q => q = a ∨ q = arr))) := by
  obtain ⟨md, h1, h2, h3⟩ := h
  obtain ⟨ci, vs, C, F, N, hv1, hv2, hv3⟩ := hv
  have hvs := w_lt hv1
  have has := w_lt h1
  obtain ⟨rfl, rfl⟩ | ⟨f, h4, h5⟩ := h3
  · have h1 : M.get a = some (.inr (11, [.int md, .ref (w_ad G 0), .int 0])) := h1
    refine w_start (by decide) (Nat.le_of_ble_eq_true rfl) (fun X => ?_)
    refine wa_locals [(0, _), (1, _), (2, _), (3, _)] [0, 1, 2, 3] rfl ?_
    refine wa_iload_n 3 dJ2_add_2_0 rfl rfl ?_
    refine wa_aload_n 2 dJ2_add_2_1 rfl rfl ?_
    refine wa_alenD dJ2_add_2_2 ?_
    refine wa_icmp_ne 11 dJ2_add_2_3 rfl (fun c3 => absurd rfl c3) (fun c3 => ?_)
    refine wa_aload_n 0 dJ2_add_2_6 rfl rfl ?_
    refine wc_isA (wr_V dJ2_add_2_7 mJ2_129 (sp_grow h1) (by assumption) rfl rfl rfl (Nat.le_of_ble_eq_true rfl)) ?_
    obtain ⟨M1, e1⟩ : ∃ z, z = (M.push (.inl (.object "java/lang/Object", 10, .inr (.inr (.inr (.inr (fun _ => none))))))).set a (.inr (11, [.int md, .ref M.sz, .int 0])) := ⟨_, rfl⟩
    rw [← e1]
    have g1 : M1.get a = some (.inr (11, [.int md, .ref M.sz, .int 0])) := by rw [e1]; exact w_set_self (w_push_old h1)
    have g2 : M1.get M.sz = some (.inl (.object "java/lang/Object", 10, .inr (.inr (.inr (.inr (fun _ => none)))))) := by rw [e1, w_set_ne (by omega)]; exact w_push_self
    have g3 : M1.get v = some (.inr (ci, vs)) := by rw [e1, w_set_ne hva]; exact w_push_old hv1
    have fr : w_fr M M1 (fun q => q = a ∨ q = w_ad G 0) := by rw [e1]; exact (w_fr.rf.push).set (Or.inl rfl)
    refine wa_astore_n [(2, _), (0, _), (1, _), (3, _)] dJ2_add_2_10 rfl (Nat.le_of_ble_eq_true rfl) rfl ?_
    refine wa_aload_n 0 dJ2_add_2_11 rfl rfl ?_
    refine wa_iload_n 3 dJ2_add_2_12 rfl rfl ?_
    refine wa_aload_n 2 dJ2_add_2_13 rfl rfl ?_
    refine wa_aast dJ2_add_2_14 g2 g3 hv2 hv3 (vp_in_nI (by decide) (by decide)) ?_
    obtain ⟨M2, e2⟩ : ∃ z, z = M1.set M.sz (.inl (.object "java/lang/Object", 10, .inr (.inr (.inr (.inr (va_up (fun _ => none) (nI 0).toNatClampNeg (some v))))))) := ⟨_, rfl⟩
    have e2' : M2 = M1.set M.sz (.inl (.object "java/lang/Object", 10, .inr (.inr (.inr (.inr (va_up (fun _ => none) (nI 0).toNatClampNeg (some v))))))) := e2
    show w_A _ _ _ _ _ _ _ (M1.set M.sz _) _ _ _ _
    refine cast (congrArg (fun z => w_A l G tJ2_add_2 (4, 1, 10) X _ _ z _ _ _ _) e2) ?_
    have g4 : M2.get a = some (.inr (11, [.int md, .ref M.sz, .int 0])) := by rw [e2, w_set_ne (by omega)]; exact g1
    have g5 : M2.get M.sz = some (.inl (.object "java/lang/Object", 10, .inr (.inr (.inr (.inr (va_up (fun _ => none) (nI 0).toNatClampNeg (some v))))))) := by rw [e2]; exact w_set_self g2
    have fr2 : w_fr M M2 (fun q => q = a ∨ q = w_ad G 0) := by rw [e2]; exact fr.setN (Nat.le_refl _)
    refine wa_aload_n 1 dJ2_add_2_15 rfl rfl ?_
    refine wa_iload_n 3 dJ2_add_2_16 rfl rfl ?_
    refine wa_iconst (1) dJ2_add_2_17 (by decide) ?_
    refine wa_iadd dJ2_add_2_18 ?_
    refine wa_putf [_, _, _] dJ2_add_2_19 pJ2_48 (by assumption) (Nat.le_of_ble_eq_true rfl) rfl rfl rfl ?_
    refine wa_vret dJ2_add_2_22 rfl (Nat.le_of_ble_eq_true rfl) (Nat.le_of_ble_eq_true rfl) ?_
    refine ⟨rfl, M.sz, ⟨md, w_set_self g4, by simp, Or.inr ⟨_, (by rw [w_set_ne (by omega)]; exact g5), ?_⟩⟩, Or.inr rfl, fr2.set (Or.inl rfl)⟩
    intro i hi
    have hi0 : i = 0 := by simpa using hi
    subst hi0
    rfl
  · have hne : ¬ nI xs.length = nI 10 := by rw [nI_eq (by omega) (by omega)]; omega
    have hin : vp_in (nI xs.length) 10 := vp_in_nI hlt (by omega)
    have haa : arr ≠ a := by rintro rfl; rw [h4] at h1; cases h1
    refine w_start (by decide) (Nat.le_of_ble_eq_true rfl) (fun X => ?_)
    refine wa_locals [(0, _), (1, _), (2, _), (3, _)] [0, 1, 2, 3] rfl ?_
    refine wa_iload_n 3 dJ2_add_2_0 rfl rfl ?_
    refine wa_aload_n 2 dJ2_add_2_1 rfl rfl ?_
    refine wa_alen 6 dJ2_add_2_2 (by assumption) rfl ?_
    refine wa_icmp_ne 11 dJ2_add_2_3 rfl (fun c3 => ?_) (fun c3 => absurd c3 hne)
    refine wa_aload_n 2 dJ2_add_2_11 rfl rfl ?_
    refine wa_iload_n 3 dJ2_add_2_12 rfl rfl ?_
    refine wa_aload_n 1 dJ2_add_2_13 rfl rfl ?_
    refine wa_aast dJ2_add_2_14 h4 hv1 hv2 hv3 hin ?_
    have g1 : (M.set arr (.inl (.object "java/lang/Object", 10, .inr (.inr (.inr (.inr (va_up f (nI xs.length).toNatClampNeg (some v)))))))).get a = some (.inr (11, [.int md, .ref arr, .int (nI xs.length)])) := by rw [w_set_ne haa.symm]; exact h1
    have g2 : (M.set arr (.inl (.object "java/lang/Object", 10, .inr (.inr (.inr (.inr (va_up f (nI xs.length).toNatClampNeg (some v)))))))).get arr = some (.inl (.object "java/lang/Object", 10, .inr (.inr (.inr (.inr (va_up f (nI xs.length).toNatClampNeg (some v))))))) := w_set_self h4
    refine wa_aload_n 0 dJ2_add_2_15 rfl rfl ?_
    refine wa_iload_n 3 dJ2_add_2_16 rfl rfl ?_
    refine wa_iconst (1) dJ2_add_2_17 (by decide) ?_
    refine wa_iadd dJ2_add_2_18 ?_
    refine wa_putf [_, _, _] dJ2_add_2_19 pJ2_48 (by assumption) (Nat.le_of_ble_eq_true rfl) rfl rfl rfl ?_
    refine wa_vret dJ2_add_2_22 rfl (Nat.le_of_ble_eq_true rfl) (Nat.le_of_ble_eq_true rfl) ?_
    refine ⟨rfl, arr, ⟨md, ?_, by simp; omega, Or.inr ⟨_, (by rw [w_set_ne haa]; exact g2), ?_⟩⟩, Or.inl rfl, (w_fr.rf.set (Or.inr rfl)).set (Or.inl rfl)⟩
    · rw [List.length_append, List.length_singleton, ← nI_1]
      exact w_set_self g1
    · intro i hi
      rw [nI_clamp (by omega)]
      simp only [List.length_append, List.length_singleton] at hi
      simp only [va_up]
      by_cases hx : i = xs.length
      · subst hx
        simp
      · rw [if_neg hx, List.getElem?_append_left (by omega)]
        exact h5 i (by omega)
theorem sp_addE (h : w_AL G M a arr xs) (hlt : xs.length < 10) {v : Nat} (hv : w_el M v) (hva : v ≠ a) : w_S l G tJ2_add (5, 1, 10) [.ref a, .ref v] M (w_rI (fun r M' => r = 1 ∧ ∃ arr', w_AL G M' a arr' (xs ++ [v]) ∧ (arr' = arr ∨ arr' = M.sz) ∧ w_fr M M' (fun q => q = a ∨ q = arr))) := by
  obtain ⟨md, h1, h2, h3⟩ := h
  have has := w_lt h1
  have haa : arr = w_ad G 0 ∧ xs = [] ∨ arr ≠ a := by
    rcases h3 with h3 | ⟨f, h4, -⟩
    · exact Or.inl h3
    · exact Or.inr (by rintro rfl; rw [h4] at h1; cases h1)
  refine w_start (by decide) (Nat.le_of_ble_eq_true rfl) (fun X => ?_)
  refine wa_locals [(0, _), (1, _)] [0, 1] rfl ?_
  refine wa_aload_n 0 dJ2_add_0 rfl rfl ?_
  refine wa_dup dJ2_add_1 rfl ?_
  refine wa_getf dJ2_add_2 gJ2_63 (by assumption) rfl ?_
  refine wa_iconst (1) dJ2_add_5 (by decide) ?_
  refine wa_iadd dJ2_add_6 ?_
  refine wa_putf [_, _, _] dJ2_add_7 pJ2_63 (by assumption) (Nat.le_of_ble_eq_true rfl) rfl rfl rfl ?_
  have g1 : (M.set a (.inr (11, [.int (md + 1), .ref arr, .int (nI xs.length)]))).get a = some (.inr (11, [.int (md + 1), .ref arr, .int (nI xs.length)])) := w_set_self h1
  have fr1 : w_fr M (M.set a (.inr (11, [.int (md + 1), .ref arr, .int (nI xs.length)]))) (fun q => q = a) := w_fr.rf.set rfl
  have gl : w_AL G (M.set a (.inr (11, [.int (md + 1), .ref arr, .int (nI xs.length)]))) a arr xs := by
    refine ⟨_, g1, h2, ?_⟩
    rcases h3 with h3 | ⟨f, h4, h5⟩
    · exact Or.inl h3
    · exact Or.inr ⟨f, fr1.2 _ _ h4 (by rintro rfl; rw [h4] at h1; cases h1), h5⟩
  refine wa_aload_n 0 dJ2_add_10 rfl rfl ?_
  refine wa_aload_n 1 dJ2_add_11 rfl rfl ?_
  refine wa_aload_n 0 dJ2_add_12 rfl rfl ?_
  refine wa_getf dJ2_add_13 gJ2_9 (by assumption) rfl ?_
  refine wa_aload_n 0 dJ2_add_16 rfl rfl ?_
  refine wa_getf dJ2_add_17 gJ2_48 (by assumption) rfl ?_
  refine wc_V (wr_V dJ2_add_20 mJ2_131 (sp_add2 gl hlt (hv.keep fr1 hva) hva) (by assumption) rfl rfl rfl (Nat.le_of_ble_eq_true rfl)) (fun M20 h20 => ?_)
  obtain ⟨arr', q1, q2, q3⟩ := h20
  refine wa_iconst (1) dJ2_add_23 (by decide) ?_
  refine wa_iret FieldType.boolean dJ2_add_24 rfl rfl (Nat.le_of_ble_eq_true rfl) (Nat.le_of_ble_eq_true rfl) ?_
  exact ⟨1, rfl, rfl, arr', q1, q2, (fr1.mono (fun _ _ h => Or.inl h)).trans q3⟩
theorem sp_J0_init {v : Nat} : w_S l G tJ0_init (2, 0, 0) [.ref v] M (w_is (.inl none) M) := by
  refine w_start (by decide) (Nat.le_of_ble_eq_true rfl) (fun X => ?_)
  refine wa_locals [(0, _)] [0] rfl ?_
  refine wa_aload_n 0 dJ0_init_0 rfl rfl ?_
  refine wa_objInit dJ0_init_1 q145 rfl (Nat.le_of_ble_eq_true rfl) ?_
  refine wa_vret dJ0_init_4 rfl (Nat.le_of_ble_eq_true rfl) (Nat.le_of_ble_eq_true rfl) ?_
  exact ⟨rfl, rfl⟩
theorem sp_J1_init {v0 v1 v2 : Value} (h : M.get a = some (.inr (11, [v0, v1, v2]))) : w_S l G tJ1_init (3, 0, 0) [.ref a] M (w_is (.inl none) (M.set a (.inr (11, [.int 0, v1, v2])))) := by
  refine w_start (by decide) (Nat.le_of_ble_eq_true rfl) (fun X => ?_)
  refine wa_locals [(0, _)] [0] rfl ?_
  refine wa_aload_n 0 dJ1_init_0 rfl rfl ?_
  refine wc_isV (wr_I dJ1_init_1 mJ1_1 sp_J0_init rfl rfl rfl (Nat.le_of_ble_eq_true rfl)) ?_
  refine wa_aload_n 0 dJ1_init_4 rfl rfl ?_
  refine wa_iconst (0) dJ1_init_5 (by decide) ?_
  refine wa_putf [_, _, _] dJ1_init_6 pJ1_7_J2 (by assumption) (Nat.le_of_ble_eq_true rfl) rfl rfl rfl ?_
  refine wa_vret dJ1_init_9 rfl (Nat.le_of_ble_eq_true rfl) (Nat.le_of_ble_eq_true rfl) ?_
  exact ⟨rfl, rfl⟩
theorem w_set_set (M : w_M) (a : Nat) (e1 e2 : w_E) : (M.set a e1).set a e2 = M.set a e2 := by
  apply Subtype.ext
  refine Prod.ext (funext fun b => ?_) rfl
  show (if b = a ∧ a < M.1.2 then some e2 else if b = a ∧ a < M.1.2 then some e1 else M.1.1 b) = if b = a ∧ a < M.1.2 then some e2 else M.1.1 b
  split <;> rfl
theorem w_push_set (M : w_M) (e1 e2 : w_E) : (M.push e1).set M.sz e2 = M.push e2 := by
  apply Subtype.ext
  refine Prod.ext (funext fun b => ?_) rfl
  show (if b = M.1.2 ∧ M.1.2 < M.1.2 + 1 then some e2 else if b = M.1.2 then some e1 else M.1.1 b) = if b = M.1.2 then some e2 else M.1.1 b
  by_cases hb : b = M.1.2
  · rw [if_pos ⟨hb, Nat.lt_succ_self _⟩, if_pos hb]
  · rw [if_neg (fun h => hb h.1), if_neg hb, if_neg hb]
theorem sp_J2_init {v0 v1 v2 : Value} (h : M.get a = some (.inr (11, [v0, v1, .int 0]))) : w_S l G tJ2_init (4, 0, 0) [.ref a] M (w_is (.inl none) (M.set a (.inr (11, [.int 0, .ref (w_ad G 0), .int 0])))) := by
  refine w_start (by decide) (Nat.le_of_ble_eq_true rfl) (fun X => ?_)
  refine wa_locals [(0, _)] [0] rfl ?_
  refine wa_aload_n 0 dJ2_init_0 rfl rfl ?_
  refine wc_isV (wr_I dJ2_init_1 mJ2_1 (sp_J1_init h) rfl rfl rfl (Nat.le_of_ble_eq_true rfl)) ?_
  refine wa_aload_n 0 dJ2_init_4 rfl rfl ?_
  refine wa_getdflt dJ2_init_5 q146 ?_
  refine wa_putf [_, _, _] dJ2_init_8 pJ2_9 (w_set_self h) (Nat.le_of_ble_eq_true rfl) rfl rfl rfl ?_
  refine wa_vret dJ2_init_11 rfl (Nat.le_of_ble_eq_true rfl) (Nat.le_of_ble_eq_true rfl) ?_
  exact ⟨rfl, w_set_set _ _ _ _⟩
theorem sp_fastRemove {md : Int32} {f : Nat → Option Nat} (h1 : M.get a = some (.inr (11, [.int md, .ref arr, .int (nI xs.length)]))) (h2 : xs.length ≤ 10) (h4 : M.get arr = some (.inl (.object "java/lang/Object", 10, .inr (.inr (.inr (.inr f)))))) (h5 : ∀ i, i < xs.length → f i = xs[i]?) (hel : ∀ x ∈ xs, w_el M x) (hea : ∀ x ∈ xs, x ≠ a) {i : Nat} (hi : i < xs.length) : w_S l G tJ2_fastRemove (2, 0, 0) [.ref a, .ref arr, .int (nI i)] M (w_rV (fun M' => w_AL G M' a arr (xs.eraseIdx i) ∧ w_fr M M' (fun q => q = a ∨ q = arr))) := by
  have haa : arr ≠ a := by rintro rfl; rw [h4] at h1; cases h1
  have hlen : (xs.eraseIdx i).length = xs.length - 1 := List.length_eraseIdx_of_lt hi
  have hsz : nI xs.length - 1 = nI (xs.length - 1) := by
    have := nI_pred (xs.length - 1)
    rw [show xs.length - 1 + 1 = xs.length by omega] at this
    exact this
  have hin : vp_in (nI (xs.length - 1)) 10 := vp_in_nI (by omega) (by omega)
  refine w_start (by decide) (Nat.le_of_ble_eq_true rfl) (fun X => ?_)
  refine wa_locals [(0, _), (1, _), (2, _)] [0, 1, 2] rfl ?_
  have J34 : ∀ (M2 : w_M) (f2 : Nat → Option Nat), M2.get a = some (.inr (11, [.int (md + 1), .ref arr, .int (nI xs.length)])) → M2.get arr = some (.inl (.object "java/lang/Object", 10, .inr (.inr (.inr (.inr f2))))) → (∀ j, j < xs.length - 1 → f2 j = (xs.eraseIdx i)[j]?) → w_fr M M2 (fun q => q = a ∨ q = arr) → w_A l G tJ2_fastRemove (2, 0, 0) X 0 0 M2 34 [(3, .int (nI (xs.length - 1))), (0, .ref a), (1, .ref arr), (2, .int (nI i))] [] (w_rV (fun M' => w_AL G M' a arr (xs.eraseIdx i) ∧ w_fr M M' (fun q => q = a ∨ q = arr))) := by
    intro M2 f2 k1 k2 k3 k4
    refine wa_aload_n 2 dJ2_fastRemove_34 rfl rfl ?_
    refine wa_aload_n 1 dJ2_fastRemove_35 rfl rfl ?_
    refine wa_iload_n 0 dJ2_fastRemove_36 rfl rfl ?_
    refine wa_dup_x1 dJ2_fastRemove_37 rfl rfl ?_
    refine wa_putf [_, _, _] dJ2_fastRemove_38 pJ2_48 (by assumption) (Nat.le_of_ble_eq_true rfl) rfl rfl rfl ?_
    have k5 := (w_set_ne (e := (.inr (11, [.int (md + 1), .ref arr, .int (nI (xs.length - 1))]))) haa).trans k2
    have k6 := w_set_self (e := (.inr (11, [.int (md + 1), .ref arr, .int (nI (xs.length - 1))]))) k1
    refine wa_null dJ2_fastRemove_41 ?_
    refine wa_aastN dJ2_fastRemove_42 k5 hin ?_
    refine wa_vret dJ2_fastRemove_43 rfl (Nat.le_of_ble_eq_true rfl) (Nat.le_of_ble_eq_true rfl) ?_
    refine ⟨rfl, ⟨md + 1, ?_, by omega, Or.inr ⟨_, w_set_self k5, ?_⟩⟩, (k4.set (Or.inl rfl)).set (Or.inr rfl)⟩
    · rw [hlen, w_set_ne (Ne.symm haa)]
      exact k6
    · intro j hj
      rw [hlen] at hj
      rw [nI_clamp (by omega), ← k3 j hj]
      simp only [va_up]
      rw [if_neg (by omega)]
  refine wa_aload_n 0 dJ2_fastRemove_0 rfl rfl ?_
  refine wa_dup dJ2_fastRemove_1 rfl ?_
  refine wa_getf dJ2_fastRemove_2 gJ2_63 (by assumption) rfl ?_
  refine wa_iconst (1) dJ2_fastRemove_5 (by decide) ?_
  refine wa_iadd dJ2_fastRemove_6 ?_
  refine wa_putf [_, _, _] dJ2_fastRemove_7 pJ2_63 (by assumption) (Nat.le_of_ble_eq_true rfl) rfl rfl rfl ?_
  have g1 : (M.set a (.inr (11, [.int (md + 1), .ref arr, .int (nI xs.length)]))).get a = some (.inr (11, [.int (md + 1), .ref arr, .int (nI xs.length)])) := w_set_self h1
  have g2 : (M.set a (.inr (11, [.int (md + 1), .ref arr, .int (nI xs.length)]))).get arr = _ := (w_set_ne haa).trans h4
  have fr1 : w_fr M (M.set a (.inr (11, [.int (md + 1), .ref arr, .int (nI xs.length)]))) (fun q => q = a ∨ q = arr) := w_fr.rf.set (Or.inl rfl)
  have el1 : ∀ x ∈ xs, w_el (M.set a (.inr (11, [.int (md + 1), .ref arr, .int (nI xs.length)]))) x := fun x hx => (hel x hx).keep (W := fun q => q = a) (w_fr.rf.set rfl) (hea x hx)
  generalize M.set a (.inr (11, [.int (md + 1), .ref arr, .int (nI xs.length)])) = M1 at g1 g2 fr1 el1 ⊢
  refine wa_aload_n 0 dJ2_fastRemove_10 rfl rfl ?_
  refine wa_getf dJ2_fastRemove_11 gJ2_48 (by assumption) rfl ?_
  refine wa_iconst (1) dJ2_fastRemove_14 (by decide) ?_
  refine wa_isub dJ2_fastRemove_15 ?_
  refine wa_dup dJ2_fastRemove_16 rfl ?_
  rw [hsz]
  refine wa_istore_n [(3, _), (0, _), (1, _), (2, _)] dJ2_fastRemove_17 rfl (Nat.le_of_ble_eq_true rfl) rfl ?_
  refine wa_iload_n 3 dJ2_fastRemove_18 rfl rfl ?_
  refine wa_icmp_le 34 dJ2_fastRemove_19 rfl (fun c19 => ?_) (fun c19 => ?_)
  ·
    first
      | (refine J34 _ _ g1 g2 (fun j hj => ?_) fr1
         have hle : ¬ i < xs.length - 1 := fun q => by rw [show (nI (xs.length - 1) ≤ nI i) = _ from rfl, nI_leI (by omega) (by omega)] at c19; omega
         rw [h5 j (by omega), List.getElem?_eraseIdx, if_pos (by omega)])
      | (refine J34 _ _ ((w_set_ne (Ne.symm haa)).trans g1) (w_set_self g2) (fun j hj => ?_) (fr1.set (Or.inr rfl))
         have hle : i < xs.length - 1 := Nat.lt_of_not_le (fun q => c19 (nI_le q (by omega)))
         rw [List.getElem?_eraseIdx]
         by_cases hx : j < i
         · rw [if_pos hx, pk_cpy_out (Or.inl hx)]
           exact h5 j (by omega)
         · rw [if_neg hx, pk_cpy_in (by omega) (by omega), h5 _ (by omega)]
           congr 1
           omega)
  ·
    refine wa_aload_n 2 dJ2_fastRemove_22 rfl rfl ?_
    refine wa_iload_n 3 dJ2_fastRemove_23 rfl rfl ?_
    refine wa_iconst (1) dJ2_fastRemove_24 (by decide) ?_
    refine wa_iadd dJ2_fastRemove_25 ?_
    refine wa_aload_n 2 dJ2_fastRemove_26 rfl rfl ?_
    refine wa_iload_n 3 dJ2_fastRemove_27 rfl rfl ?_
    refine wa_iload_n 0 dJ2_fastRemove_28 rfl rfl ?_
    refine wa_iload_n 3 dJ2_fastRemove_29 rfl rfl ?_
    refine wa_isub dJ2_fastRemove_30 ?_
    refine wa_copyq (i + 1) i (xs.length - 1 - i) dJ2_fastRemove_31 q672 g2 g2 (nI_1 i) rfl (pk_sub (by omega)) (by omega) (by omega) (by decide) (by decide) (fun j hj y hy => el1 y (by rw [h5 _ (by omega)] at hy; exact List.mem_of_getElem? hy)) rfl (Nat.le_of_ble_eq_true rfl) ?_
    first
      | (refine J34 _ _ g1 g2 (fun j hj => ?_) fr1
         have hle : ¬ i < xs.length - 1 := fun q => by rw [show (nI (xs.length - 1) ≤ nI i) = _ from rfl, nI_leI (by omega) (by omega)] at c19; omega
         rw [h5 j (by omega), List.getElem?_eraseIdx, if_pos (by omega)])
      | (refine J34 _ _ ((w_set_ne (Ne.symm haa)).trans g1) (w_set_self g2) (fun j hj => ?_) (fr1.set (Or.inr rfl))
         have hle : i < xs.length - 1 := Nat.lt_of_not_le (fun q => c19 (nI_le q (by omega)))
         rw [List.getElem?_eraseIdx]
         by_cases hx : j < i
         · rw [if_pos hx, pk_cpy_out (Or.inl hx)]
           exact h5 j (by omega)
         · rw [if_neg hx, pk_cpy_in (by omega) (by omega), h5 _ (by omega)]
           congr 1
           omega)
theorem sp_removeE (h : w_AL G M a arr xs) (hel : ∀ x ∈ xs, w_el M x) (hea : ∀ x ∈ xs, x ≠ a) {i y : Nat} (hi : xs[i]? = some y) : w_S l G tJ2_remove (3, 0, 0) [.ref a, .int (nI i)] M (w_rA (fun r M' => r = y ∧ w_AL G M' a arr (xs.eraseIdx i) ∧ w_fr M M' (fun q => q = a ∨ q = arr))) := by
  obtain ⟨md, h1, h2, h3⟩ := h
  have hlt : i < xs.length := (List.getElem?_eq_some_iff.mp hi).1
  obtain ⟨rfl, rfl⟩ | ⟨f, h4, h5⟩ := h3
  · simp at hlt
  have hin : vp_in (nI i) xs.length := vp_in_nI hlt (by omega)
  have hin2 : vp_in (nI i) 10 := vp_in_nI (by omega) (by omega)
  have hf : f (nI i).toNatClampNeg = some y := by rw [nI_clamp (by omega), h5 i hlt, hi]
  refine w_start (by decide) (Nat.le_of_ble_eq_true rfl) (fun X => ?_)
  refine wa_locals [(0, _), (1, _)] [0, 1] rfl ?_
  refine wa_iload_n 1 dJ2_remove_0 rfl rfl ?_
  refine wa_aload_n 0 dJ2_remove_1 rfl rfl ?_
  refine wa_getf dJ2_remove_2 gJ2_48 (by assumption) rfl ?_
  refine wc_isI (wr_S dJ2_remove_5 mJ2_118 (sp_checkIndex hin (by omega)) rfl rfl rfl (Nat.le_of_ble_eq_true rfl)) ?_
  refine wa_pop dJ2_remove_8 rfl ?_
  refine wa_aload_n 0 dJ2_remove_9 rfl rfl ?_
  refine wa_getf dJ2_remove_10 gJ2_9 (by assumption) rfl ?_
  refine wa_astore_n [(2, _), (0, _), (1, _)] dJ2_remove_13 rfl (Nat.le_of_ble_eq_true rfl) rfl ?_
  refine wa_aload_n 0 dJ2_remove_14 rfl rfl ?_
  refine wa_iload_n 2 dJ2_remove_15 rfl rfl ?_
  refine wa_aaldS dJ2_remove_16 (by assumption) (by assumption) (by assumption) ?_
  refine wa_astore_n [(3, _), (2, _), (0, _), (1, _)] dJ2_remove_17 rfl (Nat.le_of_ble_eq_true rfl) rfl ?_
  refine wa_aload_n 2 dJ2_remove_18 rfl rfl ?_
  refine wa_aload_n 1 dJ2_remove_19 rfl rfl ?_
  refine wa_iload_n 3 dJ2_remove_20 rfl rfl ?_
  refine wc_V (wr_V dJ2_remove_21 mJ2_144 (sp_fastRemove h1 h2 h4 h5 hel hea hlt) (by assumption) rfl rfl rfl (Nat.le_of_ble_eq_true rfl)) (fun M21 h21 => ?_)
  refine wa_aload_n 0 dJ2_remove_24 rfl rfl ?_
  refine wa_aret (FieldType.object "java/lang/Object") dJ2_remove_25 rfl rfl (Nat.le_of_ble_eq_true rfl) (Nat.le_of_ble_eq_true rfl) ?_
  exact ⟨y, rfl, rfl, h21⟩
theorem sp_clear (h : w_AL G M a arr xs) : w_S l G tJ2_clear (1, 0, 0) [.ref a] M (w_rV (fun M' => w_AL G M' a arr [] ∧ w_fr M M' (fun q => q = a ∨ q = arr))) := by
  obtain ⟨md, h1, h2, h3⟩ := h
  have haa : (arr = w_ad G 0 ∧ xs = []) ∨ arr ≠ a := by
    rcases h3 with h3 | ⟨f, h4, -⟩
    · exact Or.inl h3
    · exact Or.inr (by rintro rfl; rw [h4] at h1; cases h1)
  refine w_start (by decide) (Nat.le_of_ble_eq_true rfl) (fun X => ?_)
  refine wa_locals [(0, _)] [0] rfl ?_
  have J27 : ∀ (n : Nat) (i : Nat), i ≤ xs.length → xs.length ≤ i + n → ∀ M2 : w_M, M2.get a = some (.inr (11, [.int (md + 1), .ref arr, .int (nI ([] : List Nat).length)])) → ((arr = w_ad G 0 ∧ xs = []) ∨ ∃ f : Nat → Option Nat, M2.get arr = some (.inl (.object "java/lang/Object", 10, .inr (.inr (.inr (.inr f)))))) → w_fr M M2 (fun q => q = a ∨ q = arr) →
      w_A l G tJ2_clear (1, 0, 0) X 0 0 M2 27 [(3, .int (nI i)), (2, .int (nI xs.length)), (1, .ref arr), (0, .ref a)] [] (w_rV (fun M' => w_AL G M' a arr [] ∧ w_fr M M' (fun q => q = a ∨ q = arr))) := by
    intro n
    induction n with
    | zero =>
      intro i hi hn M2 k1 k2 k3
      refine wa_iload_n 0 dJ2_clear_27 rfl rfl ?_
      refine wa_iload_n 1 dJ2_clear_28 rfl rfl ?_
      refine wa_icmp_ge 42 dJ2_clear_29 rfl (fun c29 => ?_) (fun c29 => absurd (nI_le (by omega) (by omega)) c29)
      refine wa_vret dJ2_clear_42 rfl (Nat.le_of_ble_eq_true rfl) (Nat.le_of_ble_eq_true rfl) ?_
      exact ⟨rfl, ⟨md + 1, k1, by simp, k2.imp (fun q => ⟨q.1, rfl⟩) (fun ⟨f, q⟩ => ⟨f, q, fun j hj => absurd hj (Nat.not_lt_zero j)⟩)⟩, k3⟩
    | succ n ih =>
      intro i hi hn M2 k1 k2 k3
      refine wa_iload_n 0 dJ2_clear_27 rfl rfl ?_
      refine wa_iload_n 1 dJ2_clear_28 rfl rfl ?_
      refine wa_icmp_ge 42 dJ2_clear_29 rfl (fun c29 => ?_) (fun c29 => ?_)
      ·
        refine wa_vret dJ2_clear_42 rfl (Nat.le_of_ble_eq_true rfl) (Nat.le_of_ble_eq_true rfl) ?_
        exact ⟨rfl, ⟨md + 1, k1, by simp, k2.imp (fun q => ⟨q.1, rfl⟩) (fun ⟨f, q⟩ => ⟨f, q, fun j hj => absurd hj (Nat.not_lt_zero j)⟩)⟩, k3⟩
      ·
        have hlt : i < xs.length := Nat.lt_of_not_le (fun q => c29 (nI_le q (by omega)))
        have haa : arr ≠ a := by
          rcases haa with ⟨-, q⟩ | q
          · rw [q] at hlt; simp at hlt
          · exact q
        obtain ⟨f, k4⟩ : ∃ f : Nat → Option Nat, M2.get arr = some (.inl (.object "java/lang/Object", 10, .inr (.inr (.inr (.inr f))))) := by
          rcases k2 with ⟨-, q⟩ | q
          · rw [q] at hlt; simp at hlt
          · exact q
        have hin : vp_in (nI i) 10 := vp_in_nI (by omega) (by omega)
        refine wa_aload_n 2 dJ2_clear_32 rfl rfl ?_
        refine wa_iload_n 0 dJ2_clear_33 rfl rfl ?_
        refine wa_null dJ2_clear_34 ?_
        refine wa_aastN dJ2_clear_35 k4 hin ?_
        refine wa_iinc 0 [(3, _), (2, _), (1, _), (0, _)] dJ2_clear_36 rfl (w_inc _) (Nat.le_of_ble_eq_true rfl) rfl ?_
        refine wa_goto 27 dJ2_clear_39 rfl ?_
        exact ih (i + 1) (by omega) (by omega) _ ((w_set_ne (fun z => haa z.symm)).trans k1) (Or.inr ⟨_, w_set_self k4⟩) (k3.set (Or.inr rfl))
  refine wa_aload_n 0 dJ2_clear_0 rfl rfl ?_
  refine wa_dup dJ2_clear_1 rfl ?_
  refine wa_getf dJ2_clear_2 gJ2_63 (by assumption) rfl ?_
  refine wa_iconst (1) dJ2_clear_5 (by decide) ?_
  refine wa_iadd dJ2_clear_6 ?_
  refine wa_putf [_, _, _] dJ2_clear_7 pJ2_63 (by assumption) (Nat.le_of_ble_eq_true rfl) rfl rfl rfl ?_
  have g1 := w_set_self (e := (.inr (11, [.int (md + 1), .ref arr, .int (nI xs.length)]))) h1
  refine wa_aload_n 0 dJ2_clear_10 rfl rfl ?_
  refine wa_getf dJ2_clear_11 gJ2_9 (by assumption) rfl ?_
  refine wa_astore_n [(1, _), (0, _)] dJ2_clear_14 rfl (Nat.le_of_ble_eq_true rfl) rfl ?_
  refine wa_aload_n 1 dJ2_clear_15 rfl rfl ?_
  refine wa_getf dJ2_clear_16 gJ2_48 (by assumption) rfl ?_
  refine wa_istore_n [(2, _), (1, _), (0, _)] dJ2_clear_19 rfl (Nat.le_of_ble_eq_true rfl) rfl ?_
  refine wa_aload_n 2 dJ2_clear_20 rfl rfl ?_
  refine wa_iconst (0) dJ2_clear_21 (by decide) ?_
  refine wa_dup_x1 dJ2_clear_22 rfl rfl ?_
  refine wa_putf [_, _, _] dJ2_clear_23 pJ2_48 (by assumption) (Nat.le_of_ble_eq_true rfl) rfl rfl rfl ?_
  have g2 := w_set_self (e := (.inr (11, [.int (md + 1), .ref arr, .int 0]))) g1
  refine wa_istore_n [(3, _), (2, _), (1, _), (0, _)] dJ2_clear_26 rfl (Nat.le_of_ble_eq_true rfl) rfl ?_
  refine J27 xs.length 0 (Nat.zero_le _) (by omega) _ g2 ?_ ((w_fr.rf.set (Or.inl rfl)).set (Or.inl rfl))
  rcases h3 with h3 | ⟨f, h4, h5⟩
  · exact Or.inl h3
  · have haa : arr ≠ a := by rintro rfl; rw [h4] at h1; cases h1
    exact Or.inr ⟨f, (w_set_ne haa).trans ((w_set_ne haa).trans h4)⟩
end AL
