/-! ===== the core in the memory; what is asked of it ===== -/
set_option maxRecDepth 100000
/-- the core at a, by its parts' addresses -/
def z_coreL (G : w_G) (M : w_M) (P : Nat → Prop) (a kd rl ol sg ra oa : Nat) (ras oas : List Nat) (c : z_C) : Prop :=
  (P a ∧ P kd ∧ P rl ∧ P ol ∧ P sg ∧ (ra = w_ad G 0 ∨ P ra) ∧ (oa = w_ad G 0 ∨ P oa)) ∧
  M.get a = some (.inr (1, [.int (nI (z_rows c)), .int (nI (z_cols c)), .ref kd, .ref rl, .ref ol, .ref sg, .long (z_closed c), .int (z_now c)])) ∧
  (∃ f : Nat → Int32, M.get kd = some (.inl (.int, z_size c, .inl f)) ∧ ∀ k, k < z_size c → f k = z_kinds c k) ∧
  (∃ f : Nat → Int32, M.get sg = some (.inl (.int, 3, .inl f)) ∧ ∀ k, k < 3 → f k = z_sets c k) ∧
  w_AL G M rl ra ras ∧ w_AL G M ol oa oas ∧ ras.length = (z_robs c).length ∧ oas.length = (z_ords c).length ∧
  (∀ (i x : Nat) (r : z_R), ras[i]? = some x → (z_robs c)[i]? = some r → z_rob M (fun q => P q ∧ q ≠ sg) x r) ∧ (∀ (i x : Nat) (o : z_O), oas[i]? = some x → (z_ords c)[i]? = some o → z_ord M (fun q => P q ∧ q ≠ sg) x i o) ∧
  ras.Nodup ∧ oas.Nodup ∧ rl ≠ ol ∧ (ra = oa → ra = w_ad G 0) ∧ kd ≠ sg
def z_core (G : w_G) (M : w_M) (P : Nat → Prop) (a : Nat) (c : z_C) : Prop := ∃ kd rl ol sg ra oa ras oas, z_coreL G M P a kd rl ol sg ra oa ras oas c
theorem z_coreL.keep {G : w_G} {M M' : w_M} {P W : Nat → Prop} {a kd rl ol sg ra oa : Nat} {ras oas : List Nat} {c : z_C} (h : z_coreL G M P a kd rl ol sg ra oa ras oas c) (hf : w_fr M M' W) (hw : ∀ q, P q → ¬ W q) (hd : ¬ W (w_ad G 0)) : z_coreL G M' P a kd rl ol sg ra oa ras oas c := by
  obtain ⟨⟨p1, p2, p3, p4, p5, p6, p7⟩, h1, ⟨f, h2, h3⟩, ⟨g, h4, h5⟩, h6, h7, h8, h9, h10, h11, h12⟩ := h
  have w6 : ¬ W ra := p6.elim (fun e => by rw [e]; exact hd) (hw _)
  have w7 : ¬ W oa := p7.elim (fun e => by rw [e]; exact hd) (hw _)
  exact ⟨⟨p1, p2, p3, p4, p5, p6, p7⟩, hf.2 _ _ h1 (hw _ p1), ⟨f, hf.2 _ _ h2 (hw _ p2), h3⟩, ⟨g, hf.2 _ _ h4 (hw _ p5), h5⟩, h6.keep hf (hw _ p3) w6, h7.keep hf (hw _ p4) w7, h8, h9, fun i x r e1 e2 => (h10 i x r e1 e2).keep hf (fun q z => hw q z.1), fun i x o e1 e2 => (h11 i x o e1 e2).keep hf (fun q z => hw q z.1), h12⟩
theorem z_core.keep {G : w_G} {M M' : w_M} {P W : Nat → Prop} {a : Nat} {c : z_C} (h : z_core G M P a c) (hf : w_fr M M' W) (hw : ∀ q, P q → ¬ W q) (hd : ¬ W (w_ad G 0)) : z_core G M' P a c := by
  obtain ⟨kd, rl, ol, sg, ra, oa, ras, oas, h⟩ := h
  exact ⟨kd, rl, ol, sg, ra, oa, ras, oas, h.keep hf hw hd⟩
theorem w_AL.lt {G : w_G} {M : w_M} {a arr : Nat} {xs : List Nat} (h : w_AL G M a arr xs) : a < M.sz ∧ (arr = w_ad G 0 ∨ arr < M.sz) := by
  obtain ⟨md, h1, h2, h3⟩ := h
  exact ⟨w_lt h1, h3.elim (fun z => Or.inl z.1) (fun ⟨f, z, _⟩ => Or.inr (w_lt z))⟩
theorem z_coreL.mono {G : w_G} {M : w_M} {P P' : Nat → Prop} {a kd rl ol sg ra oa : Nat} {ras oas : List Nat} {c : z_C} (h : z_coreL G M P a kd rl ol sg ra oa ras oas c) (hp : ∀ q, q < M.sz → P q → P' q) : z_coreL G M P' a kd rl ol sg ra oa ras oas c := by
  obtain ⟨⟨p1, p2, p3, p4, p5, p6, p7⟩, h1, ⟨f, h2, h3⟩, ⟨g, h4, h5⟩, h6, h7, h8, h9, h10, h11, h12⟩ := h
  exact ⟨⟨hp _ (w_lt h1) p1, hp _ (w_lt h2) p2, hp _ h6.lt.1 p3, hp _ h7.lt.1 p4, hp _ (w_lt h4) p5, p6.elim Or.inl (fun z => h6.lt.2.elim Or.inl (fun z2 => Or.inr (hp _ z2 z))), p7.elim Or.inl (fun z => h7.lt.2.elim Or.inl (fun z2 => Or.inr (hp _ z2 z)))⟩, h1, ⟨f, h2, h3⟩, ⟨g, h4, h5⟩, h6, h7, h8, h9,
    fun i x r e1 e2 => (h10 i x r e1 e2).mono (fun q z1 z2 => ⟨hp q z1 z2.1, z2.2⟩), fun i x o e1 e2 => (h11 i x o e1 e2).mono (fun q z1 z2 => ⟨hp q z1 z2.1, z2.2⟩), h12⟩
theorem z_core.mono {G : w_G} {M : w_M} {P P' : Nat → Prop} {a : Nat} {c : z_C} (h : z_core G M P a c) (hp : ∀ q, q < M.sz → P q → P' q) : z_core G M P' a c := by
  obtain ⟨kd, rl, ol, sg, ra, oa, ras, oas, h⟩ := h
  exact ⟨kd, rl, ol, sg, ra, oa, ras, oas, h.mono hp⟩
section CR
variable {l : Launch} {G : w_G} {M : w_M} {P : Nat → Prop} {a kd rl ol sg ra oa : Nat} {ras oas : List Nat} {c : z_C}
theorem sp_C_size (h : z_coreL G M P a kd rl ol sg ra oa ras oas c) : w_S l G tX2_size (1, 0, 0) [.ref a] M (w_is (.inl (some (.int (nI (z_size c))))) M) := by
  obtain ⟨-, h1, -⟩ := h
  refine w_start (by decide) (Nat.le_of_ble_eq_true rfl) (fun X => ?_)
  refine wa_locals [(0, _)] [0] rfl ?_
  refine wa_aload_n 0 dX2_size_0 rfl rfl ?_
  refine wa_getf dX2_size_1 gX2_25 (by assumption) rfl ?_
  refine wa_aload_n 0 dX2_size_4 rfl rfl ?_
  refine wa_getf dX2_size_5 gX2_29 (by assumption) rfl ?_
  refine wa_imul dX2_size_8 ?_
  refine wa_iret FieldType.int dX2_size_9 rfl rfl (Nat.le_of_ble_eq_true rfl) (Nat.le_of_ble_eq_true rfl) ?_
  exact ⟨by rw [pk_mul]; rfl, rfl⟩
theorem sp_hasCell (h : z_coreL G M P a kd rl ol sg ra oa ras oas c) (hs : z_small c) {x : Int32} : w_S l G tX2_hasCell (2, 0, 0) [.ref a, .int x] M (w_is (.inl (some (.int (if (z_idx x (z_size c)).isSome then 1 else 0)))) M) := by
  have hsz := hs.size
  have e : (if 0 ≤ x ∧ x ≤ nI (z_size c) - 1 then (1 : Int32) else 0) = if (z_idx x (z_size c)).isSome then 1 else 0 := by
    have := z_idx_none (x := x) (n := z_size c) (by omega)
    cases hx : z_idx x (z_size c) with
    | none => rw [if_neg (this.mp hx)]; rfl
    | some j => rw [if_pos (Classical.byContradiction fun q => by have := this.mpr q; rw [hx] at this; cases this)]; rfl
  refine w_start (by decide) (Nat.le_of_ble_eq_true rfl) (fun X => ?_)
  refine wa_locals [(0, _), (1, _)] [0, 1] rfl ?_
  refine wa_iload_n 1 dX2_hasCell_0 rfl rfl ?_
  refine wa_iconst (0) dX2_hasCell_1 (by decide) ?_
  refine wa_aload_n 0 dX2_hasCell_2 rfl rfl ?_
  refine wc_isI (wr_V dX2_hasCell_3 mX2_74 (sp_C_size h) h.2.1 rfl rfl rfl (Nat.le_of_ble_eq_true rfl)) ?_
  refine wa_iconst (1) dX2_hasCell_6 (by decide) ?_
  refine wa_isub dX2_hasCell_7 ?_
  refine wc_isI (wr_S dX2_hasCell_8 mX2_75 sp_between rfl rfl rfl (Nat.le_of_ble_eq_true rfl)) ?_
  rw [e]
  refine wa_iret FieldType.boolean dX2_hasCell_11 rfl (by split <;> rfl) (Nat.le_of_ble_eq_true rfl) (Nat.le_of_ble_eq_true rfl) ?_
  exact ⟨rfl, rfl⟩
theorem sp_hasRobot (h : z_coreL G M P a kd rl ol sg ra oa ras oas c) (hs : z_small c) {x : Int32} : w_S l G tX2_hasRobot (2, 0, 0) [.ref a, .int x] M (w_is (.inl (some (.int (if (z_idx x (z_robs c).length).isSome then 1 else 0)))) M) := by
  have hn : (z_robs c).length < 2 ^ 31 := by have h1 := hs.2.2.2.2.1; have h2 := hs.2.2.2.2.2.1; omega
  have e : (if 0 ≤ x ∧ x ≤ nI ras.length - 1 then (1 : Int32) else 0) = if (z_idx x (z_robs c).length).isSome then 1 else 0 := by
    rw [show ras.length = (z_robs c).length from h.2.2.2.2.2.2.1]
    have := z_idx_none (x := x) hn
    cases hx : z_idx x (z_robs c).length with
    | none => rw [if_neg (this.mp hx)]; rfl
    | some j => rw [if_pos (Classical.byContradiction fun q => by have := this.mpr q; rw [hx] at this; cases this)]; rfl
  obtain ⟨-, h1, h2, h3, h4, h5, h6⟩ := h
  refine w_start (by decide) (Nat.le_of_ble_eq_true rfl) (fun X => ?_)
  refine wa_locals [(0, _), (1, _)] [0, 1] rfl ?_
  refine wa_iload_n 1 dX2_hasRobot_0 rfl rfl ?_
  refine wa_iconst (0) dX2_hasRobot_1 (by decide) ?_
  refine wa_aload_n 0 dX2_hasRobot_2 rfl rfl ?_
  refine wa_getf dX2_hasRobot_3 gX2_12 (by assumption) rfl ?_
  refine wc_isI (wr_V dX2_hasRobot_6 mX2_38 (sp_size h4) h4.choose_spec.1 rfl rfl rfl (Nat.le_of_ble_eq_true rfl)) ?_
  refine wa_iconst (1) dX2_hasRobot_9 (by decide) ?_
  refine wa_isub dX2_hasRobot_10 ?_
  refine wc_isI (wr_S dX2_hasRobot_11 mX2_75 sp_between rfl rfl rfl (Nat.le_of_ble_eq_true rfl)) ?_
  rw [e]
  refine wa_iret FieldType.boolean dX2_hasRobot_14 rfl (by split <;> rfl) (Nat.le_of_ble_eq_true rfl) (Nat.le_of_ble_eq_true rfl) ?_
  exact ⟨rfl, rfl⟩
theorem sp_hasOrder (h : z_coreL G M P a kd rl ol sg ra oa ras oas c) (hs : z_small c) {x : Int32} : w_S l G tX2_hasOrder (2, 0, 0) [.ref a, .int x] M (w_is (.inl (some (.int (if (z_idx x (z_ords c).length).isSome then 1 else 0)))) M) := by
  have hn : (z_ords c).length < 2 ^ 31 := by have h1 := hs.2.2.2.2.1; have h2 := hs.2.2.2.2.2.1; omega
  have e : (if 0 ≤ x ∧ x ≤ nI oas.length - 1 then (1 : Int32) else 0) = if (z_idx x (z_ords c).length).isSome then 1 else 0 := by
    rw [show oas.length = (z_ords c).length from h.2.2.2.2.2.2.2.1]
    have := z_idx_none (x := x) hn
    cases hx : z_idx x (z_ords c).length with
    | none => rw [if_neg (this.mp hx)]; rfl
    | some j => rw [if_pos (Classical.byContradiction fun q => by have := this.mpr q; rw [hx] at this; cases this)]; rfl
  obtain ⟨-, h1, h2, h3, h4, h5, h6⟩ := h
  refine w_start (by decide) (Nat.le_of_ble_eq_true rfl) (fun X => ?_)
  refine wa_locals [(0, _), (1, _)] [0, 1] rfl ?_
  refine wa_iload_n 1 dX2_hasOrder_0 rfl rfl ?_
  refine wa_iconst (0) dX2_hasOrder_1 (by decide) ?_
  refine wa_aload_n 0 dX2_hasOrder_2 rfl rfl ?_
  refine wa_getf dX2_hasOrder_3 gX2_18 (by assumption) rfl ?_
  refine wc_isI (wr_V dX2_hasOrder_6 mX2_38 (sp_size h5) h5.choose_spec.1 rfl rfl rfl (Nat.le_of_ble_eq_true rfl)) ?_
  refine wa_iconst (1) dX2_hasOrder_9 (by decide) ?_
  refine wa_isub dX2_hasOrder_10 ?_
  refine wc_isI (wr_S dX2_hasOrder_11 mX2_75 sp_between rfl rfl rfl (Nat.le_of_ble_eq_true rfl)) ?_
  rw [e]
  refine wa_iret FieldType.boolean dX2_hasOrder_14 rfl (by split <;> rfl) (Nat.le_of_ble_eq_true rfl) (Nat.le_of_ble_eq_true rfl) ?_
  exact ⟨rfl, rfl⟩
theorem sp_isClosed (h : z_coreL G M P a kd rl ol sg ra oa ras oas c) {k : Nat} : w_S l G tX2_isClosed (1, 0, 0) [.ref a, .int (nI k)] M (w_is (.inl (some (.int (if z_bit (z_closed c) k then 1 else 0)))) M) := by
  obtain ⟨-, h1, -⟩ := h
  have e : lg_cmp (z_closed c >>> ((nI k).toInt64 &&& 63) &&& 1) 1 = 0 ↔ z_bit (z_closed c) k = true := by
    unfold z_bit
    rw [decide_eq_true_eq]
    exact w_lcmp0 _ _
  refine w_start (by decide) (Nat.le_of_ble_eq_true rfl) (fun X => ?_)
  refine wa_locals [(0, _), (1, _)] [0, 1] rfl ?_
  refine wa_aload_n 0 dX2_isClosed_0 rfl rfl ?_
  refine wa_getf dX2_isClosed_1 gX2_67 (by assumption) rfl ?_
  refine wa_iload_n 1 dX2_isClosed_4 rfl rfl ?_
  refine wa_lshr dX2_isClosed_5 ?_
  refine wa_lconst 1 dX2_isClosed_6 (by decide) ?_
  refine wa_land dX2_isClosed_7 ?_
  refine wa_lconst 1 dX2_isClosed_8 (by decide) ?_
  refine wa_lcmp dX2_isClosed_9 ?_
  refine wa_if_ne 17 dX2_isClosed_10 rfl (fun c10 => ?_) (fun c10 => ?_)
  ·
    refine wa_iconst (0) dX2_isClosed_17 (by decide) ?_
    refine wa_iret FieldType.boolean dX2_isClosed_18 rfl rfl (Nat.le_of_ble_eq_true rfl) (Nat.le_of_ble_eq_true rfl) ?_
    exact ⟨by rw [e] at c10; simp [c10], rfl⟩
  ·
    refine wa_iconst (1) dX2_isClosed_13 (by decide) ?_
    refine wa_goto 18 dX2_isClosed_14 rfl ?_
    refine wa_iret FieldType.boolean dX2_isClosed_18 rfl rfl (Nat.le_of_ble_eq_true rfl) (Nat.le_of_ble_eq_true rfl) ?_
    exact ⟨by rw [e] at c10; simp [c10], rfl⟩
theorem sp_isFree (h : z_coreL G M P a kd rl ol sg ra oa ras oas c) (hs : z_small c) {k : Nat} (hk : k < z_size c) : w_S l G tX2_isFree (2, 0, 0) [.ref a, .int (nI k)] M (w_is (.inl (some (.int (if z_free c k then 1 else 0)))) M) := by
  have hsz := hs.size
  have hh := h
  obtain ⟨-, h1, ⟨f, h2, h3⟩, -⟩ := h
  have hin : vp_in (nI k) (z_size c) := vp_in_nI hk (by omega)
  have hf : f (nI k).toNatClampNeg = z_kinds c k := by rw [nI_clamp (by omega)]; exact h3 k hk
  refine w_start (by decide) (Nat.le_of_ble_eq_true rfl) (fun X => ?_)
  refine wa_locals [(0, _), (1, _)] [0, 1] rfl ?_
  refine wa_aload_n 0 dX2_isFree_0 rfl rfl ?_
  refine wa_getf dX2_isFree_1 gX2_32 (by assumption) rfl ?_
  refine wa_iload_n 1 dX2_isFree_4 rfl rfl ?_
  refine wa_iald dX2_isFree_5 (by assumption) (by assumption) ?_
  rw [hf]
  refine wa_iconst (1) dX2_isFree_6 (by decide) ?_
  refine wa_icmp_eq 22 dX2_isFree_7 rfl (fun c7 => ?_) (fun c7 => ?_)
  ·
    refine wa_iconst (0) dX2_isFree_22 (by decide) ?_
    refine wa_iret FieldType.boolean dX2_isFree_23 rfl rfl (Nat.le_of_ble_eq_true rfl) (Nat.le_of_ble_eq_true rfl) ?_
    exact ⟨by unfold z_free; simp_all, rfl⟩
  ·
    refine wa_aload_n 0 dX2_isFree_10 rfl rfl ?_
    refine wa_iload_n 1 dX2_isFree_11 rfl rfl ?_
    refine wc_isI (wr_V dX2_isFree_12 mX2_79 (sp_isClosed hh) (by assumption) rfl rfl rfl (Nat.le_of_ble_eq_true rfl)) ?_
    refine wa_if_ne 22 dX2_isFree_15 rfl (fun c15 => ?_) (fun c15 => ?_)
    ·
      refine wa_iconst (0) dX2_isFree_22 (by decide) ?_
      refine wa_iret FieldType.boolean dX2_isFree_23 rfl rfl (Nat.le_of_ble_eq_true rfl) (Nat.le_of_ble_eq_true rfl) ?_
      exact ⟨by unfold z_free; simp_all, rfl⟩
    ·
      refine wa_iconst (1) dX2_isFree_18 (by decide) ?_
      refine wa_goto 23 dX2_isFree_19 rfl ?_
      refine wa_iret FieldType.boolean dX2_isFree_23 rfl rfl (Nat.le_of_ble_eq_true rfl) (Nat.le_of_ble_eq_true rfl) ?_
      exact ⟨by unfold z_free; simp_all, rfl⟩
end CR
