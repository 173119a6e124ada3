/-! ===== Order, small statics, exceptions of our own ===== -/
set_option maxRecDepth 100000
section OR
variable {l : Launch} {G : w_G} {M : w_M} {a : Nat} {v0 v1 v2 v3 v4 v5 v6 v7 : Value}
theorem sp_between {x lo hi : Int32} : w_S l G tX1_isBetween (1, 0, 0) [.int x, .int lo, .int hi] M (w_is (.inl (some (.int (if lo ≤ x ∧ x ≤ hi then 1 else 0)))) M) := by
  refine w_start (by decide) (Nat.le_of_ble_eq_true rfl) (fun X => ?_)
  refine wa_locals [(0, _), (1, _), (2, _)] [0, 1, 2] rfl ?_
  refine wa_iload_n 0 dX1_isBetween_0 rfl rfl ?_
  refine wa_iload_n 1 dX1_isBetween_1 rfl rfl ?_
  refine wa_icmp_lt 14 dX1_isBetween_2 rfl (fun c2 => ?_) (fun c2 => ?_)
  ·
    refine wa_iconst (0) dX1_isBetween_14 (by decide) ?_
    refine wa_iret FieldType.boolean dX1_isBetween_15 rfl rfl (Nat.le_of_ble_eq_true rfl) (Nat.le_of_ble_eq_true rfl) ?_
    exact ⟨by simp only [← Int32.not_lt] at *; simp [*], rfl⟩
  ·
    refine wa_iload_n 0 dX1_isBetween_5 rfl rfl ?_
    refine wa_iload_n 2 dX1_isBetween_6 rfl rfl ?_
    refine wa_icmp_gt 14 dX1_isBetween_7 rfl (fun c7 => ?_) (fun c7 => ?_)
    ·
      refine wa_iconst (0) dX1_isBetween_14 (by decide) ?_
      refine wa_iret FieldType.boolean dX1_isBetween_15 rfl rfl (Nat.le_of_ble_eq_true rfl) (Nat.le_of_ble_eq_true rfl) ?_
      exact ⟨by simp only [← Int32.not_lt] at *; simp [*], rfl⟩
    ·
      refine wa_iconst (1) dX1_isBetween_10 (by decide) ?_
      refine wa_goto 15 dX1_isBetween_11 rfl ?_
      refine wa_iret FieldType.boolean dX1_isBetween_15 rfl rfl (Nat.le_of_ble_eq_true rfl) (Nat.le_of_ble_eq_true rfl) ?_
      exact ⟨by simp only [← Int32.not_lt] at *; simp [*], rfl⟩
/-- Integer.compare -/
def z_cmp (x y : Int32) : Int32 := if x < y then -1 else if x = y then 0 else 1
theorem sp_compare {x y : Int32} : w_S l G tJ24_compare (1, 0, 0) [.int x, .int y] M (w_is (.inl (some (.int (z_cmp x y)))) M) := by
  refine w_start (by decide) (Nat.le_of_ble_eq_true rfl) (fun X => ?_)
  refine wa_locals [(0, _), (1, _)] [0, 1] rfl ?_
  refine wa_iload_n 0 dJ24_compare_0 rfl rfl ?_
  refine wa_iload_n 1 dJ24_compare_1 rfl rfl ?_
  refine wa_icmp_ge 9 dJ24_compare_2 rfl (fun c2 => ?_) (fun c2 => ?_)
  ·
    refine wa_iload_n 0 dJ24_compare_9 rfl rfl ?_
    refine wa_iload_n 1 dJ24_compare_10 rfl rfl ?_
    refine wa_icmp_ne 18 dJ24_compare_11 rfl (fun c11 => ?_) (fun c11 => ?_)
    ·
      refine wa_iconst (1) dJ24_compare_18 (by decide) ?_
      refine wa_iret FieldType.int dJ24_compare_19 rfl rfl (Nat.le_of_ble_eq_true rfl) (Nat.le_of_ble_eq_true rfl) ?_
      exact ⟨by unfold z_cmp; simp [← Int32.not_le, *], rfl⟩
    ·
      refine wa_iconst (0) dJ24_compare_14 (by decide) ?_
      refine wa_goto 19 dJ24_compare_15 rfl ?_
      refine wa_iret FieldType.int dJ24_compare_19 rfl rfl (Nat.le_of_ble_eq_true rfl) (Nat.le_of_ble_eq_true rfl) ?_
      exact ⟨by unfold z_cmp; simp [← Int32.not_le, *], rfl⟩
  ·
    refine wa_iconst (-1) dJ24_compare_5 (by decide) ?_
    refine wa_goto 19 dJ24_compare_6 rfl ?_
    refine wa_iret FieldType.int dJ24_compare_19 rfl rfl (Nat.le_of_ble_eq_true rfl) (Nat.le_of_ble_eq_true rfl) ?_
    exact ⟨by unfold z_cmp; simp [← Int32.not_le, *], rfl⟩
theorem sp_O_init {n d : Int32} {la : Nat} (h : M.get a = some (.inr (6, [v0, v1, v2, v3, v4, v5]))) : w_S l G tX7_init (2, 0, 0) [.ref a, .int n, .int d, .ref la] M (w_is (.inl none) (M.set a (.inr (6, [.int n, .int d, .ref la, v3, v4, .int (-1)])))) := by
  refine w_start (by decide) (Nat.le_of_ble_eq_true rfl) (fun X => ?_)
  refine wa_locals [(0, _), (1, _), (2, _), (3, _)] [0, 1, 2, 3] rfl ?_
  refine wa_aload_n 0 dX7_init_0 rfl rfl ?_
  refine wa_objInit dX7_init_1 q387 rfl (Nat.le_of_ble_eq_true rfl) ?_
  refine wa_aload_n 0 dX7_init_4 rfl rfl ?_
  refine wa_iconst (-1) dX7_init_5 (by decide) ?_
  refine wa_putf [_, _, _, _, _, _] dX7_init_6 pX7_9 (by assumption) (Nat.le_of_ble_eq_true rfl) rfl rfl rfl ?_
  refine wa_aload_n 0 dX7_init_9 rfl rfl ?_
  refine wa_iload_n 1 dX7_init_10 rfl rfl ?_
  refine wa_putF [_, _, _, _, _, _] dX7_init_11 rfl pX7_15 (w_set_self h) (Nat.le_of_ble_eq_true rfl) rfl rfl rfl ?_
  refine wa_aload_n 0 dX7_init_14 rfl rfl ?_
  refine wa_iload_n 2 dX7_init_15 rfl rfl ?_
  refine wa_putF [_, _, _, _, _, _] dX7_init_16 rfl pX7_18 (w_set_self (w_set_self h)) (Nat.le_of_ble_eq_true rfl) rfl rfl rfl ?_
  refine wa_aload_n 0 dX7_init_19 rfl rfl ?_
  refine wa_aload_n 3 dX7_init_20 rfl rfl ?_
  refine wa_putF [_, _, _, _, _, _] dX7_init_21 rfl pX7_21 (w_set_self (w_set_self (w_set_self h))) (Nat.le_of_ble_eq_true rfl) rfl rfl rfl ?_
  refine wa_vret dX7_init_24 rfl (Nat.le_of_ble_eq_true rfl) (Nat.le_of_ble_eq_true rfl) ?_
  exact ⟨rfl, by rw [w_set_set, w_set_set, w_set_set]⟩
theorem sp_O_copy {n d p s e : Int32} {la : Nat} (h : M.get a = some (.inr (6, [.int n, .int d, .ref la, .int p, .int s, .int e]))) : w_S l G tX7_copy (3, 1, 6) [.ref a] M (w_is (.inl (some (.ref M.sz))) (M.push (.inr (6, [.int n, .int d, .ref la, .int p, .int s, .int e])))) := by
  refine w_start (by decide) (Nat.le_of_ble_eq_true rfl) (fun X => ?_)
  refine wa_locals [(0, _)] [0] rfl ?_
  refine wa_new dX7_copy_0 nX7_10 (Nat.le_of_ble_eq_true rfl) (Nat.le_of_ble_eq_true rfl) ?_
  refine wa_dup dX7_copy_3 rfl ?_
  refine wa_aload_n 0 dX7_copy_4 rfl rfl ?_
  refine wa_getf dX7_copy_5 gX7_15 (w_push_old h) rfl ?_
  refine wa_aload_n 0 dX7_copy_8 rfl rfl ?_
  refine wa_getf dX7_copy_9 gX7_18 (w_push_old h) rfl ?_
  refine wa_aload_n 0 dX7_copy_12 rfl rfl ?_
  refine wa_getf dX7_copy_13 gX7_21 (w_push_old h) rfl ?_
  refine wc_isV (wr_I dX7_copy_16 mX7_25 (sp_O_init w_push_self) rfl rfl rfl (Nat.le_of_ble_eq_true rfl)) ?_
  rw [w_push_set]
  have g0 := w_push_old (e := .inr (6, [.int n, .int d, .ref la, .int 0, .int 0, .int (-1)])) h
  have g1 := w_push_self (M := M) (e := .inr (6, [.int n, .int d, .ref la, .int 0, .int 0, .int (-1)]))
  refine wa_astore_n [(1, _), (0, _)] dX7_copy_19 rfl (Nat.le_of_ble_eq_true rfl) rfl ?_
  refine wa_aload_n 0 dX7_copy_20 rfl rfl ?_
  refine wa_aload_n 1 dX7_copy_21 rfl rfl ?_
  refine wa_getf dX7_copy_22 gX7_28 (by assumption) rfl ?_
  refine wa_putf [_, _, _, _, _, _] dX7_copy_25 pX7_28 (by assumption) (Nat.le_of_ble_eq_true rfl) rfl rfl rfl ?_
  rw [w_push_set]
  have g0 := w_push_old (e := .inr (6, [.int n, .int d, .ref la, .int p, .int 0, .int (-1)])) h
  have g1 := w_push_self (M := M) (e := .inr (6, [.int n, .int d, .ref la, .int p, .int 0, .int (-1)]))
  refine wa_aload_n 0 dX7_copy_28 rfl rfl ?_
  refine wa_aload_n 1 dX7_copy_29 rfl rfl ?_
  refine wa_getf dX7_copy_30 gX7_31 (by assumption) rfl ?_
  refine wa_putf [_, _, _, _, _, _] dX7_copy_33 pX7_31 (by assumption) (Nat.le_of_ble_eq_true rfl) rfl rfl rfl ?_
  rw [w_push_set]
  have g0 := w_push_old (e := .inr (6, [.int n, .int d, .ref la, .int p, .int s, .int (-1)])) h
  have g1 := w_push_self (M := M) (e := .inr (6, [.int n, .int d, .ref la, .int p, .int s, .int (-1)]))
  refine wa_aload_n 0 dX7_copy_36 rfl rfl ?_
  refine wa_aload_n 1 dX7_copy_37 rfl rfl ?_
  refine wa_getf dX7_copy_38 gX7_9 (by assumption) rfl ?_
  refine wa_putf [_, _, _, _, _, _] dX7_copy_41 pX7_9 (by assumption) (Nat.le_of_ble_eq_true rfl) rfl rfl rfl ?_
  rw [w_push_set]
  refine wa_aload_n 0 dX7_copy_44 rfl rfl ?_
  refine wa_aret (FieldType.object "RobotAisles$Order") dX7_copy_45 rfl rfl (Nat.le_of_ble_eq_true rfl) (Nat.le_of_ble_eq_true rfl) ?_
  exact ⟨rfl, rfl⟩
/-- an order in the memory, with its number -/
def z_ord (M : w_M) (P : Nat → Prop) (a : Nat) (n : Nat) (o : z_O) : Prop := ∃ la, P a ∧ P la ∧ M.get a = some (.inr (6, [.int (nI n), .int (z_due o), .ref la, .int (nI (z_picked o)), .int (nI (z_state o)), .int (z_del o)])) ∧
  ∃ f : Nat → Int32, M.get la = some (.inl (.int, (z_lines o).length, .inl f)) ∧ ∀ i c, (z_lines o)[i]? = some c → f i = nI c
theorem z_ord.keep {M M' : w_M} {P W : Nat → Prop} {a n : Nat} {o : z_O} (h : z_ord M P a n o) (hf : w_fr M M' W) (hw : ∀ q, P q → ¬ W q) : z_ord M' P a n o := by
  obtain ⟨la, h1, h2, h3, f, h4, h5⟩ := h
  exact ⟨la, h1, h2, hf.2 _ _ h3 (hw _ h1), f, hf.2 _ _ h4 (hw _ h2), h5⟩
theorem z_ord.mono {M : w_M} {P P' : Nat → Prop} {a n : Nat} {o : z_O} (h : z_ord M P a n o) (hp : ∀ q, q < M.sz → P q → P' q) : z_ord M P' a n o := by
  obtain ⟨la, h1, h2, h3, f, h4, h5⟩ := h
  exact ⟨la, hp _ (w_lt h3) h1, hp _ (w_lt h4) h2, h3, f, h4, h5⟩
theorem sp_left {P : Nat → Prop} {n : Nat} {o : z_O} (h : z_ord M P a n o) (hp : z_picked o ≤ (z_lines o).length) : w_S l G tX7_left (1, 0, 0) [.ref a] M (w_is (.inl (some (.int (nI ((z_lines o).length - z_picked o))))) M) := by
  obtain ⟨la, h1, h2, h3, f, h4, h5⟩ := h
  refine w_start (by decide) (Nat.le_of_ble_eq_true rfl) (fun X => ?_)
  refine wa_locals [(0, _)] [0] rfl ?_
  refine wa_aload_n 0 dX7_left_0 rfl rfl ?_
  refine wa_getf dX7_left_1 gX7_21 (by assumption) rfl ?_
  refine wa_alen 0 dX7_left_4 (by assumption) rfl ?_
  refine wa_aload_n 0 dX7_left_5 rfl rfl ?_
  refine wa_getf dX7_left_6 gX7_28 (by assumption) rfl ?_
  refine wa_isub dX7_left_9 ?_
  refine wa_iret FieldType.int dX7_left_10 rfl rfl (Nat.le_of_ble_eq_true rfl) (Nat.le_of_ble_eq_true rfl) ?_
  exact ⟨by rw [pk_sub hp], rfl⟩
theorem sp_J3_X8 (h : M.get a = some (.inr (7, [v0, v1, v2, v3, v4, v5, v6, v7]))) : w_S l G tJ3_init_2 (2, 0, 0) [.ref a, .null, .null, .int 0, .int 0] M (w_is (.inl none) (M.set a (.inr (7, [.null, .null, .null, .null, v4, v5, v6, v7])))) := by
  refine w_startF (by decide +kernel) (Nat.le_of_ble_eq_true rfl) (fun X => ?_)
  refine wa_locals [(0, _), (1, _), (2, _), (3, _), (4, _)] [0, 1, 2, 3, 4] rfl ?_
  refine wa_aload_n 0 dJ3_init_2_0 rfl rfl ?_
  refine wa_objInit dJ3_init_2_1 q455 rfl (Nat.le_of_ble_eq_true rfl) ?_
  refine wa_aload_n 0 dJ3_init_2_4 rfl rfl ?_
  refine wa_aload_n 0 dJ3_init_2_5 rfl rfl ?_
  refine wa_putf [_, _, _, _, _, _, _, _] dJ3_init_2_6 pJ3_7_X8 (by assumption) (Nat.le_of_ble_eq_true rfl) rfl rfl rfl ?_
  refine wa_aload_n 0 dJ3_init_2_9 rfl rfl ?_
  refine wa_getU dJ3_init_2_10 q456 (fun pv => ?_)
  refine wa_putf [_, _, _, _, _, _, _, _] dJ3_init_2_13 pJ3_17_X8 (w_set_self h) (Nat.le_of_ble_eq_true rfl) (by cases pv <;> rfl) (by cases pv <;> rfl) rfl ?_
  refine wa_aload_n 0 dJ3_init_2_16 rfl rfl ?_
  refine wa_getS dJ3_init_2_17 q458 (fun pw => ?_)
  refine wa_putf [_, _, _, _, _, _, _, _] dJ3_init_2_20 pJ3_24_X8 (w_set_self (w_set_self h)) (Nat.le_of_ble_eq_true rfl) (by cases pw <;> rfl) (by cases pw <;> rfl) rfl ?_
  refine wa_iload 4 dJ3_init_2_23 rfl ?_
  refine wa_if_eq 36 dJ3_init_2_25 rfl (fun c25 => ?_) (fun c25 => absurd (by decide) c25)
  refine wa_aload_n 0 dJ3_init_2_36 rfl rfl ?_
  refine wa_null dJ3_init_2_37 ?_
  refine wa_putf [_, _, _, _, _, _, _, _] dJ3_init_2_38 pJ3_17_X8 (w_set_self (w_set_self (w_set_self h))) (Nat.le_of_ble_eq_true rfl) rfl rfl rfl ?_
  refine wa_aload_n 0 dJ3_init_2_41 rfl rfl ?_
  refine wa_aload_nN 1 dJ3_init_2_42 rfl rfl ?_
  refine wa_putf [_, _, _, _, _, _, _, _] dJ3_init_2_43 pJ3_31_X8 (w_set_self (w_set_self (w_set_self (w_set_self h)))) (Nat.le_of_ble_eq_true rfl) rfl rfl rfl ?_
  refine wa_aload_n 0 dJ3_init_2_46 rfl rfl ?_
  refine wa_aload_nN 2 dJ3_init_2_47 rfl rfl ?_
  refine wa_putf [_, _, _, _, _, _, _, _] dJ3_init_2_48 pJ3_7_X8 (w_set_self (w_set_self (w_set_self (w_set_self (w_set_self h))))) (Nat.le_of_ble_eq_true rfl) rfl rfl rfl ?_
  refine wa_iload_n 3 dJ3_init_2_51 rfl rfl ?_
  refine wa_if_ne 60 dJ3_init_2_52 rfl (fun c52 => absurd (by decide) c52) (fun c52 => ?_)
  refine wa_aload_n 0 dJ3_init_2_55 rfl rfl ?_
  refine wa_null dJ3_init_2_56 ?_
  refine wa_putf [_, _, _, _, _, _, _, _] dJ3_init_2_57 pJ3_24_X8 (w_set_self (w_set_self (w_set_self (w_set_self (w_set_self (w_set_self h)))))) (Nat.le_of_ble_eq_true rfl) rfl rfl rfl ?_
  refine wa_vret dJ3_init_2_60 rfl (Nat.le_of_ble_eq_true rfl) (Nat.le_of_ble_eq_true rfl) ?_
  exact ⟨rfl, by simp only [w_set_set]⟩
theorem sp_J4_X8 (h : M.get a = some (.inr (7, [v0, v1, v2, v3, v4, v5, v6, v7]))) : w_S l G tJ4_init_2 (3, 0, 0) [.ref a, .null, .null, .int 0, .int 0] M (w_is (.inl none) (M.set a (.inr (7, [.null, .null, .null, .null, v4, v5, v6, v7])))) := by
  refine w_start (by decide) (Nat.le_of_ble_eq_true rfl) (fun X => ?_)
  refine wa_locals [(0, _), (1, _), (2, _), (3, _), (4, _)] [0, 1, 2, 3, 4] rfl ?_
  refine wa_aload_n 0 dJ4_init_2_0 rfl rfl ?_
  refine wa_aload_nN 1 dJ4_init_2_1 rfl rfl ?_
  refine wa_aload_nN 2 dJ4_init_2_2 rfl rfl ?_
  refine wa_iload_n 3 dJ4_init_2_3 rfl rfl ?_
  refine wa_iload 4 dJ4_init_2_4 rfl ?_
  refine wc_isV (wr_I dJ4_init_2_6 mJ4_16 (sp_J3_X8 h) rfl rfl rfl (Nat.le_of_ble_eq_true rfl)) ?_
  refine wa_vret dJ4_init_2_9 rfl (Nat.le_of_ble_eq_true rfl) (Nat.le_of_ble_eq_true rfl) ?_
  exact ⟨rfl, rfl⟩
theorem sp_J3_X5 (h : M.get a = some (.inr (4, [v0, v1, v2, v3, v4, v5, v6]))) : w_S l G tJ3_init_2 (2, 0, 0) [.ref a, .null, .null, .int 0, .int 0] M (w_is (.inl none) (M.set a (.inr (4, [.null, .null, .null, .null, v4, v5, v6])))) := by
  refine w_startF (by decide +kernel) (Nat.le_of_ble_eq_true rfl) (fun X => ?_)
  refine wa_locals [(0, _), (1, _), (2, _), (3, _), (4, _)] [0, 1, 2, 3, 4] rfl ?_
  refine wa_aload_n 0 dJ3_init_2_0 rfl rfl ?_
  refine wa_objInit dJ3_init_2_1 q455 rfl (Nat.le_of_ble_eq_true rfl) ?_
  refine wa_aload_n 0 dJ3_init_2_4 rfl rfl ?_
  refine wa_aload_n 0 dJ3_init_2_5 rfl rfl ?_
  refine wa_putf [_, _, _, _, _, _, _] dJ3_init_2_6 pJ3_7_X5 (by assumption) (Nat.le_of_ble_eq_true rfl) rfl rfl rfl ?_
  refine wa_aload_n 0 dJ3_init_2_9 rfl rfl ?_
  refine wa_getU dJ3_init_2_10 q456 (fun pv => ?_)
  refine wa_putf [_, _, _, _, _, _, _] dJ3_init_2_13 pJ3_17_X5 (w_set_self h) (Nat.le_of_ble_eq_true rfl) (by cases pv <;> rfl) (by cases pv <;> rfl) rfl ?_
  refine wa_aload_n 0 dJ3_init_2_16 rfl rfl ?_
  refine wa_getS dJ3_init_2_17 q458 (fun pw => ?_)
  refine wa_putf [_, _, _, _, _, _, _] dJ3_init_2_20 pJ3_24_X5 (w_set_self (w_set_self h)) (Nat.le_of_ble_eq_true rfl) (by cases pw <;> rfl) (by cases pw <;> rfl) rfl ?_
  refine wa_iload 4 dJ3_init_2_23 rfl ?_
  refine wa_if_eq 36 dJ3_init_2_25 rfl (fun c25 => ?_) (fun c25 => absurd (by decide) c25)
  refine wa_aload_n 0 dJ3_init_2_36 rfl rfl ?_
  refine wa_null dJ3_init_2_37 ?_
  refine wa_putf [_, _, _, _, _, _, _] dJ3_init_2_38 pJ3_17_X5 (w_set_self (w_set_self (w_set_self h))) (Nat.le_of_ble_eq_true rfl) rfl rfl rfl ?_
  refine wa_aload_n 0 dJ3_init_2_41 rfl rfl ?_
  refine wa_aload_nN 1 dJ3_init_2_42 rfl rfl ?_
  refine wa_putf [_, _, _, _, _, _, _] dJ3_init_2_43 pJ3_31_X5 (w_set_self (w_set_self (w_set_self (w_set_self h)))) (Nat.le_of_ble_eq_true rfl) rfl rfl rfl ?_
  refine wa_aload_n 0 dJ3_init_2_46 rfl rfl ?_
  refine wa_aload_nN 2 dJ3_init_2_47 rfl rfl ?_
  refine wa_putf [_, _, _, _, _, _, _] dJ3_init_2_48 pJ3_7_X5 (w_set_self (w_set_self (w_set_self (w_set_self (w_set_self h))))) (Nat.le_of_ble_eq_true rfl) rfl rfl rfl ?_
  refine wa_iload_n 3 dJ3_init_2_51 rfl rfl ?_
  refine wa_if_ne 60 dJ3_init_2_52 rfl (fun c52 => absurd (by decide) c52) (fun c52 => ?_)
  refine wa_aload_n 0 dJ3_init_2_55 rfl rfl ?_
  refine wa_null dJ3_init_2_56 ?_
  refine wa_putf [_, _, _, _, _, _, _] dJ3_init_2_57 pJ3_24_X5 (w_set_self (w_set_self (w_set_self (w_set_self (w_set_self (w_set_self h)))))) (Nat.le_of_ble_eq_true rfl) rfl rfl rfl ?_
  refine wa_vret dJ3_init_2_60 rfl (Nat.le_of_ble_eq_true rfl) (Nat.le_of_ble_eq_true rfl) ?_
  exact ⟨rfl, by simp only [w_set_set]⟩
theorem sp_J4_X5 (h : M.get a = some (.inr (4, [v0, v1, v2, v3, v4, v5, v6]))) : w_S l G tJ4_init_2 (3, 0, 0) [.ref a, .null, .null, .int 0, .int 0] M (w_is (.inl none) (M.set a (.inr (4, [.null, .null, .null, .null, v4, v5, v6])))) := by
  refine w_start (by decide) (Nat.le_of_ble_eq_true rfl) (fun X => ?_)
  refine wa_locals [(0, _), (1, _), (2, _), (3, _), (4, _)] [0, 1, 2, 3, 4] rfl ?_
  refine wa_aload_n 0 dJ4_init_2_0 rfl rfl ?_
  refine wa_aload_nN 1 dJ4_init_2_1 rfl rfl ?_
  refine wa_aload_nN 2 dJ4_init_2_2 rfl rfl ?_
  refine wa_iload_n 3 dJ4_init_2_3 rfl rfl ?_
  refine wa_iload 4 dJ4_init_2_4 rfl ?_
  refine wc_isV (wr_I dJ4_init_2_6 mJ4_16 (sp_J3_X5 h) rfl rfl rfl (Nat.le_of_ble_eq_true rfl)) ?_
  refine wa_vret dJ4_init_2_9 rfl (Nat.le_of_ble_eq_true rfl) (Nat.le_of_ble_eq_true rfl) ?_
  exact ⟨rfl, rfl⟩
theorem sp_X8_init {rs dt : Int32} (h : M.get a = some (.inr (7, [v0, v1, v2, v3, v4, v5, v6, v7]))) : w_S l G tX8_init (4, 0, 0) [.ref a, .int rs, .int dt] M (w_is (.inl none) (M.set a (.inr (7, [.null, .null, .null, .null, v4, v5, .int rs, .int dt])))) := by
  refine w_start (by decide) (Nat.le_of_ble_eq_true rfl) (fun X => ?_)
  refine wa_locals [(0, _), (1, _), (2, _)] [0, 1, 2] rfl ?_
  refine wa_aload_n 0 dX8_init_0 rfl rfl ?_
  refine wa_null dX8_init_1 ?_
  refine wa_null dX8_init_2 ?_
  refine wa_iconst (0) dX8_init_3 (by decide) ?_
  refine wa_iconst (0) dX8_init_4 (by decide) ?_
  refine wc_isV (wr_I dX8_init_5 mX8_1 (sp_J4_X8 h) rfl rfl rfl (Nat.le_of_ble_eq_true rfl)) ?_
  refine wa_aload_n 0 dX8_init_8 rfl rfl ?_
  refine wa_iload_n 1 dX8_init_9 rfl rfl ?_
  refine wa_putF [_, _, _, _, _, _, _, _] dX8_init_10 rfl pX8_7 (w_set_self h) (Nat.le_of_ble_eq_true rfl) rfl rfl rfl ?_
  refine wa_aload_n 0 dX8_init_13 rfl rfl ?_
  refine wa_iload_n 2 dX8_init_14 rfl rfl ?_
  refine wa_putF [_, _, _, _, _, _, _, _] dX8_init_15 rfl pX8_13 (w_set_self (w_set_self h)) (Nat.le_of_ble_eq_true rfl) rfl rfl rfl ?_
  refine wa_vret dX8_init_18 rfl (Nat.le_of_ble_eq_true rfl) (Nat.le_of_ble_eq_true rfl) ?_
  exact ⟨rfl, by simp only [w_set_set]⟩
theorem sp_X5_init {ps : Int32} (h : M.get a = some (.inr (4, [v0, v1, v2, v3, v4, v5, v6]))) : w_S l G tX5_init (4, 0, 0) [.ref a, .int ps] M (w_is (.inl none) (M.set a (.inr (4, [.null, .null, .null, .null, v4, v5, .int ps])))) := by
  refine w_start (by decide) (Nat.le_of_ble_eq_true rfl) (fun X => ?_)
  refine wa_locals [(0, _), (1, _)] [0, 1] rfl ?_
  refine wa_aload_n 0 dX5_init_0 rfl rfl ?_
  refine wa_null dX5_init_1 ?_
  refine wa_null dX5_init_2 ?_
  refine wa_iconst (0) dX5_init_3 (by decide) ?_
  refine wa_iconst (0) dX5_init_4 (by decide) ?_
  refine wc_isV (wr_I dX5_init_5 mX5_1 (sp_J4_X5 h) rfl rfl rfl (Nat.le_of_ble_eq_true rfl)) ?_
  refine wa_aload_n 0 dX5_init_8 rfl rfl ?_
  refine wa_iload_n 1 dX5_init_9 rfl rfl ?_
  refine wa_putF [_, _, _, _, _, _, _] dX5_init_10 rfl pX5_7 (w_set_self h) (Nat.le_of_ble_eq_true rfl) rfl rfl rfl ?_
  refine wa_vret dX5_init_13 rfl (Nat.le_of_ble_eq_true rfl) (Nat.le_of_ble_eq_true rfl) ?_
  exact ⟨rfl, by simp only [w_set_set]⟩
/-- refuse: it goes on, or throws with the reason and the detail -/
theorem sp_refuse3N {rs dt : Int32} : w_S l G tX1_refuse_2 (5, 0, 0) [.int 0, .int rs, .int dt] M (w_is (.inl none) M) := by
  refine w_start (by decide) (Nat.le_of_ble_eq_true rfl) (fun X => ?_)
  refine wa_locals [(0, _), (1, _), (2, _)] [0, 1, 2] rfl ?_
  refine wa_iload_n 0 dX1_refuse_2_0 rfl rfl ?_
  refine wa_if_eq 14 dX1_refuse_2_1 rfl (fun c1 => ?_) (fun c1 => absurd (by decide) c1)
  refine wa_vret dX1_refuse_2_14 rfl (Nat.le_of_ble_eq_true rfl) (Nat.le_of_ble_eq_true rfl) ?_
  exact ⟨rfl, rfl⟩
theorem sp_refuse3T {rs dt : Int32} : w_S l G tX1_refuse_2 (5, 1, 8) [.int 1, .int rs, .int dt] M (w_is (.inr ("RobotAisles$RefusedException", M.sz)) (M.push (.inr (7, [.null, .null, .null, .null, .null, .int 0, .int rs, .int dt])))) := by
  refine w_start (by decide) (Nat.le_of_ble_eq_true rfl) (fun X => ?_)
  refine wa_locals [(0, _), (1, _), (2, _)] [0, 1, 2] rfl ?_
  refine wa_iload_n 0 dX1_refuse_2_0 rfl rfl ?_
  refine wa_if_eq 14 dX1_refuse_2_1 rfl (fun c1 => absurd c1 (by decide)) (fun c1 => ?_)
  refine wa_new dX1_refuse_2_4 nX1_48 (Nat.le_of_ble_eq_true rfl) (Nat.le_of_ble_eq_true rfl) ?_
  refine wa_dup dX1_refuse_2_7 rfl ?_
  refine wa_iload_n 1 dX1_refuse_2_8 rfl rfl ?_
  refine wa_iload_n 2 dX1_refuse_2_9 rfl rfl ?_
  refine wc_isV (wr_I dX1_refuse_2_10 mX1_50 (sp_X8_init w_push_self) rfl rfl rfl (Nat.le_of_ble_eq_true rfl)) ?_
  rw [w_push_set]
  refine wa_athrow dX1_refuse_2_13 w_push_self rfl ?_
  exact wx_out (fun _ h => by cases h) (Nat.le_of_ble_eq_true rfl) (Nat.le_of_ble_eq_true rfl) ⟨rfl, rfl⟩
theorem sp_refuse2N {rs : Int32} : w_S l G tX1_refuse (6, 0, 0) [.int 0, .int rs] M (w_is (.inl none) M) := by
  refine w_start (by decide) (Nat.le_of_ble_eq_true rfl) (fun X => ?_)
  refine wa_locals [(0, _), (1, _)] [0, 1] rfl ?_
  refine wa_iload_n 0 dX1_refuse_0 rfl rfl ?_
  refine wa_iload_n 1 dX1_refuse_1 rfl rfl ?_
  refine wa_iconst (0) dX1_refuse_2 (by decide) ?_
  refine wc_isV (wr_S dX1_refuse_3 mX1_53 sp_refuse3N rfl rfl rfl (Nat.le_of_ble_eq_true rfl)) ?_
  refine wa_vret dX1_refuse_6 rfl (Nat.le_of_ble_eq_true rfl) (Nat.le_of_ble_eq_true rfl) ?_
  exact ⟨rfl, rfl⟩
theorem sp_refuse2T {rs : Int32} : w_S l G tX1_refuse (6, 1, 8) [.int 1, .int rs] M (w_is (.inr ("RobotAisles$RefusedException", M.sz)) (M.push (.inr (7, [.null, .null, .null, .null, .null, .int 0, .int rs, .int 0])))) := by
  refine w_start (by decide) (Nat.le_of_ble_eq_true rfl) (fun X => ?_)
  refine wa_locals [(0, _), (1, _)] [0, 1] rfl ?_
  refine wa_iload_n 0 dX1_refuse_0 rfl rfl ?_
  refine wa_iload_n 1 dX1_refuse_1 rfl rfl ?_
  refine wa_iconst (0) dX1_refuse_2 (by decide) ?_
  refine wc_isx (wr_S dX1_refuse_3 mX1_53 sp_refuse3T rfl rfl rfl (Nat.le_of_ble_eq_true rfl)) ?_
  exact wx_out (fun _ h => by cases h) (Nat.le_of_ble_eq_true rfl) (Nat.le_of_ble_eq_true rfl) ⟨rfl, rfl⟩
end OR
