/-! ===== the Model's accounts, text, undo and snapshot ===== -/
set_option maxRecDepth 100000
section MX
variable {b : Nat} {M N : w_M} {m : Nat} {S : z_S} {th : Int32} {l : Launch} {G : w_G} {c : z_C} {f : Nat → Int32}
theorem sp_moverRobots_steps (H : z_mh M m f) (hr : z_mr c f) (hs : z_small c) : w_S l G tX3_overRobots (4, 0, 0) [.ref m, .int 5] M (w_is (.inl (some (.int (z_sum z_steps (z_robs c) 0)))) M) := by
  have hsz := hs.size
  have hR6 : (z_robs c).length ≤ 6 := hs.2.2.2.2.1
  have hO10 : (z_ords c).length ≤ 10 := hs.2.2.2.2.2.1
  obtain ⟨fs, hm, hf⟩ := id H
  refine w_start (by decide) (Nat.le_of_ble_eq_true rfl) (fun X => ?_)
  refine wa_locals [(0, _), (1, _)] [0, 1] rfl ?_
  have LP : ∀ (n k : Nat) (v : Int32), k + n = (z_robs c).length → z_sum z_steps ((z_robs c).drop k) v = z_sum z_steps (z_robs c) 0 → w_A l G tX3_overRobots (4, 0, 0) X 0 0 M 4 [(3, .int (nI k)), (2, .int v), (0, .ref m), (1, .int 5)] [] (w_is (.inl (some (.int (z_sum z_steps (z_robs c) 0)))) M) := by
    intro n
    induction n with
    | zero =>
      intro k v hn e
      rw [z_sum_end (by omega)] at e
      refine wa_iload_n 0 dX3_overRobots_4 rfl rfl ?_
      refine wa_aload_n 2 dX3_overRobots_5 rfl rfl ?_
      refine wa_getf dX3_overRobots_6 gX3_9 hm rfl ?_
      refine wa_iconst (3) dX3_overRobots_9 (by decide) ?_
      refine wa_iald dX3_overRobots_10 hf (vp_in_nI (n := 3) (by omega) (by omega)) ?_
      rw [hr.rn]
      refine wa_icmp_ge 29 dX3_overRobots_11 rfl (fun c11 => ?_) (fun c11 => absurd (nI_le (by omega) (by omega)) c11)
      refine wa_iload_n 1 dX3_overRobots_29 rfl rfl ?_
      refine wa_iret FieldType.int dX3_overRobots_30 rfl rfl (Nat.le_of_ble_eq_true rfl) (Nat.le_of_ble_eq_true rfl) ?_
      exact ⟨by rw [e], rfl⟩
    | succ n ih =>
      intro k v hn e
      obtain ⟨y, hy⟩ : ∃ y, (z_robs c)[k]? = some y := ⟨_, List.getElem?_eq_getElem (by omega)⟩
      have hk6 : k < 6 := by omega
      rw [z_sum_at hy] at e
      obtain ⟨q1, q2, q3, q4, q5, q6, q7⟩ := hr.rob hy
      refine wa_iload_n 0 dX3_overRobots_4 rfl rfl ?_
      refine wa_aload_n 2 dX3_overRobots_5 rfl rfl ?_
      refine wa_getf dX3_overRobots_6 gX3_9 hm rfl ?_
      refine wa_iconst (3) dX3_overRobots_9 (by decide) ?_
      refine wa_iald dX3_overRobots_10 hf (vp_in_nI (n := 3) (by omega) (by omega)) ?_
      rw [hr.rn]
      refine wa_icmp_ge 29 dX3_overRobots_11 rfl (fun c11 => absurd c11 (nI_lt_not (by omega) (by omega))) (fun c11 => ?_)
      refine wa_iload_n 1 dX3_overRobots_14 rfl rfl ?_
      refine wa_aload_n 2 dX3_overRobots_15 rfl rfl ?_
      refine wa_iload_n 0 dX3_overRobots_16 rfl rfl ?_
      refine wa_iload_n 3 dX3_overRobots_17 rfl rfl ?_
      refine wc_isI (wr_V dX3_overRobots_18 mX3_79 (sp_mof H hk6 (w := 5) (by decide)) hm rfl rfl rfl (Nat.le_of_ble_eq_true rfl)) ?_
      rw [q6]
      refine wa_iadd dX3_overRobots_21 ?_
      refine wa_istore_n [(2, _), (3, _), (0, _), (1, _)] dX3_overRobots_22 rfl (Nat.le_of_ble_eq_true rfl) rfl ?_
      refine wa_iinc 1 [(3, _), (2, _), (0, _), (1, _)] dX3_overRobots_23 rfl (w_inc k) (Nat.le_of_ble_eq_true rfl) rfl ?_
      refine wa_goto 4 dX3_overRobots_26 rfl ?_
      refine wa_locals [(3, _), (2, _), (0, _), (1, _)] [0, 1, 2, 3] rfl ?_
      exact ih (k + 1) _ (by omega) e
  refine wa_iconst (0) dX3_overRobots_0 (by decide) ?_
  refine wa_istore_n [(2, _), (0, _), (1, _)] dX3_overRobots_1 rfl (Nat.le_of_ble_eq_true rfl) rfl ?_
  refine wa_iconst (0) dX3_overRobots_2 (by decide) ?_
  refine wa_istore_n [(3, _), (2, _), (0, _), (1, _)] dX3_overRobots_3 rfl (Nat.le_of_ble_eq_true rfl) rfl ?_
  refine wa_locals [(3, _), (2, _), (0, _), (1, _)] [0, 1, 2, 3] rfl ?_
  exact LP _ 0 0 (Nat.zero_add _) rfl
theorem sp_moverRobots_batt (H : z_mh M m f) (hr : z_mr c f) (hs : z_small c) : w_S l G tX3_overRobots (4, 0, 0) [.ref m, .int 1] M (w_is (.inl (some (.int (z_sum z_batt (z_robs c) 0)))) M) := by
  have hsz := hs.size
  have hR6 : (z_robs c).length ≤ 6 := hs.2.2.2.2.1
  have hO10 : (z_ords c).length ≤ 10 := hs.2.2.2.2.2.1
  obtain ⟨fs, hm, hf⟩ := id H
  refine w_start (by decide) (Nat.le_of_ble_eq_true rfl) (fun X => ?_)
  refine wa_locals [(0, _), (1, _)] [0, 1] rfl ?_
  have LP : ∀ (n k : Nat) (v : Int32), k + n = (z_robs c).length → z_sum z_batt ((z_robs c).drop k) v = z_sum z_batt (z_robs c) 0 → w_A l G tX3_overRobots (4, 0, 0) X 0 0 M 4 [(3, .int (nI k)), (2, .int v), (0, .ref m), (1, .int 1)] [] (w_is (.inl (some (.int (z_sum z_batt (z_robs c) 0)))) M) := by
    intro n
    induction n with
    | zero =>
      intro k v hn e
      rw [z_sum_end (by omega)] at e
      refine wa_iload_n 0 dX3_overRobots_4 rfl rfl ?_
      refine wa_aload_n 2 dX3_overRobots_5 rfl rfl ?_
      refine wa_getf dX3_overRobots_6 gX3_9 hm rfl ?_
      refine wa_iconst (3) dX3_overRobots_9 (by decide) ?_
      refine wa_iald dX3_overRobots_10 hf (vp_in_nI (n := 3) (by omega) (by omega)) ?_
      rw [hr.rn]
      refine wa_icmp_ge 29 dX3_overRobots_11 rfl (fun c11 => ?_) (fun c11 => absurd (nI_le (by omega) (by omega)) c11)
      refine wa_iload_n 1 dX3_overRobots_29 rfl rfl ?_
      refine wa_iret FieldType.int dX3_overRobots_30 rfl rfl (Nat.le_of_ble_eq_true rfl) (Nat.le_of_ble_eq_true rfl) ?_
      exact ⟨by rw [e], rfl⟩
    | succ n ih =>
      intro k v hn e
      obtain ⟨y, hy⟩ : ∃ y, (z_robs c)[k]? = some y := ⟨_, List.getElem?_eq_getElem (by omega)⟩
      have hk6 : k < 6 := by omega
      rw [z_sum_at hy] at e
      obtain ⟨q1, q2, q3, q4, q5, q6, q7⟩ := hr.rob hy
      refine wa_iload_n 0 dX3_overRobots_4 rfl rfl ?_
      refine wa_aload_n 2 dX3_overRobots_5 rfl rfl ?_
      refine wa_getf dX3_overRobots_6 gX3_9 hm rfl ?_
      refine wa_iconst (3) dX3_overRobots_9 (by decide) ?_
      refine wa_iald dX3_overRobots_10 hf (vp_in_nI (n := 3) (by omega) (by omega)) ?_
      rw [hr.rn]
      refine wa_icmp_ge 29 dX3_overRobots_11 rfl (fun c11 => absurd c11 (nI_lt_not (by omega) (by omega))) (fun c11 => ?_)
      refine wa_iload_n 1 dX3_overRobots_14 rfl rfl ?_
      refine wa_aload_n 2 dX3_overRobots_15 rfl rfl ?_
      refine wa_iload_n 0 dX3_overRobots_16 rfl rfl ?_
      refine wa_iload_n 3 dX3_overRobots_17 rfl rfl ?_
      refine wc_isI (wr_V dX3_overRobots_18 mX3_79 (sp_mof H hk6 (w := 1) (by decide)) hm rfl rfl rfl (Nat.le_of_ble_eq_true rfl)) ?_
      rw [q2]
      refine wa_iadd dX3_overRobots_21 ?_
      refine wa_istore_n [(2, _), (3, _), (0, _), (1, _)] dX3_overRobots_22 rfl (Nat.le_of_ble_eq_true rfl) rfl ?_
      refine wa_iinc 1 [(3, _), (2, _), (0, _), (1, _)] dX3_overRobots_23 rfl (w_inc k) (Nat.le_of_ble_eq_true rfl) rfl ?_
      refine wa_goto 4 dX3_overRobots_26 rfl ?_
      refine wa_locals [(3, _), (2, _), (0, _), (1, _)] [0, 1, 2, 3] rfl ?_
      exact ih (k + 1) _ (by omega) e
  refine wa_iconst (0) dX3_overRobots_0 (by decide) ?_
  refine wa_istore_n [(2, _), (0, _), (1, _)] dX3_overRobots_1 rfl (Nat.le_of_ble_eq_true rfl) rfl ?_
  refine wa_iconst (0) dX3_overRobots_2 (by decide) ?_
  refine wa_istore_n [(3, _), (2, _), (0, _), (1, _)] dX3_overRobots_3 rfl (Nat.le_of_ble_eq_true rfl) rfl ?_
  refine wa_locals [(3, _), (2, _), (0, _), (1, _)] [0, 1, 2, 3] rfl ?_
  exact LP _ 0 0 (Nat.zero_add _) rfl
theorem sp_moverOrders_picked (H : z_mh M m f) (hr : z_mr c f) (hs : z_small c) : w_S l G tX3_overOrders (4, 0, 0) [.ref m, .int (-1)] M (w_is (.inl (some (.int (z_sum (fun o => nI (z_picked o)) (z_ords c) 0)))) M) := by
  have hsz := hs.size
  have hR6 : (z_robs c).length ≤ 6 := hs.2.2.2.2.1
  have hO10 : (z_ords c).length ≤ 10 := hs.2.2.2.2.2.1
  obtain ⟨fs, hm, hf⟩ := id H
  refine w_start (by decide) (Nat.le_of_ble_eq_true rfl) (fun X => ?_)
  refine wa_locals [(0, _), (1, _)] [0, 1] rfl ?_
  have LP : ∀ (n k : Nat) (v : Int32), k + n = (z_ords c).length → z_sum (fun o => nI (z_picked o)) ((z_ords c).drop k) v = z_sum (fun o => nI (z_picked o)) (z_ords c) 0 → w_A l G tX3_overOrders (4, 0, 0) X 0 0 M 4 [(3, .int (nI k)), (2, .int v), (0, .ref m), (1, .int (-1))] [] (w_is (.inl (some (.int (z_sum (fun o => nI (z_picked o)) (z_ords c) 0)))) M) := by
    intro n
    induction n with
    | zero =>
      intro k v hn e
      rw [z_sum_end (by omega)] at e
      refine wa_iload_n 0 dX3_overOrders_4 rfl rfl ?_
      refine wa_aload_n 2 dX3_overOrders_5 rfl rfl ?_
      refine wa_getf dX3_overOrders_6 gX3_9 hm rfl ?_
      refine wa_iconst (4) dX3_overOrders_9 (by decide) ?_
      refine wa_iald dX3_overOrders_10 hf (vp_in_nI (n := 4) (by omega) (by omega)) ?_
      rw [hr.on]
      refine wa_icmp_ge 50 dX3_overOrders_11 rfl (fun c11 => ?_) (fun c11 => absurd (nI_le (by omega) (by omega)) c11)
      refine wa_iload_n 1 dX3_overOrders_50 rfl rfl ?_
      refine wa_iret FieldType.int dX3_overOrders_51 rfl rfl (Nat.le_of_ble_eq_true rfl) (Nat.le_of_ble_eq_true rfl) ?_
      exact ⟨by rw [e], rfl⟩
    | succ n ih =>
      intro k v hn e
      obtain ⟨y, hy⟩ : ∃ y, (z_ords c)[k]? = some y := ⟨_, List.getElem?_eq_getElem (by omega)⟩
      have hk6 : k < 10 := by omega
      rw [z_sum_at hy] at e
      obtain ⟨q1, q2, q3, q4, q5, q6⟩ := hr.ord hy
      refine wa_iload_n 0 dX3_overOrders_4 rfl rfl ?_
      refine wa_aload_n 2 dX3_overOrders_5 rfl rfl ?_
      refine wa_getf dX3_overOrders_6 gX3_9 hm rfl ?_
      refine wa_iconst (4) dX3_overOrders_9 (by decide) ?_
      refine wa_iald dX3_overOrders_10 hf (vp_in_nI (n := 4) (by omega) (by omega)) ?_
      rw [hr.on]
      refine wa_icmp_ge 50 dX3_overOrders_11 rfl (fun c11 => absurd c11 (nI_lt_not (by omega) (by omega))) (fun c11 => ?_)
      refine wa_iload_n 1 dX3_overOrders_14 rfl rfl ?_
      refine wa_iload_n 3 dX3_overOrders_15 rfl rfl ?_
      refine wa_if_ge 28 dX3_overOrders_16 rfl (fun c16 => absurd c16 (by decide)) (fun c16 => ?_)
      refine wa_aload_n 2 dX3_overOrders_19 rfl rfl ?_
      refine wa_iload_n 0 dX3_overOrders_20 rfl rfl ?_
      refine wa_iconst (2) dX3_overOrders_21 (by decide) ?_
      refine wc_isI (wr_V dX3_overOrders_22 mX3_109 (sp_mget H hk6 (w := 2) (by decide)) hm rfl rfl rfl (Nat.le_of_ble_eq_true rfl)) ?_
      rw [q3]
      refine wa_goto 42 dX3_overOrders_25 rfl ?_
      refine wa_iadd dX3_overOrders_42 ?_
      refine wa_istore_n [(2, _), (3, _), (0, _), (1, _)] dX3_overOrders_43 rfl (Nat.le_of_ble_eq_true rfl) rfl ?_
      refine wa_iinc 1 [(3, _), (2, _), (0, _), (1, _)] dX3_overOrders_44 rfl (w_inc k) (Nat.le_of_ble_eq_true rfl) rfl ?_
      refine wa_goto 4 dX3_overOrders_47 rfl ?_
      refine wa_locals [(3, _), (2, _), (0, _), (1, _)] [0, 1, 2, 3] rfl ?_
      exact ih (k + 1) _ (by omega) e
  refine wa_iconst (0) dX3_overOrders_0 (by decide) ?_
  refine wa_istore_n [(2, _), (0, _), (1, _)] dX3_overOrders_1 rfl (Nat.le_of_ble_eq_true rfl) rfl ?_
  refine wa_iconst (0) dX3_overOrders_2 (by decide) ?_
  refine wa_istore_n [(3, _), (2, _), (0, _), (1, _)] dX3_overOrders_3 rfl (Nat.le_of_ble_eq_true rfl) rfl ?_
  refine wa_locals [(3, _), (2, _), (0, _), (1, _)] [0, 1, 2, 3] rfl ?_
  exact LP _ 0 0 (Nat.zero_add _) rfl
theorem sp_moverOrders_st (H : z_mh M m f) (hr : z_mr c f) (hs : z_small c) (hh : z_held c) {st : Int32} (hst : 0 ≤ st) : w_S l G tX3_overOrders (4, 0, 0) [.ref m, .int st] M (w_is (.inl (some (.int (z_sum (fun o => if nI (z_state o) = st then 1 else 0) (z_ords c) 0)))) M) := by
  have hsz := hs.size
  have hR6 : (z_robs c).length ≤ 6 := hs.2.2.2.2.1
  have hO10 : (z_ords c).length ≤ 10 := hs.2.2.2.2.2.1
  obtain ⟨fs, hm, hf⟩ := id H
  refine w_start (by decide) (Nat.le_of_ble_eq_true rfl) (fun X => ?_)
  refine wa_locals [(0, _), (1, _)] [0, 1] rfl ?_
  have LP : ∀ (n k : Nat) (v : Int32), k + n = (z_ords c).length → z_sum (fun o => if nI (z_state o) = st then 1 else 0) ((z_ords c).drop k) v = z_sum (fun o => if nI (z_state o) = st then 1 else 0) (z_ords c) 0 → w_A l G tX3_overOrders (4, 0, 0) X 0 0 M 4 [(3, .int (nI k)), (2, .int v), (0, .ref m), (1, .int st)] [] (w_is (.inl (some (.int (z_sum (fun o => if nI (z_state o) = st then 1 else 0) (z_ords c) 0)))) M) := by
    intro n
    induction n with
    | zero =>
      intro k v hn e
      rw [z_sum_end (by omega)] at e
      refine wa_iload_n 0 dX3_overOrders_4 rfl rfl ?_
      refine wa_aload_n 2 dX3_overOrders_5 rfl rfl ?_
      refine wa_getf dX3_overOrders_6 gX3_9 hm rfl ?_
      refine wa_iconst (4) dX3_overOrders_9 (by decide) ?_
      refine wa_iald dX3_overOrders_10 hf (vp_in_nI (n := 4) (by omega) (by omega)) ?_
      rw [hr.on]
      refine wa_icmp_ge 50 dX3_overOrders_11 rfl (fun c11 => ?_) (fun c11 => absurd (nI_le (by omega) (by omega)) c11)
      refine wa_iload_n 1 dX3_overOrders_50 rfl rfl ?_
      refine wa_iret FieldType.int dX3_overOrders_51 rfl rfl (Nat.le_of_ble_eq_true rfl) (Nat.le_of_ble_eq_true rfl) ?_
      exact ⟨by rw [e], rfl⟩
    | succ n ih =>
      intro k v hn e
      obtain ⟨y, hy⟩ : ∃ y, (z_ords c)[k]? = some y := ⟨_, List.getElem?_eq_getElem (by omega)⟩
      have hk6 : k < 10 := by omega
      rw [z_sum_at hy] at e

      refine wa_iload_n 0 dX3_overOrders_4 rfl rfl ?_
      refine wa_aload_n 2 dX3_overOrders_5 rfl rfl ?_
      refine wa_getf dX3_overOrders_6 gX3_9 hm rfl ?_
      refine wa_iconst (4) dX3_overOrders_9 (by decide) ?_
      refine wa_iald dX3_overOrders_10 hf (vp_in_nI (n := 4) (by omega) (by omega)) ?_
      rw [hr.on]
      refine wa_icmp_ge 50 dX3_overOrders_11 rfl (fun c11 => absurd c11 (nI_lt_not (by omega) (by omega))) (fun c11 => ?_)
      refine wa_iload_n 1 dX3_overOrders_14 rfl rfl ?_
      refine wa_iload_n 3 dX3_overOrders_15 rfl rfl ?_
      refine wa_if_ge 28 dX3_overOrders_16 rfl (fun c16 => ?_) (fun c16 => absurd hst c16)
      refine wa_aload_n 2 dX3_overOrders_28 rfl rfl ?_
      refine wa_iload_n 0 dX3_overOrders_29 rfl rfl ?_
      refine wc_isI (wr_V dX3_overOrders_30 mX3_115 (sp_mstateOf H hr hs hh hy) hm rfl rfl rfl (Nat.le_of_ble_eq_true rfl)) ?_
      refine wa_iload_n 3 dX3_overOrders_33 rfl rfl ?_
      refine wa_icmp_ne 41 dX3_overOrders_34 rfl (fun c34 => ?_) (fun c34 => ?_)
      ·
        refine wa_iconst (0) dX3_overOrders_41 (by decide) ?_
        refine wa_iadd dX3_overOrders_42 ?_
        refine wa_istore_n [(2, _), (3, _), (0, _), (1, _)] dX3_overOrders_43 rfl (Nat.le_of_ble_eq_true rfl) rfl ?_
        refine wa_iinc 1 [(3, _), (2, _), (0, _), (1, _)] dX3_overOrders_44 rfl (w_inc k) (Nat.le_of_ble_eq_true rfl) rfl ?_
        refine wa_goto 4 dX3_overOrders_47 rfl ?_
        refine wa_locals [(3, _), (2, _), (0, _), (1, _)] [0, 1, 2, 3] rfl ?_
        exact ih (k + 1) _ (by omega) (by rw [← e]; congr 2; exact (if_neg c34).symm)
      ·
        refine wa_iconst (1) dX3_overOrders_37 (by decide) ?_
        refine wa_goto 42 dX3_overOrders_38 rfl ?_
        refine wa_iadd dX3_overOrders_42 ?_
        refine wa_istore_n [(2, _), (3, _), (0, _), (1, _)] dX3_overOrders_43 rfl (Nat.le_of_ble_eq_true rfl) rfl ?_
        refine wa_iinc 1 [(3, _), (2, _), (0, _), (1, _)] dX3_overOrders_44 rfl (w_inc k) (Nat.le_of_ble_eq_true rfl) rfl ?_
        refine wa_goto 4 dX3_overOrders_47 rfl ?_
        refine wa_locals [(3, _), (2, _), (0, _), (1, _)] [0, 1, 2, 3] rfl ?_
        exact ih (k + 1) _ (by omega) (by rw [← e]; congr 2; exact (if_pos c34).symm)
  refine wa_iconst (0) dX3_overOrders_0 (by decide) ?_
  refine wa_istore_n [(2, _), (0, _), (1, _)] dX3_overOrders_1 rfl (Nat.le_of_ble_eq_true rfl) rfl ?_
  refine wa_iconst (0) dX3_overOrders_2 (by decide) ?_
  refine wa_istore_n [(3, _), (2, _), (0, _), (1, _)] dX3_overOrders_3 rfl (Nat.le_of_ble_eq_true rfl) rfl ?_
  refine wa_locals [(3, _), (2, _), (0, _), (1, _)] [0, 1, 2, 3] rfl ?_
  exact LP _ 0 0 (Nat.zero_add _) rfl
theorem sp_maccount (h : z_mod b M m S th) {x : Int32} : w_S l G tX3_account (6, 0, 0) [.ref m, .int x] M (z_mA b M m S (z_acctA S x)) := by
  obtain ⟨is, rr, rc, f, sv, pf, ip, h⟩ := h
  obtain ⟨hm, hf, -⟩ := id h
  have H := h.mh
  have hr := h.mr
  have hg := h.gd
  have hs := hg.1
  have hh := hg.2.2.2.2.2.2.2
  have hsz := hs.size
  have hR6 : (z_robs (z_cur S)).length ≤ 6 := hs.2.2.2.2.1
  have hO10 : (z_ords (z_cur S)).length ≤ 10 := hs.2.2.2.2.2.1
  have hp := z_shutN_cnt hg.2.2.2.2.2.2.1 (by omega)
  unfold z_acctA
  cases hx : z_idx x 17 with
  | none =>
    have hxn : ¬ ((0 : Int32) ≤ x ∧ x ≤ 16) := (z_idx_none (n := 17) (by decide)).mp hx
    refine w_start (by decide) (Nat.le_of_ble_eq_true rfl) (fun X => ?_)
    refine wa_locals [(0, _), (1, _)] [0, 1] rfl ?_
    refine wa_aload_n 0 dX3_account_0 rfl rfl ?_
    refine wa_iload_n 1 dX3_account_1 rfl rfl ?_
    refine wa_iconst (0) dX3_account_2 (by decide) ?_
    refine wa_bipush (16) dX3_account_3 (by decide) ?_
    refine wc_isI (wr_S dX3_account_5 mX3_71 (sp_mminZ hxn) rfl rfl rfl (Nat.le_of_ble_eq_true rfl)) ?_
    refine wa_if_eq 15 dX3_account_8 rfl (fun c8 => ?_) (fun c8 => absurd (by decide) c8)
    refine wa_iconst (1) dX3_account_15 (by decide) ?_
    refine wa_putf [_, _, _, _, _, _, _, _, _, _, _, _, _, _, _, _, _, _, _, _] dX3_account_16 pX3_49 hm (Nat.le_of_ble_eq_true rfl) rfl rfl rfl ?_
    refine wa_aload_n 0 dX3_account_19 rfl rfl ?_
    refine wa_getf dX3_account_20 gX3_49 (w_set_self hm) rfl ?_
    refine wa_if_le 28 dX3_account_23 rfl (fun c23 => absurd c23 (by decide)) (fun c23 => ?_)
    refine wa_iconst (0) dX3_account_26 (by decide) ?_
    refine wa_iret FieldType.int dX3_account_27 rfl rfl (Nat.le_of_ble_eq_true rfl) (Nat.le_of_ble_eq_true rfl) ?_
    exact ⟨_, rfl, (w_fr.rf.set z_mEm), (h.thr 1).md⟩
  | some k =>
    obtain ⟨hkn, hxe⟩ := (z_idx_some (n := 17) (by decide)).mp hx
    subst hxe
    have h0 := h.thr 0
    have H0 := h0.mh
    match k, hkn with
    | 0, _ =>
      have hy : (0 : Int32) ≤ 0 ∧ (0 : Int32) ≤ 16 := by decide
      refine w_start (by decide) (Nat.le_of_ble_eq_true rfl) (fun X => ?_)
      refine wa_locals [(0, _), (1, _)] [0, 1] rfl ?_
      refine wa_aload_n 0 dX3_account_0 rfl rfl ?_
      refine wa_iload_n 1 dX3_account_1 rfl rfl ?_
      refine wa_iconst (0) dX3_account_2 (by decide) ?_
      refine wa_bipush (16) dX3_account_3 (by decide) ?_
      refine wc_isI (wr_S dX3_account_5 mX3_71 (sp_mminY hy) rfl rfl rfl (Nat.le_of_ble_eq_true rfl)) ?_
      refine wa_if_eq 15 dX3_account_8 rfl (fun c8 => absurd c8 (by decide)) (fun c8 => ?_)
      refine wa_iconst (0) dX3_account_11 (by decide) ?_
      refine wa_goto 16 dX3_account_12 rfl ?_
      refine wa_putf [_, _, _, _, _, _, _, _, _, _, _, _, _, _, _, _, _, _, _, _] dX3_account_16 pX3_49 hm (Nat.le_of_ble_eq_true rfl) rfl rfl rfl ?_
      refine wa_aload_n 0 dX3_account_19 rfl rfl ?_
      refine wa_getf dX3_account_20 gX3_49 (w_set_self hm) rfl ?_
      refine wa_if_le 28 dX3_account_23 rfl (fun c23 => ?_) (fun c23 => absurd (by decide) c23)
      refine wa_iload_n 1 dX3_account_28 rfl rfl ?_
      refine wa_tableIn 100 dX3_account_29 (by decide) (by decide) rfl rfl ?_
      refine wa_aload_n 0 dX3_account_100 rfl rfl ?_
      refine wa_getf dX3_account_101 gX3_9 h0.1 rfl ?_
      refine wa_iconst (0) dX3_account_104 (by decide) ?_
      refine wa_iald dX3_account_105 h0.2.1 (vp_in_nI (n := 0) (by omega) (by omega)) ?_
      refine wa_iret FieldType.int dX3_account_106 rfl rfl (Nat.le_of_ble_eq_true rfl) (Nat.le_of_ble_eq_true rfl) ?_
      exact ⟨_, rfl, (w_fr.rf.set z_mEm), hr.rows, h0.md⟩
    | 1, _ =>
      have hy : (0 : Int32) ≤ 1 ∧ (1 : Int32) ≤ 16 := by decide
      refine w_start (by decide) (Nat.le_of_ble_eq_true rfl) (fun X => ?_)
      refine wa_locals [(0, _), (1, _)] [0, 1] rfl ?_
      refine wa_aload_n 0 dX3_account_0 rfl rfl ?_
      refine wa_iload_n 1 dX3_account_1 rfl rfl ?_
      refine wa_iconst (0) dX3_account_2 (by decide) ?_
      refine wa_bipush (16) dX3_account_3 (by decide) ?_
      refine wc_isI (wr_S dX3_account_5 mX3_71 (sp_mminY hy) rfl rfl rfl (Nat.le_of_ble_eq_true rfl)) ?_
      refine wa_if_eq 15 dX3_account_8 rfl (fun c8 => absurd c8 (by decide)) (fun c8 => ?_)
      refine wa_iconst (0) dX3_account_11 (by decide) ?_
      refine wa_goto 16 dX3_account_12 rfl ?_
      refine wa_putf [_, _, _, _, _, _, _, _, _, _, _, _, _, _, _, _, _, _, _, _] dX3_account_16 pX3_49 hm (Nat.le_of_ble_eq_true rfl) rfl rfl rfl ?_
      refine wa_aload_n 0 dX3_account_19 rfl rfl ?_
      refine wa_getf dX3_account_20 gX3_49 (w_set_self hm) rfl ?_
      refine wa_if_le 28 dX3_account_23 rfl (fun c23 => ?_) (fun c23 => absurd (by decide) c23)
      refine wa_iload_n 1 dX3_account_28 rfl rfl ?_
      refine wa_tableIn 107 dX3_account_29 (by decide) (by decide) rfl rfl ?_
      refine wa_aload_n 0 dX3_account_107 rfl rfl ?_
      refine wa_getf dX3_account_108 gX3_9 h0.1 rfl ?_
      refine wa_iconst (1) dX3_account_111 (by decide) ?_
      refine wa_iald dX3_account_112 h0.2.1 (vp_in_nI (n := 1) (by omega) (by omega)) ?_
      refine wa_iret FieldType.int dX3_account_113 rfl rfl (Nat.le_of_ble_eq_true rfl) (Nat.le_of_ble_eq_true rfl) ?_
      exact ⟨_, rfl, (w_fr.rf.set z_mEm), hr.cols, h0.md⟩
    | 2, _ =>
      have hy : (0 : Int32) ≤ 2 ∧ (2 : Int32) ≤ 16 := by decide
      refine w_start (by decide) (Nat.le_of_ble_eq_true rfl) (fun X => ?_)
      refine wa_locals [(0, _), (1, _)] [0, 1] rfl ?_
      refine wa_aload_n 0 dX3_account_0 rfl rfl ?_
      refine wa_iload_n 1 dX3_account_1 rfl rfl ?_
      refine wa_iconst (0) dX3_account_2 (by decide) ?_
      refine wa_bipush (16) dX3_account_3 (by decide) ?_
      refine wc_isI (wr_S dX3_account_5 mX3_71 (sp_mminY hy) rfl rfl rfl (Nat.le_of_ble_eq_true rfl)) ?_
      refine wa_if_eq 15 dX3_account_8 rfl (fun c8 => absurd c8 (by decide)) (fun c8 => ?_)
      refine wa_iconst (0) dX3_account_11 (by decide) ?_
      refine wa_goto 16 dX3_account_12 rfl ?_
      refine wa_putf [_, _, _, _, _, _, _, _, _, _, _, _, _, _, _, _, _, _, _, _] dX3_account_16 pX3_49 hm (Nat.le_of_ble_eq_true rfl) rfl rfl rfl ?_
      refine wa_aload_n 0 dX3_account_19 rfl rfl ?_
      refine wa_getf dX3_account_20 gX3_49 (w_set_self hm) rfl ?_
      refine wa_if_le 28 dX3_account_23 rfl (fun c23 => ?_) (fun c23 => absurd (by decide) c23)
      refine wa_iload_n 1 dX3_account_28 rfl rfl ?_
      refine wa_tableIn 114 dX3_account_29 (by decide) (by decide) rfl rfl ?_
      refine wa_aload_n 0 dX3_account_114 rfl rfl ?_
      refine wa_getf dX3_account_115 gX3_9 h0.1 rfl ?_
      refine wa_iconst (3) dX3_account_118 (by decide) ?_
      refine wa_iald dX3_account_119 h0.2.1 (vp_in_nI (n := 3) (by omega) (by omega)) ?_
      refine wa_iret FieldType.int dX3_account_120 rfl rfl (Nat.le_of_ble_eq_true rfl) (Nat.le_of_ble_eq_true rfl) ?_
      exact ⟨_, rfl, (w_fr.rf.set z_mEm), hr.rn, h0.md⟩
    | 3, _ =>
      have hy : (0 : Int32) ≤ 3 ∧ (3 : Int32) ≤ 16 := by decide
      refine w_start (by decide) (Nat.le_of_ble_eq_true rfl) (fun X => ?_)
      refine wa_locals [(0, _), (1, _)] [0, 1] rfl ?_
      refine wa_aload_n 0 dX3_account_0 rfl rfl ?_
      refine wa_iload_n 1 dX3_account_1 rfl rfl ?_
      refine wa_iconst (0) dX3_account_2 (by decide) ?_
      refine wa_bipush (16) dX3_account_3 (by decide) ?_
      refine wc_isI (wr_S dX3_account_5 mX3_71 (sp_mminY hy) rfl rfl rfl (Nat.le_of_ble_eq_true rfl)) ?_
      refine wa_if_eq 15 dX3_account_8 rfl (fun c8 => absurd c8 (by decide)) (fun c8 => ?_)
      refine wa_iconst (0) dX3_account_11 (by decide) ?_
      refine wa_goto 16 dX3_account_12 rfl ?_
      refine wa_putf [_, _, _, _, _, _, _, _, _, _, _, _, _, _, _, _, _, _, _, _] dX3_account_16 pX3_49 hm (Nat.le_of_ble_eq_true rfl) rfl rfl rfl ?_
      refine wa_aload_n 0 dX3_account_19 rfl rfl ?_
      refine wa_getf dX3_account_20 gX3_49 (w_set_self hm) rfl ?_
      refine wa_if_le 28 dX3_account_23 rfl (fun c23 => ?_) (fun c23 => absurd (by decide) c23)
      refine wa_iload_n 1 dX3_account_28 rfl rfl ?_
      refine wa_tableIn 121 dX3_account_29 (by decide) (by decide) rfl rfl ?_
      refine wa_aload_n 0 dX3_account_121 rfl rfl ?_
      refine wa_getf dX3_account_122 gX3_9 h0.1 rfl ?_
      refine wa_iconst (4) dX3_account_125 (by decide) ?_
      refine wa_iald dX3_account_126 h0.2.1 (vp_in_nI (n := 4) (by omega) (by omega)) ?_
      refine wa_iret FieldType.int dX3_account_127 rfl rfl (Nat.le_of_ble_eq_true rfl) (Nat.le_of_ble_eq_true rfl) ?_
      exact ⟨_, rfl, (w_fr.rf.set z_mEm), hr.on, h0.md⟩
    | 4, _ =>
      have hy : (0 : Int32) ≤ 4 ∧ (4 : Int32) ≤ 16 := by decide
      refine w_start (by decide) (Nat.le_of_ble_eq_true rfl) (fun X => ?_)
      refine wa_locals [(0, _), (1, _)] [0, 1] rfl ?_
      refine wa_aload_n 0 dX3_account_0 rfl rfl ?_
      refine wa_iload_n 1 dX3_account_1 rfl rfl ?_
      refine wa_iconst (0) dX3_account_2 (by decide) ?_
      refine wa_bipush (16) dX3_account_3 (by decide) ?_
      refine wc_isI (wr_S dX3_account_5 mX3_71 (sp_mminY hy) rfl rfl rfl (Nat.le_of_ble_eq_true rfl)) ?_
      refine wa_if_eq 15 dX3_account_8 rfl (fun c8 => absurd c8 (by decide)) (fun c8 => ?_)
      refine wa_iconst (0) dX3_account_11 (by decide) ?_
      refine wa_goto 16 dX3_account_12 rfl ?_
      refine wa_putf [_, _, _, _, _, _, _, _, _, _, _, _, _, _, _, _, _, _, _, _] dX3_account_16 pX3_49 hm (Nat.le_of_ble_eq_true rfl) rfl rfl rfl ?_
      refine wa_aload_n 0 dX3_account_19 rfl rfl ?_
      refine wa_getf dX3_account_20 gX3_49 (w_set_self hm) rfl ?_
      refine wa_if_le 28 dX3_account_23 rfl (fun c23 => ?_) (fun c23 => absurd (by decide) c23)
      refine wa_iload_n 1 dX3_account_28 rfl rfl ?_
      refine wa_tableIn 128 dX3_account_29 (by decide) (by decide) rfl rfl ?_
      refine wa_aload_n 0 dX3_account_128 rfl rfl ?_
      refine wa_iload_n 1 dX3_account_129 rfl rfl ?_
      refine wa_iconst (4) dX3_account_130 (by decide) ?_
      refine wa_isub dX3_account_131 ?_
      rw [show nI 4 - 4 = 0 by decide]
      refine wc_isI (wr_V dX3_account_132 mX3_186 (sp_moverOrders_st H0 hr hs hh (st := 0) (by decide)) h0.1 rfl rfl rfl (Nat.le_of_ble_eq_true rfl)) ?_
      refine wa_iret FieldType.int dX3_account_135 rfl rfl (Nat.le_of_ble_eq_true rfl) (Nat.le_of_ble_eq_true rfl) ?_
      exact ⟨_, rfl, (w_fr.rf.set z_mEm), rfl, h0.md⟩
    | 5, _ =>
      have hy : (0 : Int32) ≤ 5 ∧ (5 : Int32) ≤ 16 := by decide
      refine w_start (by decide) (Nat.le_of_ble_eq_true rfl) (fun X => ?_)
      refine wa_locals [(0, _), (1, _)] [0, 1] rfl ?_
      refine wa_aload_n 0 dX3_account_0 rfl rfl ?_
      refine wa_iload_n 1 dX3_account_1 rfl rfl ?_
      refine wa_iconst (0) dX3_account_2 (by decide) ?_
      refine wa_bipush (16) dX3_account_3 (by decide) ?_
      refine wc_isI (wr_S dX3_account_5 mX3_71 (sp_mminY hy) rfl rfl rfl (Nat.le_of_ble_eq_true rfl)) ?_
      refine wa_if_eq 15 dX3_account_8 rfl (fun c8 => absurd c8 (by decide)) (fun c8 => ?_)
      refine wa_iconst (0) dX3_account_11 (by decide) ?_
      refine wa_goto 16 dX3_account_12 rfl ?_
      refine wa_putf [_, _, _, _, _, _, _, _, _, _, _, _, _, _, _, _, _, _, _, _] dX3_account_16 pX3_49 hm (Nat.le_of_ble_eq_true rfl) rfl rfl rfl ?_
      refine wa_aload_n 0 dX3_account_19 rfl rfl ?_
      refine wa_getf dX3_account_20 gX3_49 (w_set_self hm) rfl ?_
      refine wa_if_le 28 dX3_account_23 rfl (fun c23 => ?_) (fun c23 => absurd (by decide) c23)
      refine wa_iload_n 1 dX3_account_28 rfl rfl ?_
      refine wa_tableIn 128 dX3_account_29 (by decide) (by decide) rfl rfl ?_
      refine wa_aload_n 0 dX3_account_128 rfl rfl ?_
      refine wa_iload_n 1 dX3_account_129 rfl rfl ?_
      refine wa_iconst (4) dX3_account_130 (by decide) ?_
      refine wa_isub dX3_account_131 ?_
      rw [show nI 5 - 4 = 1 by decide]
      refine wc_isI (wr_V dX3_account_132 mX3_186 (sp_moverOrders_st H0 hr hs hh (st := 1) (by decide)) h0.1 rfl rfl rfl (Nat.le_of_ble_eq_true rfl)) ?_
      refine wa_iret FieldType.int dX3_account_135 rfl rfl (Nat.le_of_ble_eq_true rfl) (Nat.le_of_ble_eq_true rfl) ?_
      exact ⟨_, rfl, (w_fr.rf.set z_mEm), rfl, h0.md⟩
    | 6, _ =>
      have hy : (0 : Int32) ≤ 6 ∧ (6 : Int32) ≤ 16 := by decide
      refine w_start (by decide) (Nat.le_of_ble_eq_true rfl) (fun X => ?_)
      refine wa_locals [(0, _), (1, _)] [0, 1] rfl ?_
      refine wa_aload_n 0 dX3_account_0 rfl rfl ?_
      refine wa_iload_n 1 dX3_account_1 rfl rfl ?_
      refine wa_iconst (0) dX3_account_2 (by decide) ?_
      refine wa_bipush (16) dX3_account_3 (by decide) ?_
      refine wc_isI (wr_S dX3_account_5 mX3_71 (sp_mminY hy) rfl rfl rfl (Nat.le_of_ble_eq_true rfl)) ?_
      refine wa_if_eq 15 dX3_account_8 rfl (fun c8 => absurd c8 (by decide)) (fun c8 => ?_)
      refine wa_iconst (0) dX3_account_11 (by decide) ?_
      refine wa_goto 16 dX3_account_12 rfl ?_
      refine wa_putf [_, _, _, _, _, _, _, _, _, _, _, _, _, _, _, _, _, _, _, _] dX3_account_16 pX3_49 hm (Nat.le_of_ble_eq_true rfl) rfl rfl rfl ?_
      refine wa_aload_n 0 dX3_account_19 rfl rfl ?_
      refine wa_getf dX3_account_20 gX3_49 (w_set_self hm) rfl ?_
      refine wa_if_le 28 dX3_account_23 rfl (fun c23 => ?_) (fun c23 => absurd (by decide) c23)
      refine wa_iload_n 1 dX3_account_28 rfl rfl ?_
      refine wa_tableIn 128 dX3_account_29 (by decide) (by decide) rfl rfl ?_
      refine wa_aload_n 0 dX3_account_128 rfl rfl ?_
      refine wa_iload_n 1 dX3_account_129 rfl rfl ?_
      refine wa_iconst (4) dX3_account_130 (by decide) ?_
      refine wa_isub dX3_account_131 ?_
      rw [show nI 6 - 4 = 2 by decide]
      refine wc_isI (wr_V dX3_account_132 mX3_186 (sp_moverOrders_st H0 hr hs hh (st := 2) (by decide)) h0.1 rfl rfl rfl (Nat.le_of_ble_eq_true rfl)) ?_
      refine wa_iret FieldType.int dX3_account_135 rfl rfl (Nat.le_of_ble_eq_true rfl) (Nat.le_of_ble_eq_true rfl) ?_
      exact ⟨_, rfl, (w_fr.rf.set z_mEm), rfl, h0.md⟩
    | 7, _ =>
      have hy : (0 : Int32) ≤ 7 ∧ (7 : Int32) ≤ 16 := by decide
      refine w_start (by decide) (Nat.le_of_ble_eq_true rfl) (fun X => ?_)
      refine wa_locals [(0, _), (1, _)] [0, 1] rfl ?_
      refine wa_aload_n 0 dX3_account_0 rfl rfl ?_
      refine wa_iload_n 1 dX3_account_1 rfl rfl ?_
      refine wa_iconst (0) dX3_account_2 (by decide) ?_
      refine wa_bipush (16) dX3_account_3 (by decide) ?_
      refine wc_isI (wr_S dX3_account_5 mX3_71 (sp_mminY hy) rfl rfl rfl (Nat.le_of_ble_eq_true rfl)) ?_
      refine wa_if_eq 15 dX3_account_8 rfl (fun c8 => absurd c8 (by decide)) (fun c8 => ?_)
      refine wa_iconst (0) dX3_account_11 (by decide) ?_
      refine wa_goto 16 dX3_account_12 rfl ?_
      refine wa_putf [_, _, _, _, _, _, _, _, _, _, _, _, _, _, _, _, _, _, _, _] dX3_account_16 pX3_49 hm (Nat.le_of_ble_eq_true rfl) rfl rfl rfl ?_
      refine wa_aload_n 0 dX3_account_19 rfl rfl ?_
      refine wa_getf dX3_account_20 gX3_49 (w_set_self hm) rfl ?_
      refine wa_if_le 28 dX3_account_23 rfl (fun c23 => ?_) (fun c23 => absurd (by decide) c23)
      refine wa_iload_n 1 dX3_account_28 rfl rfl ?_
      refine wa_tableIn 136 dX3_account_29 (by decide) (by decide) rfl rfl ?_
      refine wa_aload_n 0 dX3_account_136 rfl rfl ?_
      refine wc_isI (wr_V dX3_account_137 mX3_118 (sp_mclosed H0 hr hs) h0.1 rfl rfl rfl (Nat.le_of_ble_eq_true rfl)) ?_
      refine wa_iret FieldType.int dX3_account_140 rfl rfl (Nat.le_of_ble_eq_true rfl) (Nat.le_of_ble_eq_true rfl) ?_
      exact ⟨_, rfl, (w_fr.rf.set z_mEm), hp.symm, h0.md⟩
    | 8, _ =>
      have hy : (0 : Int32) ≤ 8 ∧ (8 : Int32) ≤ 16 := by decide
      refine w_start (by decide) (Nat.le_of_ble_eq_true rfl) (fun X => ?_)
      refine wa_locals [(0, _), (1, _)] [0, 1] rfl ?_
      refine wa_aload_n 0 dX3_account_0 rfl rfl ?_
      refine wa_iload_n 1 dX3_account_1 rfl rfl ?_
      refine wa_iconst (0) dX3_account_2 (by decide) ?_
      refine wa_bipush (16) dX3_account_3 (by decide) ?_
      refine wc_isI (wr_S dX3_account_5 mX3_71 (sp_mminY hy) rfl rfl rfl (Nat.le_of_ble_eq_true rfl)) ?_
      refine wa_if_eq 15 dX3_account_8 rfl (fun c8 => absurd c8 (by decide)) (fun c8 => ?_)
      refine wa_iconst (0) dX3_account_11 (by decide) ?_
      refine wa_goto 16 dX3_account_12 rfl ?_
      refine wa_putf [_, _, _, _, _, _, _, _, _, _, _, _, _, _, _, _, _, _, _, _] dX3_account_16 pX3_49 hm (Nat.le_of_ble_eq_true rfl) rfl rfl rfl ?_
      refine wa_aload_n 0 dX3_account_19 rfl rfl ?_
      refine wa_getf dX3_account_20 gX3_49 (w_set_self hm) rfl ?_
      refine wa_if_le 28 dX3_account_23 rfl (fun c23 => ?_) (fun c23 => absurd (by decide) c23)
      refine wa_iload_n 1 dX3_account_28 rfl rfl ?_
      refine wa_tableIn 141 dX3_account_29 (by decide) (by decide) rfl rfl ?_
      refine wa_aload_n 0 dX3_account_141 rfl rfl ?_
      refine wa_getf dX3_account_142 gX3_9 h0.1 rfl ?_
      refine wa_iconst (2) dX3_account_145 (by decide) ?_
      refine wa_iald dX3_account_146 h0.2.1 (vp_in_nI (n := 2) (by omega) (by omega)) ?_
      refine wa_iret FieldType.int dX3_account_147 rfl rfl (Nat.le_of_ble_eq_true rfl) (Nat.le_of_ble_eq_true rfl) ?_
      exact ⟨_, rfl, (w_fr.rf.set z_mEm), hr.now, h0.md⟩
    | 9, _ =>
      have hy : (0 : Int32) ≤ 9 ∧ (9 : Int32) ≤ 16 := by decide
      refine w_start (by decide) (Nat.le_of_ble_eq_true rfl) (fun X => ?_)
      refine wa_locals [(0, _), (1, _)] [0, 1] rfl ?_
      refine wa_aload_n 0 dX3_account_0 rfl rfl ?_
      refine wa_iload_n 1 dX3_account_1 rfl rfl ?_
      refine wa_iconst (0) dX3_account_2 (by decide) ?_
      refine wa_bipush (16) dX3_account_3 (by decide) ?_
      refine wc_isI (wr_S dX3_account_5 mX3_71 (sp_mminY hy) rfl rfl rfl (Nat.le_of_ble_eq_true rfl)) ?_
      refine wa_if_eq 15 dX3_account_8 rfl (fun c8 => absurd c8 (by decide)) (fun c8 => ?_)
      refine wa_iconst (0) dX3_account_11 (by decide) ?_
      refine wa_goto 16 dX3_account_12 rfl ?_
      refine wa_putf [_, _, _, _, _, _, _, _, _, _, _, _, _, _, _, _, _, _, _, _] dX3_account_16 pX3_49 hm (Nat.le_of_ble_eq_true rfl) rfl rfl rfl ?_
      refine wa_aload_n 0 dX3_account_19 rfl rfl ?_
      refine wa_getf dX3_account_20 gX3_49 (w_set_self hm) rfl ?_
      refine wa_if_le 28 dX3_account_23 rfl (fun c23 => ?_) (fun c23 => absurd (by decide) c23)
      refine wa_iload_n 1 dX3_account_28 rfl rfl ?_
      refine wa_tableIn 148 dX3_account_29 (by decide) (by decide) rfl rfl ?_
      refine wa_aload_n 0 dX3_account_148 rfl rfl ?_
      refine wa_iconst (5) dX3_account_149 (by decide) ?_
      refine wc_isI (wr_V dX3_account_150 mX3_189 (sp_moverRobots_steps H0 hr hs) h0.1 rfl rfl rfl (Nat.le_of_ble_eq_true rfl)) ?_
      refine wa_iret FieldType.int dX3_account_153 rfl rfl (Nat.le_of_ble_eq_true rfl) (Nat.le_of_ble_eq_true rfl) ?_
      exact ⟨_, rfl, (w_fr.rf.set z_mEm), rfl, h0.md⟩
    | 10, _ =>
      have hy : (0 : Int32) ≤ 10 ∧ (10 : Int32) ≤ 16 := by decide
      refine w_start (by decide) (Nat.le_of_ble_eq_true rfl) (fun X => ?_)
      refine wa_locals [(0, _), (1, _)] [0, 1] rfl ?_
      refine wa_aload_n 0 dX3_account_0 rfl rfl ?_
      refine wa_iload_n 1 dX3_account_1 rfl rfl ?_
      refine wa_iconst (0) dX3_account_2 (by decide) ?_
      refine wa_bipush (16) dX3_account_3 (by decide) ?_
      refine wc_isI (wr_S dX3_account_5 mX3_71 (sp_mminY hy) rfl rfl rfl (Nat.le_of_ble_eq_true rfl)) ?_
      refine wa_if_eq 15 dX3_account_8 rfl (fun c8 => absurd c8 (by decide)) (fun c8 => ?_)
      refine wa_iconst (0) dX3_account_11 (by decide) ?_
      refine wa_goto 16 dX3_account_12 rfl ?_
      refine wa_putf [_, _, _, _, _, _, _, _, _, _, _, _, _, _, _, _, _, _, _, _] dX3_account_16 pX3_49 hm (Nat.le_of_ble_eq_true rfl) rfl rfl rfl ?_
      refine wa_aload_n 0 dX3_account_19 rfl rfl ?_
      refine wa_getf dX3_account_20 gX3_49 (w_set_self hm) rfl ?_
      refine wa_if_le 28 dX3_account_23 rfl (fun c23 => ?_) (fun c23 => absurd (by decide) c23)
      refine wa_iload_n 1 dX3_account_28 rfl rfl ?_
      refine wa_tableIn 154 dX3_account_29 (by decide) (by decide) rfl rfl ?_
      refine wa_aload_n 0 dX3_account_154 rfl rfl ?_
      refine wa_iconst (-1) dX3_account_155 (by decide) ?_
      refine wc_isI (wr_V dX3_account_156 mX3_186 (sp_moverOrders_picked H0 hr hs) h0.1 rfl rfl rfl (Nat.le_of_ble_eq_true rfl)) ?_
      refine wa_iret FieldType.int dX3_account_159 rfl rfl (Nat.le_of_ble_eq_true rfl) (Nat.le_of_ble_eq_true rfl) ?_
      exact ⟨_, rfl, (w_fr.rf.set z_mEm), rfl, h0.md⟩
    | 11, _ =>
      have hy : (0 : Int32) ≤ 11 ∧ (11 : Int32) ≤ 16 := by decide
      refine w_start (by decide) (Nat.le_of_ble_eq_true rfl) (fun X => ?_)
      refine wa_locals [(0, _), (1, _)] [0, 1] rfl ?_
      refine wa_aload_n 0 dX3_account_0 rfl rfl ?_
      refine wa_iload_n 1 dX3_account_1 rfl rfl ?_
      refine wa_iconst (0) dX3_account_2 (by decide) ?_
      refine wa_bipush (16) dX3_account_3 (by decide) ?_
      refine wc_isI (wr_S dX3_account_5 mX3_71 (sp_mminY hy) rfl rfl rfl (Nat.le_of_ble_eq_true rfl)) ?_
      refine wa_if_eq 15 dX3_account_8 rfl (fun c8 => absurd c8 (by decide)) (fun c8 => ?_)
      refine wa_iconst (0) dX3_account_11 (by decide) ?_
      refine wa_goto 16 dX3_account_12 rfl ?_
      refine wa_putf [_, _, _, _, _, _, _, _, _, _, _, _, _, _, _, _, _, _, _, _] dX3_account_16 pX3_49 hm (Nat.le_of_ble_eq_true rfl) rfl rfl rfl ?_
      refine wa_aload_n 0 dX3_account_19 rfl rfl ?_
      refine wa_getf dX3_account_20 gX3_49 (w_set_self hm) rfl ?_
      refine wa_if_le 28 dX3_account_23 rfl (fun c23 => ?_) (fun c23 => absurd (by decide) c23)
      refine wa_iload_n 1 dX3_account_28 rfl rfl ?_
      refine wa_tableIn 160 dX3_account_29 (by decide) (by decide) rfl rfl ?_
      refine wa_aload_n 0 dX3_account_160 rfl rfl ?_
      refine wa_iconst (1) dX3_account_161 (by decide) ?_
      refine wc_isI (wr_V dX3_account_162 mX3_189 (sp_moverRobots_batt H0 hr hs) h0.1 rfl rfl rfl (Nat.le_of_ble_eq_true rfl)) ?_
      refine wa_iret FieldType.int dX3_account_165 rfl rfl (Nat.le_of_ble_eq_true rfl) (Nat.le_of_ble_eq_true rfl) ?_
      exact ⟨_, rfl, (w_fr.rf.set z_mEm), rfl, h0.md⟩
    | 12, _ =>
      have hy : (0 : Int32) ≤ 12 ∧ (12 : Int32) ≤ 16 := by decide
      refine w_start (by decide) (Nat.le_of_ble_eq_true rfl) (fun X => ?_)
      refine wa_locals [(0, _), (1, _)] [0, 1] rfl ?_
      refine wa_aload_n 0 dX3_account_0 rfl rfl ?_
      refine wa_iload_n 1 dX3_account_1 rfl rfl ?_
      refine wa_iconst (0) dX3_account_2 (by decide) ?_
      refine wa_bipush (16) dX3_account_3 (by decide) ?_
      refine wc_isI (wr_S dX3_account_5 mX3_71 (sp_mminY hy) rfl rfl rfl (Nat.le_of_ble_eq_true rfl)) ?_
      refine wa_if_eq 15 dX3_account_8 rfl (fun c8 => absurd c8 (by decide)) (fun c8 => ?_)
      refine wa_iconst (0) dX3_account_11 (by decide) ?_
      refine wa_goto 16 dX3_account_12 rfl ?_
      refine wa_putf [_, _, _, _, _, _, _, _, _, _, _, _, _, _, _, _, _, _, _, _] dX3_account_16 pX3_49 hm (Nat.le_of_ble_eq_true rfl) rfl rfl rfl ?_
      refine wa_aload_n 0 dX3_account_19 rfl rfl ?_
      refine wa_getf dX3_account_20 gX3_49 (w_set_self hm) rfl ?_
      refine wa_if_le 28 dX3_account_23 rfl (fun c23 => ?_) (fun c23 => absurd (by decide) c23)
      refine wa_iload_n 1 dX3_account_28 rfl rfl ?_
      refine wa_tableIn 166 dX3_account_29 (by decide) (by decide) rfl rfl ?_
      refine wa_aload_n 0 dX3_account_166 rfl rfl ?_
      refine wa_getf dX3_account_167 gX3_52 h0.1 rfl ?_
      refine wa_iret FieldType.int dX3_account_170 rfl rfl (Nat.le_of_ble_eq_true rfl) (Nat.le_of_ble_eq_true rfl) ?_
      exact ⟨_, rfl, (w_fr.rf.set z_mEm), rfl, h0.md⟩
    | 13, _ =>
      have hy : (0 : Int32) ≤ 13 ∧ (13 : Int32) ≤ 16 := by decide
      refine w_start (by decide) (Nat.le_of_ble_eq_true rfl) (fun X => ?_)
      refine wa_locals [(0, _), (1, _)] [0, 1] rfl ?_
      refine wa_aload_n 0 dX3_account_0 rfl rfl ?_
      refine wa_iload_n 1 dX3_account_1 rfl rfl ?_
      refine wa_iconst (0) dX3_account_2 (by decide) ?_
      refine wa_bipush (16) dX3_account_3 (by decide) ?_
      refine wc_isI (wr_S dX3_account_5 mX3_71 (sp_mminY hy) rfl rfl rfl (Nat.le_of_ble_eq_true rfl)) ?_
      refine wa_if_eq 15 dX3_account_8 rfl (fun c8 => absurd c8 (by decide)) (fun c8 => ?_)
      refine wa_iconst (0) dX3_account_11 (by decide) ?_
      refine wa_goto 16 dX3_account_12 rfl ?_
      refine wa_putf [_, _, _, _, _, _, _, _, _, _, _, _, _, _, _, _, _, _, _, _] dX3_account_16 pX3_49 hm (Nat.le_of_ble_eq_true rfl) rfl rfl rfl ?_
      refine wa_aload_n 0 dX3_account_19 rfl rfl ?_
      refine wa_getf dX3_account_20 gX3_49 (w_set_self hm) rfl ?_
      refine wa_if_le 28 dX3_account_23 rfl (fun c23 => ?_) (fun c23 => absurd (by decide) c23)
      refine wa_iload_n 1 dX3_account_28 rfl rfl ?_
      refine wa_tableIn 171 dX3_account_29 (by decide) (by decide) rfl rfl ?_
      refine wa_aload_n 0 dX3_account_171 rfl rfl ?_
      refine wa_getf dX3_account_172 gX3_192 h0.1 rfl ?_
      refine wa_iret FieldType.int dX3_account_175 rfl rfl (Nat.le_of_ble_eq_true rfl) (Nat.le_of_ble_eq_true rfl) ?_
      exact ⟨_, rfl, (w_fr.rf.set z_mEm), rfl, h0.md⟩
    | 14, _ =>
      have hy : (0 : Int32) ≤ 14 ∧ (14 : Int32) ≤ 16 := by decide
      refine w_start (by decide) (Nat.le_of_ble_eq_true rfl) (fun X => ?_)
      refine wa_locals [(0, _), (1, _)] [0, 1] rfl ?_
      refine wa_aload_n 0 dX3_account_0 rfl rfl ?_
      refine wa_iload_n 1 dX3_account_1 rfl rfl ?_
      refine wa_iconst (0) dX3_account_2 (by decide) ?_
      refine wa_bipush (16) dX3_account_3 (by decide) ?_
      refine wc_isI (wr_S dX3_account_5 mX3_71 (sp_mminY hy) rfl rfl rfl (Nat.le_of_ble_eq_true rfl)) ?_
      refine wa_if_eq 15 dX3_account_8 rfl (fun c8 => absurd c8 (by decide)) (fun c8 => ?_)
      refine wa_iconst (0) dX3_account_11 (by decide) ?_
      refine wa_goto 16 dX3_account_12 rfl ?_
      refine wa_putf [_, _, _, _, _, _, _, _, _, _, _, _, _, _, _, _, _, _, _, _] dX3_account_16 pX3_49 hm (Nat.le_of_ble_eq_true rfl) rfl rfl rfl ?_
      refine wa_aload_n 0 dX3_account_19 rfl rfl ?_
      refine wa_getf dX3_account_20 gX3_49 (w_set_self hm) rfl ?_
      refine wa_if_le 28 dX3_account_23 rfl (fun c23 => ?_) (fun c23 => absurd (by decide) c23)
      refine wa_iload_n 1 dX3_account_28 rfl rfl ?_
      refine wa_tableOut 176 dX3_account_29 (by decide) rfl ?_
      refine wa_aload_n 0 dX3_account_176 rfl rfl ?_
      refine wa_getf dX3_account_177 gX3_9 h0.1 rfl ?_
      refine wa_iconst (5) dX3_account_180 (by decide) ?_
      refine wa_iload_n 1 dX3_account_181 rfl rfl ?_
      refine wa_iadd dX3_account_182 ?_
      refine wa_bipush (14) dX3_account_183 (by decide) ?_
      refine wa_isub dX3_account_185 ?_
      rw [show (5 : Int32) + nI 14 - 14 = 5 by decide]
      refine wa_iald dX3_account_186 h0.2.1 (vp_in_nI (n := 5) (by omega) (by omega)) ?_
      refine wa_iret FieldType.int dX3_account_187 rfl rfl (Nat.le_of_ble_eq_true rfl) (Nat.le_of_ble_eq_true rfl) ?_
      exact ⟨_, rfl, (w_fr.rf.set z_mEm), (hr.2.1 0 (by decide)), h0.md⟩
    | 15, _ =>
      have hy : (0 : Int32) ≤ 15 ∧ (15 : Int32) ≤ 16 := by decide
      refine w_start (by decide) (Nat.le_of_ble_eq_true rfl) (fun X => ?_)
      refine wa_locals [(0, _), (1, _)] [0, 1] rfl ?_
      refine wa_aload_n 0 dX3_account_0 rfl rfl ?_
      refine wa_iload_n 1 dX3_account_1 rfl rfl ?_
      refine wa_iconst (0) dX3_account_2 (by decide) ?_
      refine wa_bipush (16) dX3_account_3 (by decide) ?_
      refine wc_isI (wr_S dX3_account_5 mX3_71 (sp_mminY hy) rfl rfl rfl (Nat.le_of_ble_eq_true rfl)) ?_
      refine wa_if_eq 15 dX3_account_8 rfl (fun c8 => absurd c8 (by decide)) (fun c8 => ?_)
      refine wa_iconst (0) dX3_account_11 (by decide) ?_
      refine wa_goto 16 dX3_account_12 rfl ?_
      refine wa_putf [_, _, _, _, _, _, _, _, _, _, _, _, _, _, _, _, _, _, _, _] dX3_account_16 pX3_49 hm (Nat.le_of_ble_eq_true rfl) rfl rfl rfl ?_
      refine wa_aload_n 0 dX3_account_19 rfl rfl ?_
      refine wa_getf dX3_account_20 gX3_49 (w_set_self hm) rfl ?_
      refine wa_if_le 28 dX3_account_23 rfl (fun c23 => ?_) (fun c23 => absurd (by decide) c23)
      refine wa_iload_n 1 dX3_account_28 rfl rfl ?_
      refine wa_tableOut 176 dX3_account_29 (by decide) rfl ?_
      refine wa_aload_n 0 dX3_account_176 rfl rfl ?_
      refine wa_getf dX3_account_177 gX3_9 h0.1 rfl ?_
      refine wa_iconst (5) dX3_account_180 (by decide) ?_
      refine wa_iload_n 1 dX3_account_181 rfl rfl ?_
      refine wa_iadd dX3_account_182 ?_
      refine wa_bipush (14) dX3_account_183 (by decide) ?_
      refine wa_isub dX3_account_185 ?_
      rw [show (5 : Int32) + nI 15 - 14 = 6 by decide]
      refine wa_iald dX3_account_186 h0.2.1 (vp_in_nI (n := 6) (by omega) (by omega)) ?_
      refine wa_iret FieldType.int dX3_account_187 rfl rfl (Nat.le_of_ble_eq_true rfl) (Nat.le_of_ble_eq_true rfl) ?_
      exact ⟨_, rfl, (w_fr.rf.set z_mEm), (hr.2.1 1 (by decide)), h0.md⟩
    | 16, _ =>
      have hy : (0 : Int32) ≤ 16 ∧ (16 : Int32) ≤ 16 := by decide
      refine w_start (by decide) (Nat.le_of_ble_eq_true rfl) (fun X => ?_)
      refine wa_locals [(0, _), (1, _)] [0, 1] rfl ?_
      refine wa_aload_n 0 dX3_account_0 rfl rfl ?_
      refine wa_iload_n 1 dX3_account_1 rfl rfl ?_
      refine wa_iconst (0) dX3_account_2 (by decide) ?_
      refine wa_bipush (16) dX3_account_3 (by decide) ?_
      refine wc_isI (wr_S dX3_account_5 mX3_71 (sp_mminY hy) rfl rfl rfl (Nat.le_of_ble_eq_true rfl)) ?_
      refine wa_if_eq 15 dX3_account_8 rfl (fun c8 => absurd c8 (by decide)) (fun c8 => ?_)
      refine wa_iconst (0) dX3_account_11 (by decide) ?_
      refine wa_goto 16 dX3_account_12 rfl ?_
      refine wa_putf [_, _, _, _, _, _, _, _, _, _, _, _, _, _, _, _, _, _, _, _] dX3_account_16 pX3_49 hm (Nat.le_of_ble_eq_true rfl) rfl rfl rfl ?_
      refine wa_aload_n 0 dX3_account_19 rfl rfl ?_
      refine wa_getf dX3_account_20 gX3_49 (w_set_self hm) rfl ?_
      refine wa_if_le 28 dX3_account_23 rfl (fun c23 => ?_) (fun c23 => absurd (by decide) c23)
      refine wa_iload_n 1 dX3_account_28 rfl rfl ?_
      refine wa_tableOut 176 dX3_account_29 (by decide) rfl ?_
      refine wa_aload_n 0 dX3_account_176 rfl rfl ?_
      refine wa_getf dX3_account_177 gX3_9 h0.1 rfl ?_
      refine wa_iconst (5) dX3_account_180 (by decide) ?_
      refine wa_iload_n 1 dX3_account_181 rfl rfl ?_
      refine wa_iadd dX3_account_182 ?_
      refine wa_bipush (14) dX3_account_183 (by decide) ?_
      refine wa_isub dX3_account_185 ?_
      rw [show (5 : Int32) + nI 16 - 14 = 7 by decide]
      refine wa_iald dX3_account_186 h0.2.1 (vp_in_nI (n := 7) (by omega) (by omega)) ?_
      refine wa_iret FieldType.int dX3_account_187 rfl rfl (Nat.le_of_ble_eq_true rfl) (Nat.le_of_ble_eq_true rfl) ?_
      exact ⟨_, rfl, (w_fr.rf.set z_mEm), (hr.2.1 2 (by decide)), h0.md⟩
    | n + 17, hn => exact absurd hn (by omega)
theorem sp_mappend (h : z_mod b M m S th) {v : Int32} (hv : vp_nar .char v = v) : w_S l G tX3_append (6, 0, 0) [.ref m, .int v] M (z_mX b M m (z_appX S v) S) := by
  obtain ⟨is, rr, rc, f, sv, pf, ip, h⟩ := h
  obtain ⟨hm, hf, -⟩ := id h
  have H := h.mh
  have hr := h.mr
  have hg := h.gd
  have hs := hg.1
  have hh := hg.2.2.2.2.2.2.2
  have hsz := hs.size
  have hR6 : (z_robs (z_cur S)).length ≤ 6 := hs.2.2.2.2.1
  have hO10 : (z_ords (z_cur S)).length ≤ 10 := hs.2.2.2.2.2.1
  have hR := h.2.2.2.2.2.2
  have h60 := hR.2.2.2.2.1
  have hip := h.2.2.2.2.1
  have en : nI (z_txt S).length + 1 = nI ((z_txt S).length + 1) := nI_1 _
  by_cases hl : (z_txt S).length < 60
  · have ea : z_appX S v = .inl (.int (nI ((z_txt S).length + 1)), z_app S v) := if_pos hl
    rw [ea]
    refine w_start (by decide) (Nat.le_of_ble_eq_true rfl) (fun X => ?_)
    refine wa_locals [(0, _), (1, _)] [0, 1] rfl ?_
    refine wa_aload_n 0 dX3_append_0 rfl rfl ?_
    refine wa_aload_n 0 dX3_append_1 rfl rfl ?_
    refine wa_getf dX3_append_2 gX3_192 hm rfl ?_
    refine wa_bipush (60) dX3_append_5 (by decide) ?_
    refine wa_icmp_ne 14 dX3_append_7 rfl (fun c7 => ?_) (fun c7 => absurd ((nI_eq (b := 60) (by omega) (by decide)).mp c7) (by omega))
    refine wa_iconst (0) dX3_append_14 (by decide) ?_
    refine wa_putf [_, _, _, _, _, _, _, _, _, _, _, _, _, _, _, _, _, _, _, _] dX3_append_15 pX3_49 hm (Nat.le_of_ble_eq_true rfl) rfl rfl rfl ?_
    refine wa_aload_n 0 dX3_append_18 rfl rfl ?_
    refine wa_getf dX3_append_19 gX3_49 (w_set_self hm) rfl ?_
    refine wa_if_le 27 dX3_append_22 rfl (fun c22 => ?_) (fun c22 => absurd (by decide) c22)
    refine wa_aload_n 0 dX3_append_27 rfl rfl ?_
    refine wa_getf dX3_append_28 gX3_41 (w_set_self hm) rfl ?_
    refine wa_aload_n 0 dX3_append_31 rfl rfl ?_
    refine wa_getf dX3_append_32 gX3_192 (w_set_self hm) rfl ?_
    refine wa_iload_n 1 dX3_append_35 rfl rfl ?_
    refine wa_cast dX3_append_36 (w_sne hip (by omega)) (vp_in_nI (by omega) (by omega)) ?_
    rw [hv, nI_clamp (by omega)]
    refine wa_aload_n 0 dX3_append_37 rfl rfl ?_
    refine wa_dup dX3_append_38 rfl ?_
    refine wa_getf dX3_append_39 gX3_192 (w_sne (w_set_self hm) (by omega)) rfl ?_
    refine wa_iconst (1) dX3_append_42 (by decide) ?_
    refine wa_iadd dX3_append_43 ?_
    rw [en]
    refine wa_putf [_, _, _, _, _, _, _, _, _, _, _, _, _, _, _, _, _, _, _, _] dX3_append_44 pX3_192 (w_sne (w_set_self hm) (by omega)) (Nat.le_of_ble_eq_true rfl) rfl rfl rfl ?_
    refine wa_aload_n 0 dX3_append_47 rfl rfl ?_
    refine wa_getf dX3_append_48 gX3_192 (w_set_self (w_sne (w_set_self hm) (by omega))) rfl ?_
    refine wa_iret FieldType.int dX3_append_51 rfl rfl (Nat.le_of_ble_eq_true rfl) (Nat.le_of_ble_eq_true rfl) ?_
    refine ⟨((w_fr.rf.set z_mEm).set ⟨by omega, by omega⟩).set z_mEm, rfl, is, rr, rc, f, sv, pf, upd ip (z_txt S).length v, ?_⟩
    have h0 := h.thr 0
    obtain ⟨g1, g2, g3, g4, g5, g6, g7⟩ := h0
    have hL : (z_txt (z_app S v)).length = (z_txt S).length + 1 := List.length_append
    refine ⟨?_, w_sne (w_sne g2 (by omega)) (by omega), w_sne (w_sne g3 (by omega)) (by omega), w_sne (w_sne g4 (by omega)) (by omega), w_sne (w_set_self g5) (by omega), g6.keep (W := fun q => q = m ∨ q = m + 11) ((w_fr.rf.set (Or.inr rfl)).set (Or.inl rfl)) (fun q z1 z2 z3 => by omega), hR.1, hR.2.1, hR.2.2.1, hR.2.2.2.1, by rw [hL]; omega, fun i y hi => ?_, hR.2.2.2.2.2.2⟩
    · rw [hL]
      exact w_set_self (w_sne (w_set_self hm) (by omega))
    · have hi : (z_txt S ++ [v])[i]? = some y := hi
      by_cases e : i = (z_txt S).length
      · subst e
        rw [List.getElem?_append_right (Nat.le_refl _), Nat.sub_self] at hi
        cases hi
        exact if_pos rfl
      · have hlt : i < (z_txt S).length := by have := (List.getElem?_eq_some_iff.mp hi).1; rw [List.length_append] at this; simp only [List.length_cons, List.length_nil] at this; omega
        rw [List.getElem?_append_left hlt] at hi
        show (if i = (z_txt S).length then v else ip i) = y
        rw [if_neg e]
        exact hR.2.2.2.2.2.1 i y hi
  · have ea : z_appX S v = .inr "java/lang/IllegalStateException" := if_neg hl
    rw [ea]
    have e60 : (z_txt S).length = 60 := by omega
    refine w_start (by decide) (Nat.le_of_ble_eq_true rfl) (fun X => ?_)
    refine wa_locals [(0, _), (1, _)] [0, 1] rfl ?_
    refine wa_aload_n 0 dX3_append_0 rfl rfl ?_
    refine wa_aload_n 0 dX3_append_1 rfl rfl ?_
    refine wa_getf dX3_append_2 gX3_192 hm rfl ?_
    refine wa_bipush (60) dX3_append_5 (by decide) ?_
    refine wa_icmp_ne 14 dX3_append_7 rfl (fun c7 => absurd (congrArg nI e60) c7) (fun c7 => ?_)
    refine wa_iconst (1) dX3_append_10 (by decide) ?_
    refine wa_goto 15 dX3_append_11 rfl ?_
    refine wa_putf [_, _, _, _, _, _, _, _, _, _, _, _, _, _, _, _, _, _, _, _] dX3_append_15 pX3_49 hm (Nat.le_of_ble_eq_true rfl) rfl rfl rfl ?_
    refine wa_aload_n 0 dX3_append_18 rfl rfl ?_
    refine wa_getf dX3_append_19 gX3_49 (w_set_self hm) rfl ?_
    refine wa_if_le 27 dX3_append_22 rfl (fun c22 => absurd c22 (by decide)) (fun c22 => ?_)
    refine wa_iconst (0) dX3_append_25 (by decide) ?_
    refine wa_iret FieldType.int dX3_append_26 rfl rfl (Nat.le_of_ble_eq_true rfl) (Nat.le_of_ble_eq_true rfl) ?_
    exact ⟨(w_fr.rf.set z_mEm), _, rfl, (h.thr 1).md⟩
theorem sp_mreason (h : z_mod b M m S th) {v : Int32} : w_S l G tX3_reason (6, 0, 0) [.ref m, .int v] M (z_mX b M m (z_whyX S v) S) := by
  obtain ⟨is, rr, rc, f, sv, pf, ip, h⟩ := h
  obtain ⟨hm, hf, -⟩ := id h
  have H := h.mh
  have hr := h.mr
  have hg := h.gd
  have hs := hg.1
  have hh := hg.2.2.2.2.2.2.2
  have hsz := hs.size
  have hR6 : (z_robs (z_cur S)).length ≤ 6 := hs.2.2.2.2.1
  have hO10 : (z_ords (z_cur S)).length ≤ 10 := hs.2.2.2.2.2.1
  have hw := h.2.2.2.2.2.2.2.2.2.2.2.2
  by_cases hz : z_why S = 0
  · have ea : z_whyX S v = .inr "java/util/NoSuchElementException" := if_neg (by rw [hz]; decide)
    rw [ea]
    refine w_start (by decide) (Nat.le_of_ble_eq_true rfl) (fun X => ?_)
    refine wa_locals [(0, _), (1, _)] [0, 1] rfl ?_
    refine wa_aload_n 0 dX3_reason_0 rfl rfl ?_
    refine wa_aload_n 0 dX3_reason_1 rfl rfl ?_
    refine wa_getf dX3_reason_2 gX3_61 hm rfl ?_
    refine wa_if_ne 12 dX3_reason_5 rfl (fun c5 => absurd hz c5) (fun c5 => ?_)
    refine wa_iconst (1) dX3_reason_8 (by decide) ?_
    refine wa_goto 13 dX3_reason_9 rfl ?_
    refine wa_putf [_, _, _, _, _, _, _, _, _, _, _, _, _, _, _, _, _, _, _, _] dX3_reason_13 pX3_49 hm (Nat.le_of_ble_eq_true rfl) rfl rfl rfl ?_
    refine wa_aload_n 0 dX3_reason_16 rfl rfl ?_
    refine wa_getf dX3_reason_17 gX3_49 (w_set_self hm) rfl ?_
    refine wa_if_le 27 dX3_reason_20 rfl (fun c20 => absurd c20 (by decide)) (fun c20 => ?_)
    refine wa_iconst (0) dX3_reason_23 (by decide) ?_
    refine wa_goto 42 dX3_reason_24 rfl ?_
    refine wa_iret FieldType.int dX3_reason_42 rfl rfl (Nat.le_of_ble_eq_true rfl) (Nat.le_of_ble_eq_true rfl) ?_
    exact ⟨(w_fr.rf.set z_mEm), _, rfl, (h.thr 1).md⟩
  · have ea : z_whyX S v = .inl (.int (if v = 0 then z_why S else z_det S), S) := if_pos (Int32.lt_of_le_of_ne hw (fun z => hz z.symm))
    rw [ea]
    refine w_start (by decide) (Nat.le_of_ble_eq_true rfl) (fun X => ?_)
    refine wa_locals [(0, _), (1, _)] [0, 1] rfl ?_
    refine wa_aload_n 0 dX3_reason_0 rfl rfl ?_
    refine wa_aload_n 0 dX3_reason_1 rfl rfl ?_
    refine wa_getf dX3_reason_2 gX3_61 hm rfl ?_
    refine wa_if_ne 12 dX3_reason_5 rfl (fun c5 => ?_) (fun c5 => absurd c5 hz)
    refine wa_iconst (0) dX3_reason_12 (by decide) ?_
    refine wa_putf [_, _, _, _, _, _, _, _, _, _, _, _, _, _, _, _, _, _, _, _] dX3_reason_13 pX3_49 hm (Nat.le_of_ble_eq_true rfl) rfl rfl rfl ?_
    refine wa_aload_n 0 dX3_reason_16 rfl rfl ?_
    refine wa_getf dX3_reason_17 gX3_49 (w_set_self hm) rfl ?_
    refine wa_if_le 27 dX3_reason_20 rfl (fun c20 => ?_) (fun c20 => absurd (by decide) c20)
    refine wa_iload_n 1 dX3_reason_27 rfl rfl ?_
    refine wa_if_eq 38 dX3_reason_28 rfl (fun c28 => ?_) (fun c28 => ?_)
    ·
      refine wa_aload_n 0 dX3_reason_38 rfl rfl ?_
      refine wa_getf dX3_reason_39 gX3_61 (w_set_self hm) rfl ?_
      refine wa_iret FieldType.int dX3_reason_42 rfl rfl (Nat.le_of_ble_eq_true rfl) (Nat.le_of_ble_eq_true rfl) ?_
      exact ⟨(w_fr.rf.set z_mEm), by rw [if_pos c28], (h.thr 0).md⟩
    ·
      refine wa_aload_n 0 dX3_reason_31 rfl rfl ?_
      refine wa_getf dX3_reason_32 gX3_64 (w_set_self hm) rfl ?_
      refine wa_goto 42 dX3_reason_35 rfl ?_
      refine wa_iret FieldType.int dX3_reason_42 rfl rfl (Nat.le_of_ble_eq_true rfl) (Nat.le_of_ble_eq_true rfl) ?_
      exact ⟨(w_fr.rf.set z_mEm), by rw [if_neg c28], (h.thr 0).md⟩
theorem sp_mfault (h : z_mod b M m S th) : w_S l G tX3_faultPosition (6, 0, 0) [.ref m] M (z_mA b M m S (.inl (z_flt S))) := by
  obtain ⟨is, rr, rc, f, sv, pf, ip, h⟩ := h
  obtain ⟨hm, hf, -⟩ := id h
  have H := h.mh
  have hr := h.mr
  have hg := h.gd
  have hs := hg.1
  have hh := hg.2.2.2.2.2.2.2
  have hsz := hs.size
  have hR6 : (z_robs (z_cur S)).length ≤ 6 := hs.2.2.2.2.1
  have hO10 : (z_ords (z_cur S)).length ≤ 10 := hs.2.2.2.2.2.1
  refine w_start (by decide) (Nat.le_of_ble_eq_true rfl) (fun X => ?_)
  refine wa_locals [(0, _)] [0] rfl ?_
  refine wa_aload_n 0 dX3_faultPosition_0 rfl rfl ?_
  refine wa_iconst (0) dX3_faultPosition_1 (by decide) ?_
  refine wa_putf [_, _, _, _, _, _, _, _, _, _, _, _, _, _, _, _, _, _, _, _] dX3_faultPosition_2 pX3_49 hm (Nat.le_of_ble_eq_true rfl) rfl rfl rfl ?_
  refine wa_aload_n 0 dX3_faultPosition_5 rfl rfl ?_
  refine wa_getf dX3_faultPosition_6 gX3_45 (w_set_self hm) rfl ?_
  refine wa_iret FieldType.int dX3_faultPosition_9 rfl rfl (Nat.le_of_ble_eq_true rfl) (Nat.le_of_ble_eq_true rfl) ?_
  exact ⟨_, rfl, (w_fr.rf.set z_mEm), rfl, (h.thr 0).md⟩
theorem sp_mundo (h : z_mod b M m S th) : w_S l G tX3_undo (6, 0, 0) [.ref m] M (z_mX b M m (z_undoX S) S) := by
  obtain ⟨is, rr, rc, f, sv, pf, ip, h⟩ := h
  obtain ⟨hm, hf, -⟩ := id h
  have H := h.mh
  have hr := h.mr
  have hg := h.gd
  have hs := hg.1
  have hh := hg.2.2.2.2.2.2.2
  have hsz := hs.size
  have hR6 : (z_robs (z_cur S)).length ≤ 6 := hs.2.2.2.2.1
  have hO10 : (z_ords (z_cur S)).length ≤ 10 := hs.2.2.2.2.2.1
  have hR := h.2.2.2.2.2.2
  have h8 := hR.2.1
  have hpf := h.2.2.2.1
  cases hl : (z_past S)[(z_past S).length - 1]? with
  | none =>
    have hz : (z_past S).length = 0 := by have := List.getElem?_eq_none_iff.mp hl; omega
    have ea : z_undoX S = .inr "java/lang/IllegalStateException" := by unfold z_undoX; rw [hl]
    rw [ea]
    refine w_start (by decide) (Nat.le_of_ble_eq_true rfl) (fun X => ?_)
    refine wa_locals [(0, _)] [0] rfl ?_
    refine wa_aload_n 0 dX3_undo_0 rfl rfl ?_
    refine wa_aload_n 0 dX3_undo_1 rfl rfl ?_
    refine wa_getf dX3_undo_2 gX3_52 hm rfl ?_
    refine wa_if_ne 12 dX3_undo_5 rfl (fun c5 => absurd (congrArg nI hz) c5) (fun c5 => ?_)
    refine wa_iconst (1) dX3_undo_8 (by decide) ?_
    refine wa_goto 13 dX3_undo_9 rfl ?_
    refine wa_putf [_, _, _, _, _, _, _, _, _, _, _, _, _, _, _, _, _, _, _, _] dX3_undo_13 pX3_49 hm (Nat.le_of_ble_eq_true rfl) rfl rfl rfl ?_
    refine wa_aload_n 0 dX3_undo_16 rfl rfl ?_
    refine wa_getf dX3_undo_17 gX3_49 (w_set_self hm) rfl ?_
    refine wa_if_le 25 dX3_undo_20 rfl (fun c20 => absurd c20 (by decide)) (fun c20 => ?_)
    refine wa_iconst (0) dX3_undo_23 (by decide) ?_
    refine wa_iret FieldType.int dX3_undo_24 rfl rfl (Nat.le_of_ble_eq_true rfl) (Nat.le_of_ble_eq_true rfl) ?_
    exact ⟨(w_fr.rf.set z_mEm), _, rfl, (h.thr 1).md⟩
  | some c' =>
    have hlt := (List.getElem?_eq_some_iff.mp hl).1
    have ea : z_undoX S = .inl (.int (nI ((z_past S).length - 1)), z_undo S c') := by unfold z_undoX; rw [hl]
    rw [ea]
    have hz : ¬ nI (z_past S).length = 0 := nI_ne0 (by omega) (by omega)
    have ep : nI (z_past S).length - 1 = nI ((z_past S).length - 1) := pk_sub (b := 1) (by omega)
    have hL : (z_past (z_undo S c')).length = (z_past S).length - 1 := List.length_eraseIdx_of_lt hlt
    obtain ⟨hgc, hmc⟩ := hR.2.2.1 _ _ hl
    refine w_start (by decide) (Nat.le_of_ble_eq_true rfl) (fun X => ?_)
    refine wa_locals [(0, _)] [0] rfl ?_
    refine wa_aload_n 0 dX3_undo_0 rfl rfl ?_
    refine wa_aload_n 0 dX3_undo_1 rfl rfl ?_
    refine wa_getf dX3_undo_2 gX3_52 hm rfl ?_
    refine wa_if_ne 12 dX3_undo_5 rfl (fun c5 => ?_) (fun c5 => absurd c5 hz)
    refine wa_iconst (0) dX3_undo_12 (by decide) ?_
    refine wa_putf [_, _, _, _, _, _, _, _, _, _, _, _, _, _, _, _, _, _, _, _] dX3_undo_13 pX3_49 hm (Nat.le_of_ble_eq_true rfl) rfl rfl rfl ?_
    refine wa_aload_n 0 dX3_undo_16 rfl rfl ?_
    refine wa_getf dX3_undo_17 gX3_49 (w_set_self hm) rfl ?_
    refine wa_if_le 25 dX3_undo_20 rfl (fun c20 => ?_) (fun c20 => absurd (by decide) c20)
    refine wa_aload_n 0 dX3_undo_25 rfl rfl ?_
    refine wa_dup dX3_undo_26 rfl ?_
    refine wa_getf dX3_undo_27 gX3_52 (w_set_self hm) rfl ?_
    refine wa_iconst (1) dX3_undo_30 (by decide) ?_
    refine wa_isub dX3_undo_31 ?_
    rw [ep]
    refine wa_putf [_, _, _, _, _, _, _, _, _, _, _, _, _, _, _, _, _, _, _, _] dX3_undo_32 pX3_52 (w_set_self hm) (Nat.le_of_ble_eq_true rfl) rfl rfl rfl ?_
    refine wa_aload_n 0 dX3_undo_35 rfl rfl ?_
    refine wa_getf dX3_undo_36 gX3_16 (w_set_self (w_set_self hm)) rfl ?_
    refine wa_sipush (400) dX3_undo_39 (by decide) ?_
    refine wa_aload_n 0 dX3_undo_42 rfl rfl ?_
    refine wa_getf dX3_undo_43 gX3_52 (w_set_self (w_set_self hm)) rfl ?_
    refine wa_imul dX3_undo_46 ?_
    refine wa_aload_n 0 dX3_undo_47 rfl rfl ?_
    refine wa_getf dX3_undo_48 gX3_9 (w_set_self (w_set_self hm)) rfl ?_
    refine wa_iconst (0) dX3_undo_51 (by decide) ?_
    refine wa_sipush (400) dX3_undo_52 (by decide) ?_
    rw [show (400 : Int32) * nI ((z_past S).length - 1) = nI (400 * ((z_past S).length - 1)) from pk_mul 400 _]
    refine wa_copyi (400 * ((z_past S).length - 1)) 0 400 dX3_undo_55 q2037 (w_sne (w_sne hpf (by omega)) (by omega)) (w_sne (w_sne hf (by omega)) (by omega)) rfl rfl rfl (by omega) (by decide) (by decide) (by decide) rfl (Nat.le_of_ble_eq_true rfl) ?_
    refine wa_aload_n 0 dX3_undo_58 rfl rfl ?_
    refine wa_getf dX3_undo_59 gX3_52 (w_sne (w_set_self (w_set_self hm)) (by omega)) rfl ?_
    refine wa_iret FieldType.int dX3_undo_62 rfl rfl (Nat.le_of_ble_eq_true rfl) (Nat.le_of_ble_eq_true rfl) ?_
    refine ⟨((w_fr.rf.set z_mEm).set z_mEm).set ⟨by omega, by omega⟩, rfl, is, rr, rc, va_cpy pf f (400 * ((z_past S).length - 1)) 0 400, sv, pf, ip, ?_⟩
    obtain ⟨g1, g2, g3, g4, g5, g6, g7⟩ := id h
    refine ⟨?_, w_set_self (w_sne (w_sne hf (by omega)) (by omega)), w_sne (w_sne (w_sne g3 (by omega)) (by omega)) (by omega), w_sne (w_sne (w_sne g4 (by omega)) (by omega)) (by omega), w_sne (w_sne (w_sne g5 (by omega)) (by omega)) (by omega), g6.keep (W := fun q => q = m ∨ q = m + 1) (((w_fr.rf.set (Or.inl rfl)).set (Or.inl rfl)).set (Or.inr rfl)) (fun q z1 z2 z3 => by omega), ⟨?_, hgc⟩, by rw [hL]; omega, fun i y hi => ?_, hR.2.2.2⟩
    · rw [hL]
      exact w_sne (w_set_self (w_set_self hm)) (by omega)
    · refine z_mr_eq hmc hgc.1 (fun j hj => ?_)
      unfold va_cpy
      rw [if_pos (by omega), Nat.sub_zero]
    · have hi2 := (List.getElem?_eq_some_iff.mp hi).1
      rw [hL] at hi2
      have hi : ((z_past S).eraseIdx ((z_past S).length - 1))[i]? = some y := hi
      rw [List.getElem?_eraseIdx, if_pos hi2] at hi
      exact hR.2.2.1 i y hi
theorem sp_msave (h : z_mod b M m S th) : w_S l G tX3_save (6, 0, 0) [.ref m] M (z_mX b M m (.inl (.int (nI (z_robs (z_cur S)).length), z_save S)) S) := by
  obtain ⟨is, rr, rc, f, sv, pf, ip, h⟩ := h
  obtain ⟨hm, hf, -⟩ := id h
  have H := h.mh
  have hr := h.mr
  have hg := h.gd
  have hs := hg.1
  have hh := hg.2.2.2.2.2.2.2
  have hsz := hs.size
  have hR6 : (z_robs (z_cur S)).length ≤ 6 := hs.2.2.2.2.1
  have hO10 : (z_ords (z_cur S)).length ≤ 10 := hs.2.2.2.2.2.1
  have hR := h.2.2.2.2.2.2
  have hsv := h.2.2.1
  refine w_start (by decide) (Nat.le_of_ble_eq_true rfl) (fun X => ?_)
  refine wa_locals [(0, _)] [0] rfl ?_
  refine wa_aload_n 0 dX3_save_0 rfl rfl ?_
  refine wa_iconst (0) dX3_save_1 (by decide) ?_
  refine wa_putf [_, _, _, _, _, _, _, _, _, _, _, _, _, _, _, _, _, _, _, _] dX3_save_2 pX3_49 hm (Nat.le_of_ble_eq_true rfl) rfl rfl rfl ?_
  refine wa_aload_n 0 dX3_save_5 rfl rfl ?_
  refine wa_getf dX3_save_6 gX3_9 (w_set_self hm) rfl ?_
  refine wa_iconst (0) dX3_save_9 (by decide) ?_
  refine wa_aload_n 0 dX3_save_10 rfl rfl ?_
  refine wa_getf dX3_save_11 gX3_13 (w_set_self hm) rfl ?_
  refine wa_iconst (0) dX3_save_14 (by decide) ?_
  refine wa_sipush (400) dX3_save_15 (by decide) ?_
  refine wa_copyi 0 0 400 dX3_save_18 q2037 (w_sne hf (by omega)) (w_sne hsv (by omega)) rfl rfl rfl (by decide) (by decide) (by decide) (by decide) rfl (Nat.le_of_ble_eq_true rfl) ?_
  refine wa_aload_n 0 dX3_save_21 rfl rfl ?_
  refine wa_iconst (1) dX3_save_22 (by decide) ?_
  refine wa_putf [_, _, _, _, _, _, _, _, _, _, _, _, _, _, _, _, _, _, _, _] dX3_save_23 pX3_207 (w_sne (w_set_self hm) (by omega)) (Nat.le_of_ble_eq_true rfl) rfl rfl rfl ?_
  refine wa_aload_n 0 dX3_save_26 rfl rfl ?_
  refine wa_getf dX3_save_27 gX3_9 (w_set_self (w_sne (w_set_self hm) (by omega))) rfl ?_
  refine wa_iconst (3) dX3_save_30 (by decide) ?_
  refine wa_iald dX3_save_31 (w_sne (w_sne (w_sne hf (by omega)) (by omega)) (by omega)) (vp_in_nI (n := 3) (by omega) (by omega)) ?_
  rw [hr.rn]
  refine wa_iret FieldType.int dX3_save_32 rfl rfl (Nat.le_of_ble_eq_true rfl) (Nat.le_of_ble_eq_true rfl) ?_
  refine ⟨((w_fr.rf.set z_mEm).set ⟨by omega, by omega⟩).set z_mEm, rfl, 1, rr, rc, f, va_cpy f sv 0 0 400, pf, ip, ?_⟩
  obtain ⟨g1, g2, g3, g4, g5, g6, g7⟩ := id h
  refine ⟨w_set_self (w_sne (w_set_self hm) (by omega)), w_sne (w_sne (w_sne hf (by omega)) (by omega)) (by omega), w_sne (w_set_self (w_sne g3 (by omega))) (by omega), w_sne (w_sne (w_sne g4 (by omega)) (by omega)) (by omega), w_sne (w_sne (w_sne g5 (by omega)) (by omega)) (by omega), g6.keep (W := fun q => q = m ∨ q = m + 2) (((w_fr.rf.set (Or.inl rfl)).set (Or.inr rfl)).set (Or.inl rfl)) (fun q z1 z2 z3 => by omega), hR.1, hR.2.1, hR.2.2.1, ?_, hR.2.2.2.2⟩
  refine ⟨rfl, hg, z_mr_eq hr hs (fun j hj => ?_)⟩
  unfold va_cpy
  rw [if_pos (by omega), Nat.sub_zero, Nat.zero_add]
theorem sp_mrestore (h : z_mod b M m S th) : w_S l G tX3_restore (6, 0, 0) [.ref m] M (z_mX b M m (z_restX S) S) := by
  obtain ⟨is, rr, rc, f, sv, pf, ip, h⟩ := h
  obtain ⟨hm, hf, -⟩ := id h
  have H := h.mh
  have hr := h.mr
  have hg := h.gd
  have hs := hg.1
  have hh := hg.2.2.2.2.2.2.2
  have hsz := hs.size
  have hR6 : (z_robs (z_cur S)).length ≤ 6 := hs.2.2.2.2.1
  have hO10 : (z_ords (z_cur S)).length ≤ 10 := hs.2.2.2.2.2.1
  have hR := h.2.2.2.2.2.2
  have hsv := h.2.2.1
  have hS := hR.2.2.2.1
  cases hl : z_sav S with
  | none =>
    rw [hl] at hS
    have hS : is = 0 := hS
    have ea : z_restX S = .inr "java/lang/IllegalStateException" := by unfold z_restX; rw [hl]
    rw [ea]
    refine w_start (by decide) (Nat.le_of_ble_eq_true rfl) (fun X => ?_)
    refine wa_locals [(0, _)] [0] rfl ?_
    refine wa_aload_n 0 dX3_restore_0 rfl rfl ?_
    refine wa_aload_n 0 dX3_restore_1 rfl rfl ?_
    refine wa_getf dX3_restore_2 gX3_207 hm rfl ?_
    refine wa_if_eq 12 dX3_restore_5 rfl (fun c5 => ?_) (fun c5 => absurd hS c5)
    refine wa_iconst (1) dX3_restore_12 (by decide) ?_
    refine wa_putf [_, _, _, _, _, _, _, _, _, _, _, _, _, _, _, _, _, _, _, _] dX3_restore_13 pX3_49 hm (Nat.le_of_ble_eq_true rfl) rfl rfl rfl ?_
    refine wa_aload_n 0 dX3_restore_16 rfl rfl ?_
    refine wa_getf dX3_restore_17 gX3_49 (w_set_self hm) rfl ?_
    refine wa_if_le 25 dX3_restore_20 rfl (fun c20 => absurd c20 (by decide)) (fun c20 => ?_)
    refine wa_iconst (0) dX3_restore_23 (by decide) ?_
    refine wa_iret FieldType.int dX3_restore_24 rfl rfl (Nat.le_of_ble_eq_true rfl) (Nat.le_of_ble_eq_true rfl) ?_
    exact ⟨(w_fr.rf.set z_mEm), _, rfl, (h.thr 1).md⟩
  | some c' =>
    rw [hl] at hS
    obtain ⟨his, hgc, hmc⟩ := hS
    have ea : z_restX S = .inl (.int (nI (z_robs c').length), z_rest S c') := by unfold z_restX; rw [hl]
    rw [ea]
    have hmr : z_mr c' (va_cpy sv f 0 0 400) := by
      refine z_mr_eq hmc hgc.1 (fun j hj => ?_)
      unfold va_cpy
      rw [if_pos (by omega), Nat.sub_zero, Nat.zero_add]
    refine w_start (by decide) (Nat.le_of_ble_eq_true rfl) (fun X => ?_)
    refine wa_locals [(0, _)] [0] rfl ?_
    refine wa_aload_n 0 dX3_restore_0 rfl rfl ?_
    refine wa_aload_n 0 dX3_restore_1 rfl rfl ?_
    refine wa_getf dX3_restore_2 gX3_207 hm rfl ?_
    refine wa_if_eq 12 dX3_restore_5 rfl (fun c5 => absurd (his.symm.trans c5) (by decide)) (fun c5 => ?_)
    refine wa_iconst (0) dX3_restore_8 (by decide) ?_
    refine wa_goto 13 dX3_restore_9 rfl ?_
    refine wa_putf [_, _, _, _, _, _, _, _, _, _, _, _, _, _, _, _, _, _, _, _] dX3_restore_13 pX3_49 hm (Nat.le_of_ble_eq_true rfl) rfl rfl rfl ?_
    refine wa_aload_n 0 dX3_restore_16 rfl rfl ?_
    refine wa_getf dX3_restore_17 gX3_49 (w_set_self hm) rfl ?_
    refine wa_if_le 25 dX3_restore_20 rfl (fun c20 => ?_) (fun c20 => absurd (by decide) c20)
    refine wa_aload_n 0 dX3_restore_25 rfl rfl ?_
    refine wa_getf dX3_restore_26 gX3_13 (w_set_self hm) rfl ?_
    refine wa_iconst (0) dX3_restore_29 (by decide) ?_
    refine wa_aload_n 0 dX3_restore_30 rfl rfl ?_
    refine wa_getf dX3_restore_31 gX3_9 (w_set_self hm) rfl ?_
    refine wa_iconst (0) dX3_restore_34 (by decide) ?_
    refine wa_sipush (400) dX3_restore_35 (by decide) ?_
    refine wa_copyi 0 0 400 dX3_restore_38 q2037 (w_sne hsv (by omega)) (w_sne hf (by omega)) rfl rfl rfl (by decide) (by decide) (by decide) (by decide) rfl (Nat.le_of_ble_eq_true rfl) ?_
    refine wa_aload_n 0 dX3_restore_41 rfl rfl ?_
    refine wa_iconst (0) dX3_restore_42 (by decide) ?_
    refine wa_putf [_, _, _, _, _, _, _, _, _, _, _, _, _, _, _, _, _, _, _, _] dX3_restore_43 pX3_52 (w_sne (w_set_self hm) (by omega)) (Nat.le_of_ble_eq_true rfl) rfl rfl rfl ?_
    refine wa_aload_n 0 dX3_restore_46 rfl rfl ?_
    refine wa_getf dX3_restore_47 gX3_9 (w_set_self (w_sne (w_set_self hm) (by omega))) rfl ?_
    refine wa_iconst (3) dX3_restore_50 (by decide) ?_
    refine wa_iald dX3_restore_51 (w_sne (w_set_self (w_sne hf (by omega))) (by omega)) (vp_in_nI (n := 3) (by omega) (by omega)) ?_
    rw [hmr.rn]
    refine wa_iret FieldType.int dX3_restore_52 rfl rfl (Nat.le_of_ble_eq_true rfl) (Nat.le_of_ble_eq_true rfl) ?_
    refine ⟨((w_fr.rf.set z_mEm).set ⟨by omega, by omega⟩).set z_mEm, rfl, is, rr, rc, va_cpy sv f 0 0 400, sv, pf, ip, ?_⟩
    obtain ⟨g1, g2, g3, g4, g5, g6, g7⟩ := id h
    exact ⟨w_set_self (w_sne (w_set_self hm) (by omega)), w_sne (w_set_self (w_sne hf (by omega))) (by omega), w_sne (w_sne (w_sne g3 (by omega)) (by omega)) (by omega), w_sne (w_sne (w_sne g4 (by omega)) (by omega)) (by omega), w_sne (w_sne (w_sne g5 (by omega)) (by omega)) (by omega), g6.keep (W := fun q => q = m ∨ q = m + 1) (((w_fr.rf.set (Or.inl rfl)).set (Or.inr rfl)).set (Or.inl rfl)) (fun q z1 z2 z3 => by omega), ⟨hmr, hgc⟩, Nat.zero_le _, fun (i : Nat) (y : z_C) (hi : ([] : List z_C)[i]? = some y) => (by simp at hi), ⟨his, hgc, hmc⟩, hR.2.2.2.2⟩
theorem sp_mloaded (h : z_mod b M m S th) : w_S l G tX3_loaded (6, 0, 0) [.ref m] M (z_mX b M m (z_loadedX S) S) := by
  obtain ⟨is, rr, rc, f, sv, pf, ip, h⟩ := h
  obtain ⟨hm, hf, -⟩ := id h
  have H := h.mh
  have hr := h.mr
  have hg := h.gd
  have hs := hg.1
  have hh := hg.2.2.2.2.2.2.2
  have hsz := hs.size
  have hR6 : (z_robs (z_cur S)).length ≤ 6 := hs.2.2.2.2.1
  have hO10 : (z_ords (z_cur S)).length ≤ 10 := hs.2.2.2.2.2.1
  by_cases hz : (z_robs (z_cur S)).length = 0
  · have ea : z_loadedX S = .inr "java/lang/ArithmeticException" := if_pos hz
    rw [ea]
    refine w_start (by decide) (Nat.le_of_ble_eq_true rfl) (fun X => ?_)
    refine wa_locals [(0, _)] [0] rfl ?_
    refine wa_aload_n 0 dX3_loaded_0 rfl rfl ?_
    refine wa_aload_n 0 dX3_loaded_1 rfl rfl ?_
    refine wa_getf dX3_loaded_2 gX3_9 hm rfl ?_
    refine wa_iconst (3) dX3_loaded_5 (by decide) ?_
    refine wa_iald dX3_loaded_6 hf (vp_in_nI (n := 3) (by omega) (by omega)) ?_
    rw [hr.rn]
    refine wa_if_ne 14 dX3_loaded_7 rfl (fun c7 => absurd (congrArg nI hz) c7) (fun c7 => ?_)
    refine wa_iconst (1) dX3_loaded_10 (by decide) ?_
    refine wa_goto 15 dX3_loaded_11 rfl ?_
    refine wa_putf [_, _, _, _, _, _, _, _, _, _, _, _, _, _, _, _, _, _, _, _] dX3_loaded_15 pX3_49 hm (Nat.le_of_ble_eq_true rfl) rfl rfl rfl ?_
    refine wa_aload_n 0 dX3_loaded_18 rfl rfl ?_
    refine wa_getf dX3_loaded_19 gX3_49 (w_set_self hm) rfl ?_
    refine wa_if_le 27 dX3_loaded_22 rfl (fun c22 => absurd c22 (by decide)) (fun c22 => ?_)
    refine wa_fconst0 dX3_loaded_25 ?_
    refine wa_fret dX3_loaded_26 rfl (Nat.le_of_ble_eq_true rfl) (Nat.le_of_ble_eq_true rfl) ?_
    exact ⟨(w_fr.rf.set z_mEm), _, rfl, (h.thr 1).md⟩
  · have ea : z_loadedX S = .inl (.float (FP.fdiv (FP.i2f (z_ldN (z_cur S))) (FP.i2f (nI (z_robs (z_cur S)).length))), S) := if_neg hz
    rw [ea]
    obtain ⟨mm, hm1, -, hm3⟩ := z_sum01 (p := fun r => z_loaded (z_cur S) r = true) (z_robs (z_cur S)) 0
    have hm1 : z_ldN (z_cur S) = nI mm := hm1
    have hn32 : vf_n32 (FP.fdiv (FP.i2f (z_ldN (z_cur S))) (FP.i2f (nI (z_robs (z_cur S)).length))) := by
      rw [hm1]
      exact z_f32 ⟨mm, by omega⟩ ⟨(z_robs (z_cur S)).length, by omega⟩ hz
    have h0 := h.thr 0
    have H0 := h0.mh
    refine w_start (by decide) (Nat.le_of_ble_eq_true rfl) (fun X => ?_)
    refine wa_locals [(0, _)] [0] rfl ?_
    have LP : ∀ (n k : Nat) (v : Int32), k + n = (z_robs (z_cur S)).length → z_sum (fun r => if z_loaded (z_cur S) r = true then 1 else 0) ((z_robs (z_cur S)).drop k) v = z_ldN (z_cur S) → w_A l G tX3_loaded (6, 0, 0) X 0 0 (M.set m (z_mo m is (nI (z_past S).length) 0 (z_why S) (z_det S) (nI (z_txt S).length) (z_flt S) rr rc)) 31 [(2, .int (nI k)), (1, .int v), (0, .ref m)] [] (z_mX b M m (.inl (.float (FP.fdiv (FP.i2f (z_ldN (z_cur S))) (FP.i2f (nI (z_robs (z_cur S)).length))), S)) S) := by
      intro n
      induction n with
      | zero =>
        intro k v hn e
        rw [z_sum_end (by omega)] at e
        refine wa_iload_n 0 dX3_loaded_31 rfl rfl ?_
        refine wa_aload_n 2 dX3_loaded_32 rfl rfl ?_
        refine wa_getf dX3_loaded_33 gX3_9 h0.1 rfl ?_
        refine wa_iconst (3) dX3_loaded_36 (by decide) ?_
        refine wa_iald dX3_loaded_37 h0.2.1 (vp_in_nI (n := 3) (by omega) (by omega)) ?_
        rw [hr.rn]
        refine wa_icmp_ge 63 dX3_loaded_38 rfl (fun c38 => ?_) (fun c38 => absurd (nI_le (by omega) (by omega)) c38)
        refine wa_iload_n 1 dX3_loaded_63 rfl rfl ?_
        rw [e]
        refine wa_i2f dX3_loaded_64 ?_
        refine wa_aload_n 2 dX3_loaded_65 rfl rfl ?_
        refine wa_getf dX3_loaded_66 gX3_9 h0.1 rfl ?_
        refine wa_iconst (3) dX3_loaded_69 (by decide) ?_
        refine wa_iald dX3_loaded_70 h0.2.1 (vp_in_nI (n := 3) (by omega) (by omega)) ?_
        rw [hr.rn]
        refine wa_i2f dX3_loaded_71 ?_
        refine wa_fdiv dX3_loaded_72 (by assumption) ?_
        refine wa_fret dX3_loaded_73 rfl (Nat.le_of_ble_eq_true rfl) (Nat.le_of_ble_eq_true rfl) ?_
        exact ⟨(w_fr.rf.set z_mEm), rfl, h0.md⟩
      | succ n ih =>
        intro k v hn e
        obtain ⟨r, hrr⟩ : ∃ r, (z_robs (z_cur S))[k]? = some r := ⟨_, List.getElem?_eq_getElem (by omega)⟩
        rw [z_sum_at hrr] at e
        refine wa_iload_n 0 dX3_loaded_31 rfl rfl ?_
        refine wa_aload_n 2 dX3_loaded_32 rfl rfl ?_
        refine wa_getf dX3_loaded_33 gX3_9 h0.1 rfl ?_
        refine wa_iconst (3) dX3_loaded_36 (by decide) ?_
        refine wa_iald dX3_loaded_37 h0.2.1 (vp_in_nI (n := 3) (by omega) (by omega)) ?_
        rw [hr.rn]
        refine wa_icmp_ge 63 dX3_loaded_38 rfl (fun c38 => absurd c38 (nI_lt_not (by omega) (by omega))) (fun c38 => ?_)
        refine wa_iload_n 1 dX3_loaded_41 rfl rfl ?_
        refine wa_aload_n 2 dX3_loaded_42 rfl rfl ?_
        refine wa_iload_n 0 dX3_loaded_43 rfl rfl ?_
        refine wc_isI (wr_V dX3_loaded_44 mX3_145 (sp_misLoaded H0 hr hs hrr) h0.1 rfl rfl rfl (Nat.le_of_ble_eq_true rfl)) ?_
        refine wa_if_eq 54 dX3_loaded_47 rfl (fun c47 => ?_) (fun c47 => ?_)
        ·
          refine wa_iconst (0) dX3_loaded_54 (by decide) ?_
          refine wa_iadd dX3_loaded_55 ?_
          refine wa_istore_n [(1, _), (2, _), (0, _)] dX3_loaded_56 rfl (Nat.le_of_ble_eq_true rfl) rfl ?_
          refine wa_iinc 1 [(2, _), (1, _), (0, _)] dX3_loaded_57 rfl (w_inc k) (Nat.le_of_ble_eq_true rfl) rfl ?_
          refine wa_goto 31 dX3_loaded_60 rfl ?_
          refine wa_locals [(2, _), (1, _), (0, _)] [0, 1, 2] rfl ?_
          exact ih (k + 1) _ (by omega) (by rw [← e]; congr 2; exact (if_neg (z_n c47)).symm)
        ·
          refine wa_iconst (1) dX3_loaded_50 (by decide) ?_
          refine wa_goto 55 dX3_loaded_51 rfl ?_
          refine wa_iadd dX3_loaded_55 ?_
          refine wa_istore_n [(1, _), (2, _), (0, _)] dX3_loaded_56 rfl (Nat.le_of_ble_eq_true rfl) rfl ?_
          refine wa_iinc 1 [(2, _), (1, _), (0, _)] dX3_loaded_57 rfl (w_inc k) (Nat.le_of_ble_eq_true rfl) rfl ?_
          refine wa_goto 31 dX3_loaded_60 rfl ?_
          refine wa_locals [(2, _), (1, _), (0, _)] [0, 1, 2] rfl ?_
          exact ih (k + 1) _ (by omega) (by rw [← e]; congr 2; exact (if_pos (z_y c47)).symm)
    refine wa_aload_n 0 dX3_loaded_0 rfl rfl ?_
    refine wa_aload_n 0 dX3_loaded_1 rfl rfl ?_
    refine wa_getf dX3_loaded_2 gX3_9 hm rfl ?_
    refine wa_iconst (3) dX3_loaded_5 (by decide) ?_
    refine wa_iald dX3_loaded_6 hf (vp_in_nI (n := 3) (by omega) (by omega)) ?_
    rw [hr.rn]
    refine wa_if_ne 14 dX3_loaded_7 rfl (fun c7 => ?_) (fun c7 => absurd ((nI_eq (by omega) (by decide)).mp c7) hz)
    refine wa_iconst (0) dX3_loaded_14 (by decide) ?_
    refine wa_putf [_, _, _, _, _, _, _, _, _, _, _, _, _, _, _, _, _, _, _, _] dX3_loaded_15 pX3_49 hm (Nat.le_of_ble_eq_true rfl) rfl rfl rfl ?_
    refine wa_aload_n 0 dX3_loaded_18 rfl rfl ?_
    refine wa_getf dX3_loaded_19 gX3_49 (w_set_self hm) rfl ?_
    refine wa_if_le 27 dX3_loaded_22 rfl (fun c22 => ?_) (fun c22 => absurd (by decide) c22)
    refine wa_iconst (0) dX3_loaded_27 (by decide) ?_
    refine wa_istore_n [(1, _), (0, _)] dX3_loaded_28 rfl (Nat.le_of_ble_eq_true rfl) rfl ?_
    refine wa_iconst (0) dX3_loaded_29 (by decide) ?_
    refine wa_istore_n [(2, _), (1, _), (0, _)] dX3_loaded_30 rfl (Nat.le_of_ble_eq_true rfl) rfl ?_
    refine wa_locals [(2, _), (1, _), (0, _)] [0, 1, 2] rfl ?_
    exact LP _ 0 0 (Nat.zero_add _) rfl
theorem sp_mlateness (h : z_mod b M m S th) : w_S l G tX3_lateness (6, 0, 0) [.ref m] M (z_mX b M m (z_lateX S) S) := by
  obtain ⟨is, rr, rc, f, sv, pf, ip, h⟩ := h
  obtain ⟨hm, hf, -⟩ := id h
  have H := h.mh
  have hr := h.mr
  have hg := h.gd
  have hs := hg.1
  have hh := hg.2.2.2.2.2.2.2
  have hsz := hs.size
  have hR6 : (z_robs (z_cur S)).length ≤ 6 := hs.2.2.2.2.1
  have hO10 : (z_ords (z_cur S)).length ≤ 10 := hs.2.2.2.2.2.1
  refine w_start (by decide) (Nat.le_of_ble_eq_true rfl) (fun X => ?_)
  refine wa_locals [(0, _)] [0] rfl ?_
  have LP : ∀ (n k : Nat) (v w : Int32), k + n = (z_ords (z_cur S)).length → z_sum (fun o => if nI (z_state o) = 2 then z_del o - z_due o else 0) ((z_ords (z_cur S)).drop k) v = z_lateN (z_cur S) → z_sum (fun o => if nI (z_state o) = 2 then 1 else 0) ((z_ords (z_cur S)).drop k) w = z_inSt (z_cur S) 2 → w_A l G tX3_lateness (6, 0, 0) X 0 0 M 6 [(3, .int (nI k)), (2, .int w), (1, .int v), (0, .ref m)] [] (z_mX b M m (z_lateX S) S) := by
    intro n
    induction n with
    | zero =>
      intro k v w hn e e2
      rw [z_sum_end (by omega)] at e e2
      by_cases hz : z_inSt (z_cur S) 2 = 0
      · have ea : z_lateX S = .inr "java/lang/ArithmeticException" := if_pos hz
        rw [ea]
        refine wa_iload_n 0 dX3_lateness_6 rfl rfl ?_
        refine wa_aload_n 3 dX3_lateness_7 rfl rfl ?_
        refine wa_getf dX3_lateness_8 gX3_9 hm rfl ?_
        refine wa_iconst (4) dX3_lateness_11 (by decide) ?_
        refine wa_iald dX3_lateness_12 hf (vp_in_nI (n := 4) (by omega) (by omega)) ?_
        rw [hr.on]
        refine wa_icmp_ge 50 dX3_lateness_13 rfl (fun c13 => ?_) (fun c13 => absurd (nI_le (by omega) (by omega)) c13)
        refine wa_aload_n 3 dX3_lateness_50 rfl rfl ?_
        refine wa_iload_n 1 dX3_lateness_51 rfl rfl ?_
        refine wa_if_ne 59 dX3_lateness_52 rfl (fun c52 => absurd (e2.trans hz) c52) (fun c52 => ?_)
        refine wa_iconst (1) dX3_lateness_55 (by decide) ?_
        refine wa_goto 60 dX3_lateness_56 rfl ?_
        refine wa_putf [_, _, _, _, _, _, _, _, _, _, _, _, _, _, _, _, _, _, _, _] dX3_lateness_60 pX3_49 hm (Nat.le_of_ble_eq_true rfl) rfl rfl rfl ?_
        refine wa_aload_n 3 dX3_lateness_63 rfl rfl ?_
        refine wa_getf dX3_lateness_64 gX3_49 (w_set_self hm) rfl ?_
        refine wa_if_le 74 dX3_lateness_67 rfl (fun c67 => absurd c67 (by decide)) (fun c67 => ?_)
        refine wa_dconst0 dX3_lateness_70 ?_
        refine wa_goto 79 dX3_lateness_71 rfl ?_
        refine wa_dret dX3_lateness_79 rfl (Nat.le_of_ble_eq_true rfl) (Nat.le_of_ble_eq_true rfl) ?_
        exact ⟨(w_fr.rf.set z_mEm), _, rfl, (h.thr 1).md⟩
      · have ea : z_lateX S = .inl (.double (FP.ddiv (FP.i2d (z_lateN (z_cur S))) (FP.i2d (z_inSt (z_cur S) 2))), S) := if_neg hz
        rw [ea]
        have hn64 : vf_n64 (FP.ddiv (FP.i2d (z_lateN (z_cur S))) (FP.i2d (z_inSt (z_cur S) 2))) := by
          obtain ⟨mm, hm1, -, hm3⟩ := z_sum01 (p := fun o => nI (z_state o) = 2) (z_ords (z_cur S)) 0
          have hm1 : z_inSt (z_cur S) 2 = nI mm := hm1
          rw [hm1] at hz ⊢
          exact z_d64 _ (fun q => hz (by rw [q]; rfl)) (by omega)
        refine wa_iload_n 0 dX3_lateness_6 rfl rfl ?_
        refine wa_aload_n 3 dX3_lateness_7 rfl rfl ?_
        refine wa_getf dX3_lateness_8 gX3_9 hm rfl ?_
        refine wa_iconst (4) dX3_lateness_11 (by decide) ?_
        refine wa_iald dX3_lateness_12 hf (vp_in_nI (n := 4) (by omega) (by omega)) ?_
        rw [hr.on]
        refine wa_icmp_ge 50 dX3_lateness_13 rfl (fun c13 => ?_) (fun c13 => absurd (nI_le (by omega) (by omega)) c13)
        refine wa_aload_n 3 dX3_lateness_50 rfl rfl ?_
        refine wa_iload_n 1 dX3_lateness_51 rfl rfl ?_
        refine wa_if_ne 59 dX3_lateness_52 rfl (fun c52 => ?_) (fun c52 => absurd (e2.symm.trans c52) hz)
        refine wa_iconst (0) dX3_lateness_59 (by decide) ?_
        refine wa_putf [_, _, _, _, _, _, _, _, _, _, _, _, _, _, _, _, _, _, _, _] dX3_lateness_60 pX3_49 hm (Nat.le_of_ble_eq_true rfl) rfl rfl rfl ?_
        refine wa_aload_n 3 dX3_lateness_63 rfl rfl ?_
        refine wa_getf dX3_lateness_64 gX3_49 (w_set_self hm) rfl ?_
        refine wa_if_le 74 dX3_lateness_67 rfl (fun c67 => ?_) (fun c67 => absurd (by decide) c67)
        refine wa_iload_n 2 dX3_lateness_74 rfl rfl ?_
        rw [e]
        refine wa_i2d dX3_lateness_75 ?_
        refine wa_iload_n 1 dX3_lateness_76 rfl rfl ?_
        rw [e2]
        refine wa_i2d dX3_lateness_77 ?_
        refine wa_ddiv dX3_lateness_78 (by assumption) ?_
        refine wa_dret dX3_lateness_79 rfl (Nat.le_of_ble_eq_true rfl) (Nat.le_of_ble_eq_true rfl) ?_
        exact ⟨(w_fr.rf.set z_mEm), rfl, (h.thr 0).md⟩
    | succ n ih =>
      intro k v w hn e e2
      obtain ⟨o, hrr⟩ : ∃ o, (z_ords (z_cur S))[k]? = some o := ⟨_, List.getElem?_eq_getElem (by omega)⟩
      have hk10 : k < 10 := by omega
      obtain ⟨q1, q2, q3, q4, q5, q6⟩ := hr.ord hrr
      rw [z_sum_at hrr] at e e2
      refine wa_iload_n 0 dX3_lateness_6 rfl rfl ?_
      refine wa_aload_n 3 dX3_lateness_7 rfl rfl ?_
      refine wa_getf dX3_lateness_8 gX3_9 hm rfl ?_
      refine wa_iconst (4) dX3_lateness_11 (by decide) ?_
      refine wa_iald dX3_lateness_12 hf (vp_in_nI (n := 4) (by omega) (by omega)) ?_
      rw [hr.on]
      refine wa_icmp_ge 50 dX3_lateness_13 rfl (fun c13 => absurd c13 (nI_lt_not (by omega) (by omega))) (fun c13 => ?_)
      refine wa_aload_n 3 dX3_lateness_16 rfl rfl ?_
      refine wa_iload_n 0 dX3_lateness_17 rfl rfl ?_
      refine wc_isI (wr_V dX3_lateness_18 mX3_115 (sp_mstateOf H hr hs hh hrr) hm rfl rfl rfl (Nat.le_of_ble_eq_true rfl)) ?_
      refine wa_iconst (2) dX3_lateness_21 (by decide) ?_
      refine wa_icmp_ne 44 dX3_lateness_22 rfl (fun c22 => ?_) (fun c22 => ?_)
      ·
        refine wa_iinc 0 [(3, _), (2, _), (1, _), (0, _)] dX3_lateness_44 rfl (w_inc k) (Nat.le_of_ble_eq_true rfl) rfl ?_
        refine wa_goto 6 dX3_lateness_47 rfl ?_
        refine wa_locals [(3, _), (2, _), (1, _), (0, _)] [0, 1, 2, 3] rfl ?_
        rw [if_neg c22, Int32.add_zero] at e e2
        exact ih (k + 1) _ _ (by omega) e e2
      ·
        refine wa_iload_n 2 dX3_lateness_25 rfl rfl ?_
        refine wa_aload_n 3 dX3_lateness_26 rfl rfl ?_
        refine wa_iload_n 0 dX3_lateness_27 rfl rfl ?_
        refine wa_iconst (4) dX3_lateness_28 (by decide) ?_
        refine wc_isI (wr_V dX3_lateness_29 mX3_109 (sp_mget H hk10 (w := 4) (by decide)) hm rfl rfl rfl (Nat.le_of_ble_eq_true rfl)) ?_
        rw [q5]
        refine wa_aload_n 3 dX3_lateness_32 rfl rfl ?_
        refine wa_iload_n 0 dX3_lateness_33 rfl rfl ?_
        refine wa_iconst (0) dX3_lateness_34 (by decide) ?_
        refine wc_isI (wr_V dX3_lateness_35 mX3_109 (sp_mget H hk10 (w := 0) (by decide)) hm rfl rfl rfl (Nat.le_of_ble_eq_true rfl)) ?_
        rw [show f (320 + 8 * k + 0) = z_due o from q1]
        refine wa_isub dX3_lateness_38 ?_
        refine wa_iadd dX3_lateness_39 ?_
        refine wa_istore_n [(1, _), (3, _), (2, _), (0, _)] dX3_lateness_40 rfl (Nat.le_of_ble_eq_true rfl) rfl ?_
        refine wa_iinc 2 [(2, _), (1, _), (3, _), (0, _)] dX3_lateness_41 rfl (w_inc1 w) (Nat.le_of_ble_eq_true rfl) rfl ?_
        refine wa_iinc 2 [(3, _), (2, _), (1, _), (0, _)] dX3_lateness_44 rfl (w_inc k) (Nat.le_of_ble_eq_true rfl) rfl ?_
        refine wa_goto 6 dX3_lateness_47 rfl ?_
        refine wa_locals [(3, _), (2, _), (1, _), (0, _)] [0, 1, 2, 3] rfl ?_
        rw [if_pos c22] at e e2
        exact ih (k + 1) _ _ (by omega) e e2
  refine wa_iconst (0) dX3_lateness_0 (by decide) ?_
  refine wa_istore_n [(1, _), (0, _)] dX3_lateness_1 rfl (Nat.le_of_ble_eq_true rfl) rfl ?_
  refine wa_iconst (0) dX3_lateness_2 (by decide) ?_
  refine wa_istore_n [(2, _), (1, _), (0, _)] dX3_lateness_3 rfl (Nat.le_of_ble_eq_true rfl) rfl ?_
  refine wa_iconst (0) dX3_lateness_4 (by decide) ?_
  refine wa_istore_n [(3, _), (2, _), (1, _), (0, _)] dX3_lateness_5 rfl (Nat.le_of_ble_eq_true rfl) rfl ?_
  refine wa_locals [(3, _), (2, _), (1, _), (0, _)] [0, 1, 2, 3] rfl ?_
  exact LP _ 0 0 0 (Nat.zero_add _) rfl rfl
end MX
