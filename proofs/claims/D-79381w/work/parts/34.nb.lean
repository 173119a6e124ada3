/-! ===== the core: neighbors, who is where ===== -/
set_option maxRecDepth 100000
theorem z_btw1 {r n : Nat} (h : r < n) (hn : n < 2 ^ 31) : (if 0 ≤ nI r ∧ nI r ≤ nI n - 1 then (1 : Int32) else 0) = 1 := by
  rw [show nI n - 1 = nI (n - 1) from pk_sub (b := 1) (by omega), if_pos ⟨nI_pos' (by omega), nI_le (by omega) (by omega)⟩]
theorem z_btwN {n : Nat} (h : 0 < n) (hn : n < 2 ^ 31) : (if 0 ≤ nI n ∧ nI n ≤ nI n - 1 then (1 : Int32) else 0) = 0 := by
  rw [show nI n - 1 = nI (n - 1) from pk_sub (b := 1) (by omega), if_neg (fun q => by have := (nI_leI (by omega) (by omega)).mp q.2; omega)]
theorem z_btwM (x : Int32) : (if 0 ≤ (-1 : Int32) ∧ (-1 : Int32) ≤ x then (1 : Int32) else 0) = 0 := by
  rw [if_neg (fun q => absurd q.1 (by decide))]
section NB
variable {l : Launch} {G : w_G} {M : w_M} {P : Nat → Prop} {a kd rl ol sg ra oa : Nat} {ras oas : List Nat} {c : z_C}
theorem sp_nb0 (h : z_coreL G M P a kd rl ol sg ra oa ras oas c) (hs : z_small c) {j : Nat} (hj : j < z_size c) : w_S l G tX2_neighbor (3, 0, 0) [.ref a, .int (nI j), .int 0] M (w_is (.inl (some (.int (z_enc (z_nb c j 0))))) M) := by
  have hsz := hs.size
  have hrw : 0 < z_rows c := hs.1
  have hrw6 : z_rows c ≤ 6 := hs.2.1
  have hcl : 0 < z_cols c := hs.2.2.1
  have hcl8 : z_cols c ≤ 8 := hs.2.2.2.1
  have hdm : z_cols c * (j / z_cols c) + j % z_cols c = j := Nat.div_add_mod j (z_cols c)
  have hq : j % z_cols c < z_cols c := Nat.mod_lt _ hcl
  have hr : j / z_cols c < z_rows c := Nat.div_lt_of_lt_mul (by rw [Nat.mul_comm]; exact hj)
  have hdiv : nI j / nI (z_cols c) = nI (j / z_cols c) := pk_div (by omega) hcl (by omega)
  have hrem : nI j - nI j / nI (z_cols c) * nI (z_cols c) = nI (j % z_cols c) := pk_rem (by omega) hcl (by omega)
  have hnz : ¬ nI (z_cols c) = 0 := nI_ne0 hcl (by omega)
  have hg := h.2.1
  by_cases hc : z_cols c ≤ j
  ·
    have hge : 1 ≤ j / z_cols c := (Nat.le_div_iff_mul_le hcl).mpr (by omega)
    have hrow : nI j / nI (z_cols c) + (-1) = nI (j / z_cols c - 1) := by rw [hdiv]; have := pk_m1 (j / z_cols c - 1); rwa [show j / z_cols c - 1 + 1 = j / z_cols c by omega] at this
    have hcol : nI j - nI j / nI (z_cols c) * nI (z_cols c) + 0 = nI (j % z_cols c) := by rw [hrem]; exact Int32.add_zero _
    have hmul : (j / z_cols c - 1) * z_cols c + z_cols c = z_cols c * (j / z_cols c) := by rw [Nat.mul_comm _ (j / z_cols c), ← Nat.succ_mul]; congr 1; omega
    have ht : j - z_cols c < z_size c := by omega
    have hsum : nI (j / z_cols c - 1) * nI (z_cols c) + nI (j % z_cols c) = nI (j - z_cols c) := by rw [pk_mul, nI_add]; congr 1; omega
    have hnb : z_nb c j 0 = if z_free c (j - z_cols c) then some (j - z_cols c) else none := by unfold z_nb z_beside; simp only [if_pos hc]
    refine w_start (by decide) (Nat.le_of_ble_eq_true rfl) (fun X => ?_)
    refine wa_locals [(0, _), (1, _), (2, _)] [0, 1, 2] rfl ?_
    refine wa_iload_n 1 dX2_neighbor_0 rfl rfl ?_
    refine wa_aload_n 0 dX2_neighbor_1 rfl rfl ?_
    refine wa_getf dX2_neighbor_2 gX2_29 hg rfl ?_
    refine wa_idiv dX2_neighbor_5 hnz ?_
    refine wa_iload_n 2 dX2_neighbor_6 rfl rfl ?_
    refine wa_if_ne 14 dX2_neighbor_7 rfl (fun c7 => absurd (by decide) c7) (fun c7 => ?_)
    refine wa_iconst (-1) dX2_neighbor_10 (by decide) ?_
    refine wa_goto 24 dX2_neighbor_11 rfl ?_
    refine wa_iadd dX2_neighbor_24 ?_
    rw [hrow]
    refine wa_istore_n [(3, _), (0, _), (1, _), (2, _)] dX2_neighbor_25 rfl (Nat.le_of_ble_eq_true rfl) rfl ?_
    refine wa_iload_n 2 dX2_neighbor_26 rfl rfl ?_
    refine wa_aload_n 1 dX2_neighbor_27 rfl rfl ?_
    refine wa_getf dX2_neighbor_28 gX2_29 hg rfl ?_
    refine wa_irem dX2_neighbor_31 hnz ?_
    refine wa_iload_n 3 dX2_neighbor_32 rfl rfl ?_
    refine wa_iconst (1) dX2_neighbor_33 (by decide) ?_
    refine wa_icmp_ne 41 dX2_neighbor_34 rfl (fun c34 => ?_) (fun c34 => absurd c34 (by decide))
    refine wa_iload_n 3 dX2_neighbor_41 rfl rfl ?_
    refine wa_iconst (3) dX2_neighbor_42 (by decide) ?_
    refine wa_icmp_ne 50 dX2_neighbor_43 rfl (fun c43 => ?_) (fun c43 => absurd c43 (by decide))
    refine wa_iconst (0) dX2_neighbor_50 (by decide) ?_
    refine wa_iadd dX2_neighbor_51 ?_
    rw [hcol]
    refine wa_istore [(4, _), (3, _), (0, _), (1, _), (2, _)] dX2_neighbor_52 (Nat.le_of_ble_eq_true rfl) rfl ?_
    refine wa_iload_n 1 dX2_neighbor_54 rfl rfl ?_
    refine wa_iconst (0) dX2_neighbor_55 (by decide) ?_
    refine wa_aload_n 2 dX2_neighbor_56 rfl rfl ?_
    refine wa_getf dX2_neighbor_57 gX2_25 hg rfl ?_
    refine wa_iconst (1) dX2_neighbor_60 (by decide) ?_
    refine wa_isub dX2_neighbor_61 ?_
    refine wc_isI (wr_S dX2_neighbor_62 mX2_75 sp_between rfl rfl rfl (Nat.le_of_ble_eq_true rfl)) ?_
    rw [z_btw1 (show j / z_cols c - 1 < z_rows c by omega) (by omega)]
    refine wa_if_eq 103 dX2_neighbor_65 rfl (fun c65 => absurd c65 (by decide)) (fun c65 => ?_)
    refine wa_iload 0 dX2_neighbor_68 rfl ?_
    refine wa_iconst (0) dX2_neighbor_70 (by decide) ?_
    refine wa_aload_n 2 dX2_neighbor_71 rfl rfl ?_
    refine wa_getf dX2_neighbor_72 gX2_29 hg rfl ?_
    refine wa_iconst (1) dX2_neighbor_75 (by decide) ?_
    refine wa_isub dX2_neighbor_76 ?_
    refine wc_isI (wr_S dX2_neighbor_77 mX2_75 sp_between rfl rfl rfl (Nat.le_of_ble_eq_true rfl)) ?_
    rw [z_btw1 (show j % z_cols c < z_cols c by omega) (by omega)]
    refine wa_if_eq 103 dX2_neighbor_80 rfl (fun c80 => absurd c80 (by decide)) (fun c80 => ?_)
    refine wa_aload_n 2 dX2_neighbor_83 rfl rfl ?_
    refine wa_iload_n 1 dX2_neighbor_84 rfl rfl ?_
    refine wa_aload_n 2 dX2_neighbor_85 rfl rfl ?_
    refine wa_getf dX2_neighbor_86 gX2_29 hg rfl ?_
    refine wa_imul dX2_neighbor_89 ?_
    refine wa_iload 0 dX2_neighbor_90 rfl ?_
    refine wa_iadd dX2_neighbor_92 ?_
    rw [hsum]
    refine wc_isI (wr_V dX2_neighbor_93 mX2_83 (sp_isFree h hs ht) hg rfl rfl rfl (Nat.le_of_ble_eq_true rfl)) ?_
    refine wa_if_eq 103 dX2_neighbor_96 rfl (fun c96 => ?_) (fun c96 => ?_)
    ·
      refine wa_iconst (0) dX2_neighbor_103 (by decide) ?_
      refine wa_istore [(5, _), (4, _), (3, _), (0, _), (1, _), (2, _)] dX2_neighbor_104 (Nat.le_of_ble_eq_true rfl) rfl ?_
      refine wa_iload 0 dX2_neighbor_106 rfl ?_
      refine wa_if_eq 123 dX2_neighbor_108 rfl (fun c108 => ?_) (fun c108 => absurd (by decide) c108)
      refine wa_iconst (-1) dX2_neighbor_123 (by decide) ?_
      refine wa_iret FieldType.int dX2_neighbor_124 rfl rfl (Nat.le_of_ble_eq_true rfl) (Nat.le_of_ble_eq_true rfl) ?_
      exact ⟨by rw [hnb]; simp at c96; simp [c96, z_enc], rfl⟩
    ·
      refine wa_iconst (1) dX2_neighbor_99 (by decide) ?_
      refine wa_goto 104 dX2_neighbor_100 rfl ?_
      refine wa_istore [(5, _), (4, _), (3, _), (0, _), (1, _), (2, _)] dX2_neighbor_104 (Nat.le_of_ble_eq_true rfl) rfl ?_
      refine wa_iload 0 dX2_neighbor_106 rfl ?_
      refine wa_if_eq 123 dX2_neighbor_108 rfl (fun c108 => absurd c108 (by decide)) (fun c108 => ?_)
      refine wa_iload_n 2 dX2_neighbor_111 rfl rfl ?_
      refine wa_aload_n 3 dX2_neighbor_112 rfl rfl ?_
      refine wa_getf dX2_neighbor_113 gX2_29 hg rfl ?_
      refine wa_imul dX2_neighbor_116 ?_
      refine wa_iload 1 dX2_neighbor_117 rfl ?_
      refine wa_iadd dX2_neighbor_119 ?_
      rw [hsum]
      refine wa_goto 124 dX2_neighbor_120 rfl ?_
      refine wa_iret FieldType.int dX2_neighbor_124 rfl rfl (Nat.le_of_ble_eq_true rfl) (Nat.le_of_ble_eq_true rfl) ?_
      exact ⟨by rw [hnb]; simp at c96; simp [c96, z_enc], rfl⟩
  ·
    have hr0 : j / z_cols c = 0 := Nat.div_eq_of_lt (by omega)
    have hrow : nI j / nI (z_cols c) + (-1) = -1 := by rw [hdiv, hr0]; decide
    have hcol : nI j - nI j / nI (z_cols c) * nI (z_cols c) + 0 = nI (j % z_cols c) := by rw [hrem]; exact Int32.add_zero _
    have hnb : z_nb c j 0 = none := by unfold z_nb z_beside; simp only [if_neg hc]
    refine w_start (by decide) (Nat.le_of_ble_eq_true rfl) (fun X => ?_)
    refine wa_locals [(0, _), (1, _), (2, _)] [0, 1, 2] rfl ?_
    refine wa_iload_n 1 dX2_neighbor_0 rfl rfl ?_
    refine wa_aload_n 0 dX2_neighbor_1 rfl rfl ?_
    refine wa_getf dX2_neighbor_2 gX2_29 hg rfl ?_
    refine wa_idiv dX2_neighbor_5 hnz ?_
    refine wa_iload_n 2 dX2_neighbor_6 rfl rfl ?_
    refine wa_if_ne 14 dX2_neighbor_7 rfl (fun c7 => absurd (by decide) c7) (fun c7 => ?_)
    refine wa_iconst (-1) dX2_neighbor_10 (by decide) ?_
    refine wa_goto 24 dX2_neighbor_11 rfl ?_
    refine wa_iadd dX2_neighbor_24 ?_
    rw [hrow]
    refine wa_istore_n [(3, _), (0, _), (1, _), (2, _)] dX2_neighbor_25 rfl (Nat.le_of_ble_eq_true rfl) rfl ?_
    refine wa_iload_n 2 dX2_neighbor_26 rfl rfl ?_
    refine wa_aload_n 1 dX2_neighbor_27 rfl rfl ?_
    refine wa_getf dX2_neighbor_28 gX2_29 hg rfl ?_
    refine wa_irem dX2_neighbor_31 hnz ?_
    refine wa_iload_n 3 dX2_neighbor_32 rfl rfl ?_
    refine wa_iconst (1) dX2_neighbor_33 (by decide) ?_
    refine wa_icmp_ne 41 dX2_neighbor_34 rfl (fun c34 => ?_) (fun c34 => absurd c34 (by decide))
    refine wa_iload_n 3 dX2_neighbor_41 rfl rfl ?_
    refine wa_iconst (3) dX2_neighbor_42 (by decide) ?_
    refine wa_icmp_ne 50 dX2_neighbor_43 rfl (fun c43 => ?_) (fun c43 => absurd c43 (by decide))
    refine wa_iconst (0) dX2_neighbor_50 (by decide) ?_
    refine wa_iadd dX2_neighbor_51 ?_
    rw [hcol]
    refine wa_istore [(4, _), (3, _), (0, _), (1, _), (2, _)] dX2_neighbor_52 (Nat.le_of_ble_eq_true rfl) rfl ?_
    refine wa_iload_n 1 dX2_neighbor_54 rfl rfl ?_
    refine wa_iconst (0) dX2_neighbor_55 (by decide) ?_
    refine wa_aload_n 2 dX2_neighbor_56 rfl rfl ?_
    refine wa_getf dX2_neighbor_57 gX2_25 hg rfl ?_
    refine wa_iconst (1) dX2_neighbor_60 (by decide) ?_
    refine wa_isub dX2_neighbor_61 ?_
    refine wc_isI (wr_S dX2_neighbor_62 mX2_75 sp_between rfl rfl rfl (Nat.le_of_ble_eq_true rfl)) ?_
    rw [z_btwM]
    refine wa_if_eq 103 dX2_neighbor_65 rfl (fun c65 => ?_) (fun c65 => absurd (by decide) c65)
    refine wa_iconst (0) dX2_neighbor_103 (by decide) ?_
    refine wa_istore [(5, _), (4, _), (3, _), (0, _), (1, _), (2, _)] dX2_neighbor_104 (Nat.le_of_ble_eq_true rfl) rfl ?_
    refine wa_iload 0 dX2_neighbor_106 rfl ?_
    refine wa_if_eq 123 dX2_neighbor_108 rfl (fun c108 => ?_) (fun c108 => absurd (by decide) c108)
    refine wa_iconst (-1) dX2_neighbor_123 (by decide) ?_
    refine wa_iret FieldType.int dX2_neighbor_124 rfl rfl (Nat.le_of_ble_eq_true rfl) (Nat.le_of_ble_eq_true rfl) ?_
    exact ⟨by rw [hnb]; rfl, rfl⟩
theorem sp_nb1 (h : z_coreL G M P a kd rl ol sg ra oa ras oas c) (hs : z_small c) {j : Nat} (hj : j < z_size c) : w_S l G tX2_neighbor (3, 0, 0) [.ref a, .int (nI j), .int 1] M (w_is (.inl (some (.int (z_enc (z_nb c j 1))))) M) := by
  have hsz := hs.size
  have hrw : 0 < z_rows c := hs.1
  have hrw6 : z_rows c ≤ 6 := hs.2.1
  have hcl : 0 < z_cols c := hs.2.2.1
  have hcl8 : z_cols c ≤ 8 := hs.2.2.2.1
  have hdm : z_cols c * (j / z_cols c) + j % z_cols c = j := Nat.div_add_mod j (z_cols c)
  have hq : j % z_cols c < z_cols c := Nat.mod_lt _ hcl
  have hr : j / z_cols c < z_rows c := Nat.div_lt_of_lt_mul (by rw [Nat.mul_comm]; exact hj)
  have hdiv : nI j / nI (z_cols c) = nI (j / z_cols c) := pk_div (by omega) hcl (by omega)
  have hrem : nI j - nI j / nI (z_cols c) * nI (z_cols c) = nI (j % z_cols c) := pk_rem (by omega) hcl (by omega)
  have hnz : ¬ nI (z_cols c) = 0 := nI_ne0 hcl (by omega)
  have hg := h.2.1
  by_cases hc : j % z_cols c + 1 < z_cols c
  ·
    have hrow : nI j / nI (z_cols c) + 0 = nI (j / z_cols c) := by rw [hdiv]; exact Int32.add_zero _
    have hcol : nI j - nI j / nI (z_cols c) * nI (z_cols c) + 1 = nI (j % z_cols c + 1) := by rw [hrem]; exact nI_1 _
    have hmul : j / z_cols c * z_cols c = z_cols c * (j / z_cols c) := Nat.mul_comm _ _
    have ht : j + 1 < z_size c := by
      have h7 : z_cols c * (j / z_cols c) + z_cols c ≤ z_cols c * z_rows c := by rw [← Nat.mul_succ]; exact Nat.mul_le_mul_left _ hr
      have h8 : z_size c = z_cols c * z_rows c := Nat.mul_comm _ _
      omega
    have hsum : nI (j / z_cols c) * nI (z_cols c) + nI (j % z_cols c + 1) = nI (j + 1) := by rw [pk_mul, nI_add]; congr 1; omega
    have hnb : z_nb c j 1 = if z_free c (j + 1) then some (j + 1) else none := by unfold z_nb z_beside; simp only [if_pos hc]
    refine w_start (by decide) (Nat.le_of_ble_eq_true rfl) (fun X => ?_)
    refine wa_locals [(0, _), (1, _), (2, _)] [0, 1, 2] rfl ?_
    refine wa_iload_n 1 dX2_neighbor_0 rfl rfl ?_
    refine wa_aload_n 0 dX2_neighbor_1 rfl rfl ?_
    refine wa_getf dX2_neighbor_2 gX2_29 hg rfl ?_
    refine wa_idiv dX2_neighbor_5 hnz ?_
    refine wa_iload_n 2 dX2_neighbor_6 rfl rfl ?_
    refine wa_if_ne 14 dX2_neighbor_7 rfl (fun c7 => ?_) (fun c7 => absurd c7 (by decide))
    refine wa_iload_n 2 dX2_neighbor_14 rfl rfl ?_
    refine wa_iconst (2) dX2_neighbor_15 (by decide) ?_
    refine wa_icmp_ne 23 dX2_neighbor_16 rfl (fun c16 => ?_) (fun c16 => absurd c16 (by decide))
    refine wa_iconst (0) dX2_neighbor_23 (by decide) ?_
    refine wa_iadd dX2_neighbor_24 ?_
    rw [hrow]
    refine wa_istore_n [(3, _), (0, _), (1, _), (2, _)] dX2_neighbor_25 rfl (Nat.le_of_ble_eq_true rfl) rfl ?_
    refine wa_iload_n 2 dX2_neighbor_26 rfl rfl ?_
    refine wa_aload_n 1 dX2_neighbor_27 rfl rfl ?_
    refine wa_getf dX2_neighbor_28 gX2_29 hg rfl ?_
    refine wa_irem dX2_neighbor_31 hnz ?_
    refine wa_iload_n 3 dX2_neighbor_32 rfl rfl ?_
    refine wa_iconst (1) dX2_neighbor_33 (by decide) ?_
    refine wa_icmp_ne 41 dX2_neighbor_34 rfl (fun c34 => absurd (by decide) c34) (fun c34 => ?_)
    refine wa_iconst (1) dX2_neighbor_37 (by decide) ?_
    refine wa_goto 51 dX2_neighbor_38 rfl ?_
    refine wa_iadd dX2_neighbor_51 ?_
    rw [hcol]
    refine wa_istore [(4, _), (3, _), (0, _), (1, _), (2, _)] dX2_neighbor_52 (Nat.le_of_ble_eq_true rfl) rfl ?_
    refine wa_iload_n 1 dX2_neighbor_54 rfl rfl ?_
    refine wa_iconst (0) dX2_neighbor_55 (by decide) ?_
    refine wa_aload_n 2 dX2_neighbor_56 rfl rfl ?_
    refine wa_getf dX2_neighbor_57 gX2_25 hg rfl ?_
    refine wa_iconst (1) dX2_neighbor_60 (by decide) ?_
    refine wa_isub dX2_neighbor_61 ?_
    refine wc_isI (wr_S dX2_neighbor_62 mX2_75 sp_between rfl rfl rfl (Nat.le_of_ble_eq_true rfl)) ?_
    rw [z_btw1 (show j / z_cols c < z_rows c by omega) (by omega)]
    refine wa_if_eq 103 dX2_neighbor_65 rfl (fun c65 => absurd c65 (by decide)) (fun c65 => ?_)
    refine wa_iload 0 dX2_neighbor_68 rfl ?_
    refine wa_iconst (0) dX2_neighbor_70 (by decide) ?_
    refine wa_aload_n 2 dX2_neighbor_71 rfl rfl ?_
    refine wa_getf dX2_neighbor_72 gX2_29 hg rfl ?_
    refine wa_iconst (1) dX2_neighbor_75 (by decide) ?_
    refine wa_isub dX2_neighbor_76 ?_
    refine wc_isI (wr_S dX2_neighbor_77 mX2_75 sp_between rfl rfl rfl (Nat.le_of_ble_eq_true rfl)) ?_
    rw [z_btw1 (show j % z_cols c + 1 < z_cols c by omega) (by omega)]
    refine wa_if_eq 103 dX2_neighbor_80 rfl (fun c80 => absurd c80 (by decide)) (fun c80 => ?_)
    refine wa_aload_n 2 dX2_neighbor_83 rfl rfl ?_
    refine wa_iload_n 1 dX2_neighbor_84 rfl rfl ?_
    refine wa_aload_n 2 dX2_neighbor_85 rfl rfl ?_
    refine wa_getf dX2_neighbor_86 gX2_29 hg rfl ?_
    refine wa_imul dX2_neighbor_89 ?_
    refine wa_iload 0 dX2_neighbor_90 rfl ?_
    refine wa_iadd dX2_neighbor_92 ?_
    rw [hsum]
    refine wc_isI (wr_V dX2_neighbor_93 mX2_83 (sp_isFree h hs ht) hg rfl rfl rfl (Nat.le_of_ble_eq_true rfl)) ?_
    refine wa_if_eq 103 dX2_neighbor_96 rfl (fun c96 => ?_) (fun c96 => ?_)
    ·
      refine wa_iconst (0) dX2_neighbor_103 (by decide) ?_
      refine wa_istore [(5, _), (4, _), (3, _), (0, _), (1, _), (2, _)] dX2_neighbor_104 (Nat.le_of_ble_eq_true rfl) rfl ?_
      refine wa_iload 0 dX2_neighbor_106 rfl ?_
      refine wa_if_eq 123 dX2_neighbor_108 rfl (fun c108 => ?_) (fun c108 => absurd (by decide) c108)
      refine wa_iconst (-1) dX2_neighbor_123 (by decide) ?_
      refine wa_iret FieldType.int dX2_neighbor_124 rfl rfl (Nat.le_of_ble_eq_true rfl) (Nat.le_of_ble_eq_true rfl) ?_
      exact ⟨by rw [hnb]; simp at c96; simp [c96, z_enc], rfl⟩
    ·
      refine wa_iconst (1) dX2_neighbor_99 (by decide) ?_
      refine wa_goto 104 dX2_neighbor_100 rfl ?_
      refine wa_istore [(5, _), (4, _), (3, _), (0, _), (1, _), (2, _)] dX2_neighbor_104 (Nat.le_of_ble_eq_true rfl) rfl ?_
      refine wa_iload 0 dX2_neighbor_106 rfl ?_
      refine wa_if_eq 123 dX2_neighbor_108 rfl (fun c108 => absurd c108 (by decide)) (fun c108 => ?_)
      refine wa_iload_n 2 dX2_neighbor_111 rfl rfl ?_
      refine wa_aload_n 3 dX2_neighbor_112 rfl rfl ?_
      refine wa_getf dX2_neighbor_113 gX2_29 hg rfl ?_
      refine wa_imul dX2_neighbor_116 ?_
      refine wa_iload 1 dX2_neighbor_117 rfl ?_
      refine wa_iadd dX2_neighbor_119 ?_
      rw [hsum]
      refine wa_goto 124 dX2_neighbor_120 rfl ?_
      refine wa_iret FieldType.int dX2_neighbor_124 rfl rfl (Nat.le_of_ble_eq_true rfl) (Nat.le_of_ble_eq_true rfl) ?_
      exact ⟨by rw [hnb]; simp at c96; simp [c96, z_enc], rfl⟩
  ·
    have hrow : nI j / nI (z_cols c) + 0 = nI (j / z_cols c) := by rw [hdiv]; exact Int32.add_zero _
    have hcol : nI j - nI j / nI (z_cols c) * nI (z_cols c) + 1 = nI (z_cols c) := by rw [hrem, nI_1]; congr 1; omega
    have hnb : z_nb c j 1 = none := by unfold z_nb z_beside; simp only [if_neg hc]
    refine w_start (by decide) (Nat.le_of_ble_eq_true rfl) (fun X => ?_)
    refine wa_locals [(0, _), (1, _), (2, _)] [0, 1, 2] rfl ?_
    refine wa_iload_n 1 dX2_neighbor_0 rfl rfl ?_
    refine wa_aload_n 0 dX2_neighbor_1 rfl rfl ?_
    refine wa_getf dX2_neighbor_2 gX2_29 hg rfl ?_
    refine wa_idiv dX2_neighbor_5 hnz ?_
    refine wa_iload_n 2 dX2_neighbor_6 rfl rfl ?_
    refine wa_if_ne 14 dX2_neighbor_7 rfl (fun c7 => ?_) (fun c7 => absurd c7 (by decide))
    refine wa_iload_n 2 dX2_neighbor_14 rfl rfl ?_
    refine wa_iconst (2) dX2_neighbor_15 (by decide) ?_
    refine wa_icmp_ne 23 dX2_neighbor_16 rfl (fun c16 => ?_) (fun c16 => absurd c16 (by decide))
    refine wa_iconst (0) dX2_neighbor_23 (by decide) ?_
    refine wa_iadd dX2_neighbor_24 ?_
    rw [hrow]
    refine wa_istore_n [(3, _), (0, _), (1, _), (2, _)] dX2_neighbor_25 rfl (Nat.le_of_ble_eq_true rfl) rfl ?_
    refine wa_iload_n 2 dX2_neighbor_26 rfl rfl ?_
    refine wa_aload_n 1 dX2_neighbor_27 rfl rfl ?_
    refine wa_getf dX2_neighbor_28 gX2_29 hg rfl ?_
    refine wa_irem dX2_neighbor_31 hnz ?_
    refine wa_iload_n 3 dX2_neighbor_32 rfl rfl ?_
    refine wa_iconst (1) dX2_neighbor_33 (by decide) ?_
    refine wa_icmp_ne 41 dX2_neighbor_34 rfl (fun c34 => absurd (by decide) c34) (fun c34 => ?_)
    refine wa_iconst (1) dX2_neighbor_37 (by decide) ?_
    refine wa_goto 51 dX2_neighbor_38 rfl ?_
    refine wa_iadd dX2_neighbor_51 ?_
    rw [hcol]
    refine wa_istore [(4, _), (3, _), (0, _), (1, _), (2, _)] dX2_neighbor_52 (Nat.le_of_ble_eq_true rfl) rfl ?_
    refine wa_iload_n 1 dX2_neighbor_54 rfl rfl ?_
    refine wa_iconst (0) dX2_neighbor_55 (by decide) ?_
    refine wa_aload_n 2 dX2_neighbor_56 rfl rfl ?_
    refine wa_getf dX2_neighbor_57 gX2_25 hg rfl ?_
    refine wa_iconst (1) dX2_neighbor_60 (by decide) ?_
    refine wa_isub dX2_neighbor_61 ?_
    refine wc_isI (wr_S dX2_neighbor_62 mX2_75 sp_between rfl rfl rfl (Nat.le_of_ble_eq_true rfl)) ?_
    rw [z_btw1 hr (by omega)]
    refine wa_if_eq 103 dX2_neighbor_65 rfl (fun c65 => absurd c65 (by decide)) (fun c65 => ?_)
    refine wa_iload 0 dX2_neighbor_68 rfl ?_
    refine wa_iconst (0) dX2_neighbor_70 (by decide) ?_
    refine wa_aload_n 2 dX2_neighbor_71 rfl rfl ?_
    refine wa_getf dX2_neighbor_72 gX2_29 hg rfl ?_
    refine wa_iconst (1) dX2_neighbor_75 (by decide) ?_
    refine wa_isub dX2_neighbor_76 ?_
    refine wc_isI (wr_S dX2_neighbor_77 mX2_75 sp_between rfl rfl rfl (Nat.le_of_ble_eq_true rfl)) ?_
    rw [z_btwN hcl (by omega)]
    refine wa_if_eq 103 dX2_neighbor_80 rfl (fun c80 => ?_) (fun c80 => absurd (by decide) c80)
    refine wa_iconst (0) dX2_neighbor_103 (by decide) ?_
    refine wa_istore [(5, _), (4, _), (3, _), (0, _), (1, _), (2, _)] dX2_neighbor_104 (Nat.le_of_ble_eq_true rfl) rfl ?_
    refine wa_iload 0 dX2_neighbor_106 rfl ?_
    refine wa_if_eq 123 dX2_neighbor_108 rfl (fun c108 => ?_) (fun c108 => absurd (by decide) c108)
    refine wa_iconst (-1) dX2_neighbor_123 (by decide) ?_
    refine wa_iret FieldType.int dX2_neighbor_124 rfl rfl (Nat.le_of_ble_eq_true rfl) (Nat.le_of_ble_eq_true rfl) ?_
    exact ⟨by rw [hnb]; rfl, rfl⟩
theorem sp_nb2 (h : z_coreL G M P a kd rl ol sg ra oa ras oas c) (hs : z_small c) {j : Nat} (hj : j < z_size c) : w_S l G tX2_neighbor (3, 0, 0) [.ref a, .int (nI j), .int 2] M (w_is (.inl (some (.int (z_enc (z_nb c j 2))))) M) := by
  have hsz := hs.size
  have hrw : 0 < z_rows c := hs.1
  have hrw6 : z_rows c ≤ 6 := hs.2.1
  have hcl : 0 < z_cols c := hs.2.2.1
  have hcl8 : z_cols c ≤ 8 := hs.2.2.2.1
  have hdm : z_cols c * (j / z_cols c) + j % z_cols c = j := Nat.div_add_mod j (z_cols c)
  have hq : j % z_cols c < z_cols c := Nat.mod_lt _ hcl
  have hr : j / z_cols c < z_rows c := Nat.div_lt_of_lt_mul (by rw [Nat.mul_comm]; exact hj)
  have hdiv : nI j / nI (z_cols c) = nI (j / z_cols c) := pk_div (by omega) hcl (by omega)
  have hrem : nI j - nI j / nI (z_cols c) * nI (z_cols c) = nI (j % z_cols c) := pk_rem (by omega) hcl (by omega)
  have hnz : ¬ nI (z_cols c) = 0 := nI_ne0 hcl (by omega)
  have hg := h.2.1
  by_cases hc : j / z_cols c + 1 < z_rows c
  ·
    have hrow : nI j / nI (z_cols c) + 1 = nI (j / z_cols c + 1) := by rw [hdiv]; exact nI_1 _
    have hcol : nI j - nI j / nI (z_cols c) * nI (z_cols c) + 0 = nI (j % z_cols c) := by rw [hrem]; exact Int32.add_zero _
    have hmul : (j / z_cols c + 1) * z_cols c = z_cols c * (j / z_cols c) + z_cols c := by rw [Nat.add_mul, Nat.one_mul, Nat.mul_comm]
    have ht : j + z_cols c < z_size c := by
      have h7 : z_cols c * (j / z_cols c + 1) + z_cols c ≤ z_cols c * z_rows c := by rw [← Nat.mul_succ]; exact Nat.mul_le_mul_left _ hc
      have h8 : z_size c = z_cols c * z_rows c := Nat.mul_comm _ _
      rw [Nat.mul_succ] at h7
      omega
    have hsum : nI (j / z_cols c + 1) * nI (z_cols c) + nI (j % z_cols c) = nI (j + z_cols c) := by rw [pk_mul, nI_add]; congr 1; omega
    have hnb : z_nb c j 2 = if z_free c (j + z_cols c) then some (j + z_cols c) else none := by unfold z_nb z_beside; simp only [if_pos hc]
    refine w_start (by decide) (Nat.le_of_ble_eq_true rfl) (fun X => ?_)
    refine wa_locals [(0, _), (1, _), (2, _)] [0, 1, 2] rfl ?_
    refine wa_iload_n 1 dX2_neighbor_0 rfl rfl ?_
    refine wa_aload_n 0 dX2_neighbor_1 rfl rfl ?_
    refine wa_getf dX2_neighbor_2 gX2_29 hg rfl ?_
    refine wa_idiv dX2_neighbor_5 hnz ?_
    refine wa_iload_n 2 dX2_neighbor_6 rfl rfl ?_
    refine wa_if_ne 14 dX2_neighbor_7 rfl (fun c7 => ?_) (fun c7 => absurd c7 (by decide))
    refine wa_iload_n 2 dX2_neighbor_14 rfl rfl ?_
    refine wa_iconst (2) dX2_neighbor_15 (by decide) ?_
    refine wa_icmp_ne 23 dX2_neighbor_16 rfl (fun c16 => absurd (by decide) c16) (fun c16 => ?_)
    refine wa_iconst (1) dX2_neighbor_19 (by decide) ?_
    refine wa_goto 24 dX2_neighbor_20 rfl ?_
    refine wa_iadd dX2_neighbor_24 ?_
    rw [hrow]
    refine wa_istore_n [(3, _), (0, _), (1, _), (2, _)] dX2_neighbor_25 rfl (Nat.le_of_ble_eq_true rfl) rfl ?_
    refine wa_iload_n 2 dX2_neighbor_26 rfl rfl ?_
    refine wa_aload_n 1 dX2_neighbor_27 rfl rfl ?_
    refine wa_getf dX2_neighbor_28 gX2_29 hg rfl ?_
    refine wa_irem dX2_neighbor_31 hnz ?_
    refine wa_iload_n 3 dX2_neighbor_32 rfl rfl ?_
    refine wa_iconst (1) dX2_neighbor_33 (by decide) ?_
    refine wa_icmp_ne 41 dX2_neighbor_34 rfl (fun c34 => ?_) (fun c34 => absurd c34 (by decide))
    refine wa_iload_n 3 dX2_neighbor_41 rfl rfl ?_
    refine wa_iconst (3) dX2_neighbor_42 (by decide) ?_
    refine wa_icmp_ne 50 dX2_neighbor_43 rfl (fun c43 => ?_) (fun c43 => absurd c43 (by decide))
    refine wa_iconst (0) dX2_neighbor_50 (by decide) ?_
    refine wa_iadd dX2_neighbor_51 ?_
    rw [hcol]
    refine wa_istore [(4, _), (3, _), (0, _), (1, _), (2, _)] dX2_neighbor_52 (Nat.le_of_ble_eq_true rfl) rfl ?_
    refine wa_iload_n 1 dX2_neighbor_54 rfl rfl ?_
    refine wa_iconst (0) dX2_neighbor_55 (by decide) ?_
    refine wa_aload_n 2 dX2_neighbor_56 rfl rfl ?_
    refine wa_getf dX2_neighbor_57 gX2_25 hg rfl ?_
    refine wa_iconst (1) dX2_neighbor_60 (by decide) ?_
    refine wa_isub dX2_neighbor_61 ?_
    refine wc_isI (wr_S dX2_neighbor_62 mX2_75 sp_between rfl rfl rfl (Nat.le_of_ble_eq_true rfl)) ?_
    rw [z_btw1 (show j / z_cols c + 1 < z_rows c by omega) (by omega)]
    refine wa_if_eq 103 dX2_neighbor_65 rfl (fun c65 => absurd c65 (by decide)) (fun c65 => ?_)
    refine wa_iload 0 dX2_neighbor_68 rfl ?_
    refine wa_iconst (0) dX2_neighbor_70 (by decide) ?_
    refine wa_aload_n 2 dX2_neighbor_71 rfl rfl ?_
    refine wa_getf dX2_neighbor_72 gX2_29 hg rfl ?_
    refine wa_iconst (1) dX2_neighbor_75 (by decide) ?_
    refine wa_isub dX2_neighbor_76 ?_
    refine wc_isI (wr_S dX2_neighbor_77 mX2_75 sp_between rfl rfl rfl (Nat.le_of_ble_eq_true rfl)) ?_
    rw [z_btw1 (show j % z_cols c < z_cols c by omega) (by omega)]
    refine wa_if_eq 103 dX2_neighbor_80 rfl (fun c80 => absurd c80 (by decide)) (fun c80 => ?_)
    refine wa_aload_n 2 dX2_neighbor_83 rfl rfl ?_
    refine wa_iload_n 1 dX2_neighbor_84 rfl rfl ?_
    refine wa_aload_n 2 dX2_neighbor_85 rfl rfl ?_
    refine wa_getf dX2_neighbor_86 gX2_29 hg rfl ?_
    refine wa_imul dX2_neighbor_89 ?_
    refine wa_iload 0 dX2_neighbor_90 rfl ?_
    refine wa_iadd dX2_neighbor_92 ?_
    rw [hsum]
    refine wc_isI (wr_V dX2_neighbor_93 mX2_83 (sp_isFree h hs ht) hg rfl rfl rfl (Nat.le_of_ble_eq_true rfl)) ?_
    refine wa_if_eq 103 dX2_neighbor_96 rfl (fun c96 => ?_) (fun c96 => ?_)
    ·
      refine wa_iconst (0) dX2_neighbor_103 (by decide) ?_
      refine wa_istore [(5, _), (4, _), (3, _), (0, _), (1, _), (2, _)] dX2_neighbor_104 (Nat.le_of_ble_eq_true rfl) rfl ?_
      refine wa_iload 0 dX2_neighbor_106 rfl ?_
      refine wa_if_eq 123 dX2_neighbor_108 rfl (fun c108 => ?_) (fun c108 => absurd (by decide) c108)
      refine wa_iconst (-1) dX2_neighbor_123 (by decide) ?_
      refine wa_iret FieldType.int dX2_neighbor_124 rfl rfl (Nat.le_of_ble_eq_true rfl) (Nat.le_of_ble_eq_true rfl) ?_
      exact ⟨by rw [hnb]; simp at c96; simp [c96, z_enc], rfl⟩
    ·
      refine wa_iconst (1) dX2_neighbor_99 (by decide) ?_
      refine wa_goto 104 dX2_neighbor_100 rfl ?_
      refine wa_istore [(5, _), (4, _), (3, _), (0, _), (1, _), (2, _)] dX2_neighbor_104 (Nat.le_of_ble_eq_true rfl) rfl ?_
      refine wa_iload 0 dX2_neighbor_106 rfl ?_
      refine wa_if_eq 123 dX2_neighbor_108 rfl (fun c108 => absurd c108 (by decide)) (fun c108 => ?_)
      refine wa_iload_n 2 dX2_neighbor_111 rfl rfl ?_
      refine wa_aload_n 3 dX2_neighbor_112 rfl rfl ?_
      refine wa_getf dX2_neighbor_113 gX2_29 hg rfl ?_
      refine wa_imul dX2_neighbor_116 ?_
      refine wa_iload 1 dX2_neighbor_117 rfl ?_
      refine wa_iadd dX2_neighbor_119 ?_
      rw [hsum]
      refine wa_goto 124 dX2_neighbor_120 rfl ?_
      refine wa_iret FieldType.int dX2_neighbor_124 rfl rfl (Nat.le_of_ble_eq_true rfl) (Nat.le_of_ble_eq_true rfl) ?_
      exact ⟨by rw [hnb]; simp at c96; simp [c96, z_enc], rfl⟩
  ·
    have hrow : nI j / nI (z_cols c) + 1 = nI (z_rows c) := by rw [hdiv, nI_1]; congr 1; omega
    have hcol : nI j - nI j / nI (z_cols c) * nI (z_cols c) + 0 = nI (j % z_cols c) := by rw [hrem]; exact Int32.add_zero _
    have hnb : z_nb c j 2 = none := by unfold z_nb z_beside; simp only [if_neg hc]
    refine w_start (by decide) (Nat.le_of_ble_eq_true rfl) (fun X => ?_)
    refine wa_locals [(0, _), (1, _), (2, _)] [0, 1, 2] rfl ?_
    refine wa_iload_n 1 dX2_neighbor_0 rfl rfl ?_
    refine wa_aload_n 0 dX2_neighbor_1 rfl rfl ?_
    refine wa_getf dX2_neighbor_2 gX2_29 hg rfl ?_
    refine wa_idiv dX2_neighbor_5 hnz ?_
    refine wa_iload_n 2 dX2_neighbor_6 rfl rfl ?_
    refine wa_if_ne 14 dX2_neighbor_7 rfl (fun c7 => ?_) (fun c7 => absurd c7 (by decide))
    refine wa_iload_n 2 dX2_neighbor_14 rfl rfl ?_
    refine wa_iconst (2) dX2_neighbor_15 (by decide) ?_
    refine wa_icmp_ne 23 dX2_neighbor_16 rfl (fun c16 => absurd (by decide) c16) (fun c16 => ?_)
    refine wa_iconst (1) dX2_neighbor_19 (by decide) ?_
    refine wa_goto 24 dX2_neighbor_20 rfl ?_
    refine wa_iadd dX2_neighbor_24 ?_
    rw [hrow]
    refine wa_istore_n [(3, _), (0, _), (1, _), (2, _)] dX2_neighbor_25 rfl (Nat.le_of_ble_eq_true rfl) rfl ?_
    refine wa_iload_n 2 dX2_neighbor_26 rfl rfl ?_
    refine wa_aload_n 1 dX2_neighbor_27 rfl rfl ?_
    refine wa_getf dX2_neighbor_28 gX2_29 hg rfl ?_
    refine wa_irem dX2_neighbor_31 hnz ?_
    refine wa_iload_n 3 dX2_neighbor_32 rfl rfl ?_
    refine wa_iconst (1) dX2_neighbor_33 (by decide) ?_
    refine wa_icmp_ne 41 dX2_neighbor_34 rfl (fun c34 => ?_) (fun c34 => absurd c34 (by decide))
    refine wa_iload_n 3 dX2_neighbor_41 rfl rfl ?_
    refine wa_iconst (3) dX2_neighbor_42 (by decide) ?_
    refine wa_icmp_ne 50 dX2_neighbor_43 rfl (fun c43 => ?_) (fun c43 => absurd c43 (by decide))
    refine wa_iconst (0) dX2_neighbor_50 (by decide) ?_
    refine wa_iadd dX2_neighbor_51 ?_
    rw [hcol]
    refine wa_istore [(4, _), (3, _), (0, _), (1, _), (2, _)] dX2_neighbor_52 (Nat.le_of_ble_eq_true rfl) rfl ?_
    refine wa_iload_n 1 dX2_neighbor_54 rfl rfl ?_
    refine wa_iconst (0) dX2_neighbor_55 (by decide) ?_
    refine wa_aload_n 2 dX2_neighbor_56 rfl rfl ?_
    refine wa_getf dX2_neighbor_57 gX2_25 hg rfl ?_
    refine wa_iconst (1) dX2_neighbor_60 (by decide) ?_
    refine wa_isub dX2_neighbor_61 ?_
    refine wc_isI (wr_S dX2_neighbor_62 mX2_75 sp_between rfl rfl rfl (Nat.le_of_ble_eq_true rfl)) ?_
    rw [z_btwN hrw (by omega)]
    refine wa_if_eq 103 dX2_neighbor_65 rfl (fun c65 => ?_) (fun c65 => absurd (by decide) c65)
    refine wa_iconst (0) dX2_neighbor_103 (by decide) ?_
    refine wa_istore [(5, _), (4, _), (3, _), (0, _), (1, _), (2, _)] dX2_neighbor_104 (Nat.le_of_ble_eq_true rfl) rfl ?_
    refine wa_iload 0 dX2_neighbor_106 rfl ?_
    refine wa_if_eq 123 dX2_neighbor_108 rfl (fun c108 => ?_) (fun c108 => absurd (by decide) c108)
    refine wa_iconst (-1) dX2_neighbor_123 (by decide) ?_
    refine wa_iret FieldType.int dX2_neighbor_124 rfl rfl (Nat.le_of_ble_eq_true rfl) (Nat.le_of_ble_eq_true rfl) ?_
    exact ⟨by rw [hnb]; rfl, rfl⟩
theorem sp_nb3 (h : z_coreL G M P a kd rl ol sg ra oa ras oas c) (hs : z_small c) {j : Nat} (hj : j < z_size c) : w_S l G tX2_neighbor (3, 0, 0) [.ref a, .int (nI j), .int 3] M (w_is (.inl (some (.int (z_enc (z_nb c j 3))))) M) := by
  have hsz := hs.size
  have hrw : 0 < z_rows c := hs.1
  have hrw6 : z_rows c ≤ 6 := hs.2.1
  have hcl : 0 < z_cols c := hs.2.2.1
  have hcl8 : z_cols c ≤ 8 := hs.2.2.2.1
  have hdm : z_cols c * (j / z_cols c) + j % z_cols c = j := Nat.div_add_mod j (z_cols c)
  have hq : j % z_cols c < z_cols c := Nat.mod_lt _ hcl
  have hr : j / z_cols c < z_rows c := Nat.div_lt_of_lt_mul (by rw [Nat.mul_comm]; exact hj)
  have hdiv : nI j / nI (z_cols c) = nI (j / z_cols c) := pk_div (by omega) hcl (by omega)
  have hrem : nI j - nI j / nI (z_cols c) * nI (z_cols c) = nI (j % z_cols c) := pk_rem (by omega) hcl (by omega)
  have hnz : ¬ nI (z_cols c) = 0 := nI_ne0 hcl (by omega)
  have hg := h.2.1
  by_cases hc : 0 < j % z_cols c
  ·
    have hrow : nI j / nI (z_cols c) + 0 = nI (j / z_cols c) := by rw [hdiv]; exact Int32.add_zero _
    have hcol : nI j - nI j / nI (z_cols c) * nI (z_cols c) + (-1) = nI (j % z_cols c - 1) := by rw [hrem]; have := pk_m1 (j % z_cols c - 1); rwa [show j % z_cols c - 1 + 1 = j % z_cols c by omega] at this
    have hmul : j / z_cols c * z_cols c = z_cols c * (j / z_cols c) := Nat.mul_comm _ _
    have ht : j - 1 < z_size c := by omega
    have hsum : nI (j / z_cols c) * nI (z_cols c) + nI (j % z_cols c - 1) = nI (j - 1) := by rw [pk_mul, nI_add]; congr 1; omega
    have hnb : z_nb c j 3 = if z_free c (j - 1) then some (j - 1) else none := by unfold z_nb z_beside; simp only [if_pos hc]
    refine w_start (by decide) (Nat.le_of_ble_eq_true rfl) (fun X => ?_)
    refine wa_locals [(0, _), (1, _), (2, _)] [0, 1, 2] rfl ?_
    refine wa_iload_n 1 dX2_neighbor_0 rfl rfl ?_
    refine wa_aload_n 0 dX2_neighbor_1 rfl rfl ?_
    refine wa_getf dX2_neighbor_2 gX2_29 hg rfl ?_
    refine wa_idiv dX2_neighbor_5 hnz ?_
    refine wa_iload_n 2 dX2_neighbor_6 rfl rfl ?_
    refine wa_if_ne 14 dX2_neighbor_7 rfl (fun c7 => ?_) (fun c7 => absurd c7 (by decide))
    refine wa_iload_n 2 dX2_neighbor_14 rfl rfl ?_
    refine wa_iconst (2) dX2_neighbor_15 (by decide) ?_
    refine wa_icmp_ne 23 dX2_neighbor_16 rfl (fun c16 => ?_) (fun c16 => absurd c16 (by decide))
    refine wa_iconst (0) dX2_neighbor_23 (by decide) ?_
    refine wa_iadd dX2_neighbor_24 ?_
    rw [hrow]
    refine wa_istore_n [(3, _), (0, _), (1, _), (2, _)] dX2_neighbor_25 rfl (Nat.le_of_ble_eq_true rfl) rfl ?_
    refine wa_iload_n 2 dX2_neighbor_26 rfl rfl ?_
    refine wa_aload_n 1 dX2_neighbor_27 rfl rfl ?_
    refine wa_getf dX2_neighbor_28 gX2_29 hg rfl ?_
    refine wa_irem dX2_neighbor_31 hnz ?_
    refine wa_iload_n 3 dX2_neighbor_32 rfl rfl ?_
    refine wa_iconst (1) dX2_neighbor_33 (by decide) ?_
    refine wa_icmp_ne 41 dX2_neighbor_34 rfl (fun c34 => ?_) (fun c34 => absurd c34 (by decide))
    refine wa_iload_n 3 dX2_neighbor_41 rfl rfl ?_
    refine wa_iconst (3) dX2_neighbor_42 (by decide) ?_
    refine wa_icmp_ne 50 dX2_neighbor_43 rfl (fun c43 => absurd (by decide) c43) (fun c43 => ?_)
    refine wa_iconst (-1) dX2_neighbor_46 (by decide) ?_
    refine wa_goto 51 dX2_neighbor_47 rfl ?_
    refine wa_iadd dX2_neighbor_51 ?_
    rw [hcol]
    refine wa_istore [(4, _), (3, _), (0, _), (1, _), (2, _)] dX2_neighbor_52 (Nat.le_of_ble_eq_true rfl) rfl ?_
    refine wa_iload_n 1 dX2_neighbor_54 rfl rfl ?_
    refine wa_iconst (0) dX2_neighbor_55 (by decide) ?_
    refine wa_aload_n 2 dX2_neighbor_56 rfl rfl ?_
    refine wa_getf dX2_neighbor_57 gX2_25 hg rfl ?_
    refine wa_iconst (1) dX2_neighbor_60 (by decide) ?_
    refine wa_isub dX2_neighbor_61 ?_
    refine wc_isI (wr_S dX2_neighbor_62 mX2_75 sp_between rfl rfl rfl (Nat.le_of_ble_eq_true rfl)) ?_
    rw [z_btw1 (show j / z_cols c < z_rows c by omega) (by omega)]
    refine wa_if_eq 103 dX2_neighbor_65 rfl (fun c65 => absurd c65 (by decide)) (fun c65 => ?_)
    refine wa_iload 0 dX2_neighbor_68 rfl ?_
    refine wa_iconst (0) dX2_neighbor_70 (by decide) ?_
    refine wa_aload_n 2 dX2_neighbor_71 rfl rfl ?_
    refine wa_getf dX2_neighbor_72 gX2_29 hg rfl ?_
    refine wa_iconst (1) dX2_neighbor_75 (by decide) ?_
    refine wa_isub dX2_neighbor_76 ?_
    refine wc_isI (wr_S dX2_neighbor_77 mX2_75 sp_between rfl rfl rfl (Nat.le_of_ble_eq_true rfl)) ?_
    rw [z_btw1 (show j % z_cols c - 1 < z_cols c by omega) (by omega)]
    refine wa_if_eq 103 dX2_neighbor_80 rfl (fun c80 => absurd c80 (by decide)) (fun c80 => ?_)
    refine wa_aload_n 2 dX2_neighbor_83 rfl rfl ?_
    refine wa_iload_n 1 dX2_neighbor_84 rfl rfl ?_
    refine wa_aload_n 2 dX2_neighbor_85 rfl rfl ?_
    refine wa_getf dX2_neighbor_86 gX2_29 hg rfl ?_
    refine wa_imul dX2_neighbor_89 ?_
    refine wa_iload 0 dX2_neighbor_90 rfl ?_
    refine wa_iadd dX2_neighbor_92 ?_
    rw [hsum]
    refine wc_isI (wr_V dX2_neighbor_93 mX2_83 (sp_isFree h hs ht) hg rfl rfl rfl (Nat.le_of_ble_eq_true rfl)) ?_
    refine wa_if_eq 103 dX2_neighbor_96 rfl (fun c96 => ?_) (fun c96 => ?_)
    ·
      refine wa_iconst (0) dX2_neighbor_103 (by decide) ?_
      refine wa_istore [(5, _), (4, _), (3, _), (0, _), (1, _), (2, _)] dX2_neighbor_104 (Nat.le_of_ble_eq_true rfl) rfl ?_
      refine wa_iload 0 dX2_neighbor_106 rfl ?_
      refine wa_if_eq 123 dX2_neighbor_108 rfl (fun c108 => ?_) (fun c108 => absurd (by decide) c108)
      refine wa_iconst (-1) dX2_neighbor_123 (by decide) ?_
      refine wa_iret FieldType.int dX2_neighbor_124 rfl rfl (Nat.le_of_ble_eq_true rfl) (Nat.le_of_ble_eq_true rfl) ?_
      exact ⟨by rw [hnb]; simp at c96; simp [c96, z_enc], rfl⟩
    ·
      refine wa_iconst (1) dX2_neighbor_99 (by decide) ?_
      refine wa_goto 104 dX2_neighbor_100 rfl ?_
      refine wa_istore [(5, _), (4, _), (3, _), (0, _), (1, _), (2, _)] dX2_neighbor_104 (Nat.le_of_ble_eq_true rfl) rfl ?_
      refine wa_iload 0 dX2_neighbor_106 rfl ?_
      refine wa_if_eq 123 dX2_neighbor_108 rfl (fun c108 => absurd c108 (by decide)) (fun c108 => ?_)
      refine wa_iload_n 2 dX2_neighbor_111 rfl rfl ?_
      refine wa_aload_n 3 dX2_neighbor_112 rfl rfl ?_
      refine wa_getf dX2_neighbor_113 gX2_29 hg rfl ?_
      refine wa_imul dX2_neighbor_116 ?_
      refine wa_iload 1 dX2_neighbor_117 rfl ?_
      refine wa_iadd dX2_neighbor_119 ?_
      rw [hsum]
      refine wa_goto 124 dX2_neighbor_120 rfl ?_
      refine wa_iret FieldType.int dX2_neighbor_124 rfl rfl (Nat.le_of_ble_eq_true rfl) (Nat.le_of_ble_eq_true rfl) ?_
      exact ⟨by rw [hnb]; simp at c96; simp [c96, z_enc], rfl⟩
  ·
    have hrow : nI j / nI (z_cols c) + 0 = nI (j / z_cols c) := by rw [hdiv]; exact Int32.add_zero _
    have hq0 : j % z_cols c = 0 := by omega
    have hcol : nI j - nI j / nI (z_cols c) * nI (z_cols c) + (-1) = -1 := by rw [hrem, hq0]; decide
    have hnb : z_nb c j 3 = none := by unfold z_nb z_beside; simp only [if_neg hc]
    refine w_start (by decide) (Nat.le_of_ble_eq_true rfl) (fun X => ?_)
    refine wa_locals [(0, _), (1, _), (2, _)] [0, 1, 2] rfl ?_
    refine wa_iload_n 1 dX2_neighbor_0 rfl rfl ?_
    refine wa_aload_n 0 dX2_neighbor_1 rfl rfl ?_
    refine wa_getf dX2_neighbor_2 gX2_29 hg rfl ?_
    refine wa_idiv dX2_neighbor_5 hnz ?_
    refine wa_iload_n 2 dX2_neighbor_6 rfl rfl ?_
    refine wa_if_ne 14 dX2_neighbor_7 rfl (fun c7 => ?_) (fun c7 => absurd c7 (by decide))
    refine wa_iload_n 2 dX2_neighbor_14 rfl rfl ?_
    refine wa_iconst (2) dX2_neighbor_15 (by decide) ?_
    refine wa_icmp_ne 23 dX2_neighbor_16 rfl (fun c16 => ?_) (fun c16 => absurd c16 (by decide))
    refine wa_iconst (0) dX2_neighbor_23 (by decide) ?_
    refine wa_iadd dX2_neighbor_24 ?_
    rw [hrow]
    refine wa_istore_n [(3, _), (0, _), (1, _), (2, _)] dX2_neighbor_25 rfl (Nat.le_of_ble_eq_true rfl) rfl ?_
    refine wa_iload_n 2 dX2_neighbor_26 rfl rfl ?_
    refine wa_aload_n 1 dX2_neighbor_27 rfl rfl ?_
    refine wa_getf dX2_neighbor_28 gX2_29 hg rfl ?_
    refine wa_irem dX2_neighbor_31 hnz ?_
    refine wa_iload_n 3 dX2_neighbor_32 rfl rfl ?_
    refine wa_iconst (1) dX2_neighbor_33 (by decide) ?_
    refine wa_icmp_ne 41 dX2_neighbor_34 rfl (fun c34 => ?_) (fun c34 => absurd c34 (by decide))
    refine wa_iload_n 3 dX2_neighbor_41 rfl rfl ?_
    refine wa_iconst (3) dX2_neighbor_42 (by decide) ?_
    refine wa_icmp_ne 50 dX2_neighbor_43 rfl (fun c43 => absurd (by decide) c43) (fun c43 => ?_)
    refine wa_iconst (-1) dX2_neighbor_46 (by decide) ?_
    refine wa_goto 51 dX2_neighbor_47 rfl ?_
    refine wa_iadd dX2_neighbor_51 ?_
    rw [hcol]
    refine wa_istore [(4, _), (3, _), (0, _), (1, _), (2, _)] dX2_neighbor_52 (Nat.le_of_ble_eq_true rfl) rfl ?_
    refine wa_iload_n 1 dX2_neighbor_54 rfl rfl ?_
    refine wa_iconst (0) dX2_neighbor_55 (by decide) ?_
    refine wa_aload_n 2 dX2_neighbor_56 rfl rfl ?_
    refine wa_getf dX2_neighbor_57 gX2_25 hg rfl ?_
    refine wa_iconst (1) dX2_neighbor_60 (by decide) ?_
    refine wa_isub dX2_neighbor_61 ?_
    refine wc_isI (wr_S dX2_neighbor_62 mX2_75 sp_between rfl rfl rfl (Nat.le_of_ble_eq_true rfl)) ?_
    rw [z_btw1 hr (by omega)]
    refine wa_if_eq 103 dX2_neighbor_65 rfl (fun c65 => absurd c65 (by decide)) (fun c65 => ?_)
    refine wa_iload 0 dX2_neighbor_68 rfl ?_
    refine wa_iconst (0) dX2_neighbor_70 (by decide) ?_
    refine wa_aload_n 2 dX2_neighbor_71 rfl rfl ?_
    refine wa_getf dX2_neighbor_72 gX2_29 hg rfl ?_
    refine wa_iconst (1) dX2_neighbor_75 (by decide) ?_
    refine wa_isub dX2_neighbor_76 ?_
    refine wc_isI (wr_S dX2_neighbor_77 mX2_75 sp_between rfl rfl rfl (Nat.le_of_ble_eq_true rfl)) ?_
    rw [z_btwM]
    refine wa_if_eq 103 dX2_neighbor_80 rfl (fun c80 => ?_) (fun c80 => absurd (by decide) c80)
    refine wa_iconst (0) dX2_neighbor_103 (by decide) ?_
    refine wa_istore [(5, _), (4, _), (3, _), (0, _), (1, _), (2, _)] dX2_neighbor_104 (Nat.le_of_ble_eq_true rfl) rfl ?_
    refine wa_iload 0 dX2_neighbor_106 rfl ?_
    refine wa_if_eq 123 dX2_neighbor_108 rfl (fun c108 => ?_) (fun c108 => absurd (by decide) c108)
    refine wa_iconst (-1) dX2_neighbor_123 (by decide) ?_
    refine wa_iret FieldType.int dX2_neighbor_124 rfl rfl (Nat.le_of_ble_eq_true rfl) (Nat.le_of_ble_eq_true rfl) ?_
    exact ⟨by rw [hnb]; rfl, rfl⟩
theorem sp_nb (h : z_coreL G M P a kd rl ol sg ra oa ras oas c) (hs : z_small c) {j w : Nat} (hj : j < z_size c) (hw : w < 4) : w_S l G tX2_neighbor (3, 0, 0) [.ref a, .int (nI j), .int (nI w)] M (w_is (.inl (some (.int (z_enc (z_nb c j w))))) M) := by
  match w, hw with
  | 0, _ => exact sp_nb0 h hs hj
  | 1, _ => exact sp_nb1 h hs hj
  | 2, _ => exact sp_nb2 h hs hj
  | 3, _ => exact sp_nb3 h hs hj
end NB
