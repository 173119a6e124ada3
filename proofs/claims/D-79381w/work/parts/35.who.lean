/-! ===== the core: which robot is where ===== -/
set_option maxRecDepth 100000
section WH
variable {l : Launch} {G : w_G} {M : w_M} {P : Nat → Prop} {a kd rl ol sg ra oa : Nat} {ras oas : List Nat} {c : z_C}
/-- the k-th robot's cell in the memory -/
theorem z_robAt (h : z_coreL G M P a kd rl ol sg ra oa ras oas c) {k : Nat} {r : z_R} (hr : (z_robs c)[k]? = some r) : ∃ x, ras[k]? = some x ∧ z_rob M (fun q => P q ∧ q ≠ sg) x r := by
  have hl : ras.length = (z_robs c).length := h.2.2.2.2.2.2.1
  have hk : k < ras.length := by rw [hl]; exact (List.getElem?_eq_some_iff.mp hr).1
  exact ⟨ras[k], List.getElem?_eq_getElem hk, h.2.2.2.2.2.2.2.2.1 k _ r (List.getElem?_eq_getElem hk) hr⟩
theorem z_ordAt (h : z_coreL G M P a kd rl ol sg ra oa ras oas c) {k : Nat} {o : z_O} (hr : (z_ords c)[k]? = some o) : ∃ x, oas[k]? = some x ∧ z_ord M (fun q => P q ∧ q ≠ sg) x k o := by
  have hl : oas.length = (z_ords c).length := h.2.2.2.2.2.2.2.1
  have hk : k < oas.length := by rw [hl]; exact (List.getElem?_eq_some_iff.mp hr).1
  exact ⟨oas[k], List.getElem?_eq_getElem hk, h.2.2.2.2.2.2.2.2.2.1 k _ o (List.getElem?_eq_getElem hk) hr⟩
theorem sp_robotAt (h : z_coreL G M P a kd rl ol sg ra oa ras oas c) (hs : z_small c) {cl t : Nat} {but : Int32} (hcl : cl < 2 ^ 31) (ht : t < 2 ^ 31) : w_S l G tX2_robotAt (4, 0, 0) [.ref a, .int (nI cl), .int (nI t), .int but] M (w_is (.inl (some (.int (z_enc (z_robotAt c cl t but))))) M) := by
  have hg := h.2.1
  have hal : w_AL G M rl ra ras := h.2.2.2.2.1
  have hlen : ras.length = (z_robs c).length := h.2.2.2.2.2.2.1
  have h6 : (z_robs c).length ≤ 6 := hs.2.2.2.2.1
  have hgl := hal.choose_spec.1
  have hsz := hs.size
  refine w_start (by decide) (Nat.le_of_ble_eq_true rfl) (fun X => ?_)
  refine wa_locals [(0, _), (1, _), (2, _), (3, _)] [0, 1, 2, 3] rfl ?_
  have LP : ∀ (n k : Nat), k ≤ (z_robs c).length → (z_robs c).length ≤ k + n → z_atFrom k ((z_robs c).drop k) cl t but = z_robotAt c cl t but → w_A l G tX2_robotAt (4, 0, 0) X 0 0 M 3 [(4, .int (nI k)), (0, .ref a), (1, .int (nI cl)), (2, .int (nI t)), (3, .int but)] [] (w_is (.inl (some (.int (z_enc (z_robotAt c cl t but))))) M) := by
    intro n
    induction n with
    | zero =>
      intro k hk hn e
      refine wa_iload 0 dX2_robotAt_3 rfl ?_
      refine wa_aload_n 1 dX2_robotAt_5 rfl rfl ?_
      refine wa_getf dX2_robotAt_6 gX2_12 hg rfl ?_
      refine wc_isI (wr_V dX2_robotAt_9 mX2_38 (sp_size hal) hgl rfl rfl rfl (Nat.le_of_ble_eq_true rfl)) ?_
      refine wa_icmp_ge 50 dX2_robotAt_12 rfl (fun c12 => ?_) (fun c12 => absurd (nI_le (by omega) (by omega)) c12)
      refine wa_iconst (-1) dX2_robotAt_50 (by decide) ?_
      refine wa_iret FieldType.int dX2_robotAt_51 rfl rfl (Nat.le_of_ble_eq_true rfl) (Nat.le_of_ble_eq_true rfl) ?_
      exact ⟨by rw [← e, List.drop_eq_nil_of_le (by omega)]; rfl, rfl⟩
    | succ n ih =>
      intro k hk hn e
      refine wa_iload 0 dX2_robotAt_3 rfl ?_
      refine wa_aload_n 1 dX2_robotAt_5 rfl rfl ?_
      refine wa_getf dX2_robotAt_6 gX2_12 hg rfl ?_
      refine wc_isI (wr_V dX2_robotAt_9 mX2_38 (sp_size hal) hgl rfl rfl rfl (Nat.le_of_ble_eq_true rfl)) ?_
      refine wa_icmp_ge 50 dX2_robotAt_12 rfl (fun c12 => ?_) (fun c12 => ?_)
      ·
        refine wa_iconst (-1) dX2_robotAt_50 (by decide) ?_
        refine wa_iret FieldType.int dX2_robotAt_51 rfl rfl (Nat.le_of_ble_eq_true rfl) (Nat.le_of_ble_eq_true rfl) ?_
        exact ⟨by rw [← e, List.drop_eq_nil_of_le (by have := (nI_leI (by omega) (by omega)).mp c12; omega)]; rfl, rfl⟩
      ·
        have hlt : k < (z_robs c).length := by rw [← hlen]; exact Nat.lt_of_not_le (fun q => c12 (nI_le q (by omega)))
        obtain ⟨r, hr⟩ : ∃ r, (z_robs c)[k]? = some r := ⟨_, List.getElem?_eq_getElem hlt⟩
        obtain ⟨x, hx, pv, hrp, hrn⟩ := z_robAt h hr
        obtain ⟨dn, -, hob, -⟩ := id hrp
        have hdrop : (z_robs c).drop k = r :: (z_robs c).drop (k + 1) := by
          rw [List.drop_eq_getElem_cons hlt]
          congr 1
          exact Option.some.inj ((List.getElem?_eq_getElem hlt).symm.trans hr)
        have hal2 := z_ahead_lt hs (List.mem_of_getElem? hr) t
        rw [hdrop, z_atFrom] at e
        refine wa_iload 0 dX2_robotAt_15 rfl ?_
        refine wa_iload_n 4 dX2_robotAt_17 rfl rfl ?_
        refine wa_icmp_eq 44 dX2_robotAt_18 rfl (fun c18 => ?_) (fun c18 => ?_)
        ·
          refine wa_iinc 0 [(4, _), (0, _), (1, _), (2, _), (3, _)] dX2_robotAt_44 rfl (w_inc _) (Nat.le_of_ble_eq_true rfl) rfl ?_
          refine wa_goto 3 dX2_robotAt_47 rfl ?_
          refine ih (k + 1) (by omega) (by omega) ?_
          have hno : ¬ (nI k ≠ but ∧ z_ahead r t = cl) := by
            first
              | exact fun q => q.1 c18
              | exact fun q => c38 (congrArg nI q.2)
          rw [if_neg hno] at e
          exact e
        ·
          refine wa_aload_n 1 dX2_robotAt_21 rfl rfl ?_
          refine wa_getf dX2_robotAt_22 gX2_12 hg rfl ?_
          refine wa_iload 0 dX2_robotAt_25 rfl ?_
          refine wc_isA (wr_V dX2_robotAt_27 mX2_42 (sp_get hal hx) hgl rfl rfl rfl (Nat.le_of_ble_eq_true rfl)) ?_
          refine wa_castS dX2_robotAt_30 q259 hob rfl ?_
          refine wa_iload_n 3 dX2_robotAt_33 rfl rfl ?_
          refine wc_isI (wr_V dX2_robotAt_34 mX2_86 (sp_cellAhead hrp hrn ht) hob rfl rfl rfl (Nat.le_of_ble_eq_true rfl)) ?_
          refine wa_iload_n 2 dX2_robotAt_37 rfl rfl ?_
          refine wa_icmp_ne 44 dX2_robotAt_38 rfl (fun c38 => ?_) (fun c38 => ?_)
          ·
            refine wa_iinc 0 [(4, _), (0, _), (1, _), (2, _), (3, _)] dX2_robotAt_44 rfl (w_inc _) (Nat.le_of_ble_eq_true rfl) rfl ?_
            refine wa_goto 3 dX2_robotAt_47 rfl ?_
            refine ih (k + 1) (by omega) (by omega) ?_
            have hno : ¬ (nI k ≠ but ∧ z_ahead r t = cl) := by
              first
                | exact fun q => q.1 c18
                | exact fun q => c38 (congrArg nI q.2)
            rw [if_neg hno] at e
            exact e
          ·
            refine wa_iload 0 dX2_robotAt_41 rfl ?_
            refine wa_iret FieldType.int dX2_robotAt_43 rfl rfl (Nat.le_of_ble_eq_true rfl) (Nat.le_of_ble_eq_true rfl) ?_
            refine ⟨?_, rfl⟩
            rw [if_pos ⟨c18, (nI_eq (by omega) hcl).mp c38⟩] at e
            rw [← e]
            rfl
  refine wa_iconst (0) dX2_robotAt_0 (by decide) ?_
  refine wa_istore [(4, _), (0, _), (1, _), (2, _), (3, _)] dX2_robotAt_1 (Nat.le_of_ble_eq_true rfl) rfl ?_
  exact LP (z_robs c).length 0 (Nat.zero_le _) (by omega) rfl
theorem sp_robotEver (h : z_coreL G M P a kd rl ol sg ra oa ras oas c) (hs : z_small c) {cl : Nat} {but : Int32} (hcl : cl < 2 ^ 31) : w_S l G tX2_robotEver (5, 0, 0) [.ref a, .int (nI cl), .int but] M (w_is (.inl (some (.int (z_enc (z_robotEver c cl but))))) M) := by
  have hg := h.2.1
  have h6 : (z_robs c).length ≤ 6 := hs.2.2.2.2.1
  refine w_start (by decide) (Nat.le_of_ble_eq_true rfl) (fun X => ?_)
  refine wa_locals [(0, _), (1, _), (2, _)] [0, 1, 2] rfl ?_
  have LP : ∀ (t : Nat), t ≤ 30 → ∀ (f : Option Nat), (∀ k, f = some k → k < (z_robs c).length) → z_everFrom c cl but t f = z_robotEver c cl but → w_A l G tX2_robotEver (5, 0, 0) X 0 0 M 6 [(4, .int (nI t)), (3, .int (z_enc f)), (0, .ref a), (1, .int (nI cl)), (2, .int but)] [] (w_is (.inl (some (.int (z_enc (z_robotEver c cl but))))) M) := by
    intro t
    induction t with
    | zero =>
      intro ht f hf e
      have hg9 : ∀ k, z_robotAt c cl 0 but = some k → k < 2 ^ 31 := fun k q => by have := z_robotAt_lt q; omega
      have hf9 : ∀ k, f = some k → k < 2 ^ 31 := fun k q => by have := hf k q; omega
      refine wa_iload 0 dX2_robotEver_6 rfl ?_
      refine wa_if_lt 51 dX2_robotEver_8 rfl (fun c8 => absurd c8 (by decide)) (fun c8 => ?_)
      refine wa_aload_n 2 dX2_robotEver_11 rfl rfl ?_
      refine wa_iload_n 3 dX2_robotEver_12 rfl rfl ?_
      refine wa_iload 0 dX2_robotEver_13 rfl ?_
      refine wa_iload_n 4 dX2_robotEver_15 rfl rfl ?_
      refine wc_isI (wr_V dX2_robotEver_16 mX2_90 (sp_robotAt h hs hcl (by omega)) hg rfl rfl rfl (Nat.le_of_ble_eq_true rfl)) ?_
      refine wa_istore [(5, _), (4, _), (3, _), (0, _), (1, _), (2, _)] dX2_robotEver_19 (Nat.le_of_ble_eq_true rfl) rfl ?_
      refine wa_iload 0 dX2_robotEver_21 rfl ?_
      refine wa_iconst (-1) dX2_robotEver_23 (by decide) ?_
      refine wa_icmp_eq 43 dX2_robotEver_24 rfl (fun c24 => ?_) (fun c24 => ?_)
      ·
        refine wa_iload_n 2 dX2_robotEver_43 rfl rfl ?_
        refine wa_istore_n [(3, _), (5, _), (4, _), (0, _), (1, _), (2, _)] dX2_robotEver_44 rfl (Nat.le_of_ble_eq_true rfl) rfl ?_
        refine wa_locals [(3, _), (4, _), (0, _), (1, _), (2, _)] [0, 2, 3, 4, 5] rfl ?_
        refine wa_iinc 1 [(4, _), (3, _), (0, _), (1, _), (2, _)] dX2_robotEver_45 rfl rfl (Nat.le_of_ble_eq_true rfl) rfl ?_
        refine wa_goto 6 dX2_robotEver_48 rfl ?_
        refine wa_iload 0 dX2_robotEver_6 rfl ?_
        refine wa_if_lt 51 dX2_robotEver_8 rfl (fun c8' => ?_) (fun c8' => absurd (by decide) c8')
        refine wa_iload_n 1 dX2_robotEver_51 rfl rfl ?_
        refine wa_iret FieldType.int dX2_robotEver_52 rfl rfl (Nat.le_of_ble_eq_true rfl) (Nat.le_of_ble_eq_true rfl) ?_
        have e2 : z_enc (z_robotEver c cl but) = _ := (congrArg z_enc e.symm).trans (z_low_enc hg9 hf9)
        refine ⟨congrArg (fun z => Sum.inl (some (Value.int z))) (Eq.symm (e2.trans ?_)), rfl⟩
        exact if_neg (fun q => q.1 c24)
      ·
        refine wa_iload_n 2 dX2_robotEver_27 rfl rfl ?_
        refine wa_iconst (-1) dX2_robotEver_28 (by decide) ?_
        refine wa_icmp_eq 38 dX2_robotEver_29 rfl (fun c29 => ?_) (fun c29 => ?_)
        ·
          refine wa_iload 0 dX2_robotEver_38 rfl ?_
          refine wa_goto 44 dX2_robotEver_40 rfl ?_
          refine wa_istore_n [(3, _), (5, _), (4, _), (0, _), (1, _), (2, _)] dX2_robotEver_44 rfl (Nat.le_of_ble_eq_true rfl) rfl ?_
          refine wa_locals [(3, _), (4, _), (0, _), (1, _), (2, _)] [0, 2, 3, 4, 5] rfl ?_
          refine wa_iinc 1 [(4, _), (3, _), (0, _), (1, _), (2, _)] dX2_robotEver_45 rfl rfl (Nat.le_of_ble_eq_true rfl) rfl ?_
          refine wa_goto 6 dX2_robotEver_48 rfl ?_
          refine wa_iload 0 dX2_robotEver_6 rfl ?_
          refine wa_if_lt 51 dX2_robotEver_8 rfl (fun c8' => ?_) (fun c8' => absurd (by decide) c8')
          refine wa_iload_n 1 dX2_robotEver_51 rfl rfl ?_
          refine wa_iret FieldType.int dX2_robotEver_52 rfl rfl (Nat.le_of_ble_eq_true rfl) (Nat.le_of_ble_eq_true rfl) ?_
          have e2 : z_enc (z_robotEver c cl but) = _ := (congrArg z_enc e.symm).trans (z_low_enc hg9 hf9)
          refine ⟨congrArg (fun z => Sum.inl (some (Value.int z))) (Eq.symm (e2.trans ?_)), rfl⟩
          exact if_pos ⟨c24, Or.inl c29⟩
        ·
          refine wa_iload 0 dX2_robotEver_32 rfl ?_
          refine wa_iload_n 2 dX2_robotEver_34 rfl rfl ?_
          refine wa_icmp_ge 43 dX2_robotEver_35 rfl (fun c35 => ?_) (fun c35 => ?_)
          ·
            refine wa_iload_n 2 dX2_robotEver_43 rfl rfl ?_
            refine wa_istore_n [(3, _), (5, _), (4, _), (0, _), (1, _), (2, _)] dX2_robotEver_44 rfl (Nat.le_of_ble_eq_true rfl) rfl ?_
            refine wa_locals [(3, _), (4, _), (0, _), (1, _), (2, _)] [0, 2, 3, 4, 5] rfl ?_
            refine wa_iinc 1 [(4, _), (3, _), (0, _), (1, _), (2, _)] dX2_robotEver_45 rfl rfl (Nat.le_of_ble_eq_true rfl) rfl ?_
            refine wa_goto 6 dX2_robotEver_48 rfl ?_
            refine wa_iload 0 dX2_robotEver_6 rfl ?_
            refine wa_if_lt 51 dX2_robotEver_8 rfl (fun c8' => ?_) (fun c8' => absurd (by decide) c8')
            refine wa_iload_n 1 dX2_robotEver_51 rfl rfl ?_
            refine wa_iret FieldType.int dX2_robotEver_52 rfl rfl (Nat.le_of_ble_eq_true rfl) (Nat.le_of_ble_eq_true rfl) ?_
            have e2 : z_enc (z_robotEver c cl but) = _ := (congrArg z_enc e.symm).trans (z_low_enc hg9 hf9)
            refine ⟨congrArg (fun z => Sum.inl (some (Value.int z))) (Eq.symm (e2.trans ?_)), rfl⟩
            exact if_neg (fun q => q.2.elim c29 (fun z => Int32.not_lt.mpr c35 z))
          ·
            refine wa_iload 0 dX2_robotEver_38 rfl ?_
            refine wa_goto 44 dX2_robotEver_40 rfl ?_
            refine wa_istore_n [(3, _), (5, _), (4, _), (0, _), (1, _), (2, _)] dX2_robotEver_44 rfl (Nat.le_of_ble_eq_true rfl) rfl ?_
            refine wa_locals [(3, _), (4, _), (0, _), (1, _), (2, _)] [0, 2, 3, 4, 5] rfl ?_
            refine wa_iinc 1 [(4, _), (3, _), (0, _), (1, _), (2, _)] dX2_robotEver_45 rfl rfl (Nat.le_of_ble_eq_true rfl) rfl ?_
            refine wa_goto 6 dX2_robotEver_48 rfl ?_
            refine wa_iload 0 dX2_robotEver_6 rfl ?_
            refine wa_if_lt 51 dX2_robotEver_8 rfl (fun c8' => ?_) (fun c8' => absurd (by decide) c8')
            refine wa_iload_n 1 dX2_robotEver_51 rfl rfl ?_
            refine wa_iret FieldType.int dX2_robotEver_52 rfl rfl (Nat.le_of_ble_eq_true rfl) (Nat.le_of_ble_eq_true rfl) ?_
            have e2 : z_enc (z_robotEver c cl but) = _ := (congrArg z_enc e.symm).trans (z_low_enc hg9 hf9)
            refine ⟨congrArg (fun z => Sum.inl (some (Value.int z))) (Eq.symm (e2.trans ?_)), rfl⟩
            exact if_pos ⟨c24, Or.inr (Int32.not_le.mp c35)⟩
    | succ t ih =>
      intro ht f hf e
      have hg9 : ∀ k, z_robotAt c cl (t + 1) but = some k → k < 2 ^ 31 := fun k q => by have := z_robotAt_lt q; omega
      have hf9 : ∀ k, f = some k → k < 2 ^ 31 := fun k q => by have := hf k q; omega
      have ih := ih (by omega) (z_low (z_robotAt c cl (t + 1) but) f) (z_low_lt (fun k q => z_robotAt_lt q) hf) e
      have ih2 : ∀ v, z_enc (z_low (z_robotAt c cl (t + 1) but) f) = v → w_A l G tX2_robotEver (5, 0, 0) X 0 0 M 6 [(4, .int (nI t)), (3, .int v), (0, .ref a), (1, .int (nI cl)), (2, .int but)] [] (w_is (.inl (some (.int (z_enc (z_robotEver c cl but))))) M) := fun v hv => hv ▸ ih
      refine wa_iload 0 dX2_robotEver_6 rfl ?_
      refine wa_if_lt 51 dX2_robotEver_8 rfl (fun c8 => absurd c8 (nI_pos (by omega))) (fun c8 => ?_)
      refine wa_aload_n 2 dX2_robotEver_11 rfl rfl ?_
      refine wa_iload_n 3 dX2_robotEver_12 rfl rfl ?_
      refine wa_iload 0 dX2_robotEver_13 rfl ?_
      refine wa_iload_n 4 dX2_robotEver_15 rfl rfl ?_
      refine wc_isI (wr_V dX2_robotEver_16 mX2_90 (sp_robotAt h hs hcl (by omega)) hg rfl rfl rfl (Nat.le_of_ble_eq_true rfl)) ?_
      refine wa_istore [(5, _), (4, _), (3, _), (0, _), (1, _), (2, _)] dX2_robotEver_19 (Nat.le_of_ble_eq_true rfl) rfl ?_
      refine wa_iload 0 dX2_robotEver_21 rfl ?_
      refine wa_iconst (-1) dX2_robotEver_23 (by decide) ?_
      refine wa_icmp_eq 43 dX2_robotEver_24 rfl (fun c24 => ?_) (fun c24 => ?_)
      ·
        refine wa_iload_n 2 dX2_robotEver_43 rfl rfl ?_
        refine wa_istore_n [(3, _), (5, _), (4, _), (0, _), (1, _), (2, _)] dX2_robotEver_44 rfl (Nat.le_of_ble_eq_true rfl) rfl ?_
        refine wa_iinc 2 [(4, _), (3, _), (5, _), (0, _), (1, _), (2, _)] dX2_robotEver_45 rfl (w_dec _) (Nat.le_of_ble_eq_true rfl) rfl ?_
        refine wa_goto 6 dX2_robotEver_48 rfl ?_
        refine wa_locals [(4, _), (3, _), (0, _), (1, _), (2, _)] [0, 1, 3, 4, 5] rfl ?_
        refine ih2 _ ((z_low_enc hg9 hf9).trans ?_)
        exact if_neg (fun q => q.1 c24)
      ·
        refine wa_iload_n 2 dX2_robotEver_27 rfl rfl ?_
        refine wa_iconst (-1) dX2_robotEver_28 (by decide) ?_
        refine wa_icmp_eq 38 dX2_robotEver_29 rfl (fun c29 => ?_) (fun c29 => ?_)
        ·
          refine wa_iload 0 dX2_robotEver_38 rfl ?_
          refine wa_goto 44 dX2_robotEver_40 rfl ?_
          refine wa_istore_n [(3, _), (5, _), (4, _), (0, _), (1, _), (2, _)] dX2_robotEver_44 rfl (Nat.le_of_ble_eq_true rfl) rfl ?_
          refine wa_iinc 2 [(4, _), (3, _), (5, _), (0, _), (1, _), (2, _)] dX2_robotEver_45 rfl (w_dec _) (Nat.le_of_ble_eq_true rfl) rfl ?_
          refine wa_goto 6 dX2_robotEver_48 rfl ?_
          refine wa_locals [(4, _), (3, _), (0, _), (1, _), (2, _)] [0, 1, 3, 4, 5] rfl ?_
          refine ih2 _ ((z_low_enc hg9 hf9).trans ?_)
          exact if_pos ⟨c24, Or.inl c29⟩
        ·
          refine wa_iload 0 dX2_robotEver_32 rfl ?_
          refine wa_iload_n 2 dX2_robotEver_34 rfl rfl ?_
          refine wa_icmp_ge 43 dX2_robotEver_35 rfl (fun c35 => ?_) (fun c35 => ?_)
          ·
            refine wa_iload_n 2 dX2_robotEver_43 rfl rfl ?_
            refine wa_istore_n [(3, _), (5, _), (4, _), (0, _), (1, _), (2, _)] dX2_robotEver_44 rfl (Nat.le_of_ble_eq_true rfl) rfl ?_
            refine wa_iinc 2 [(4, _), (3, _), (5, _), (0, _), (1, _), (2, _)] dX2_robotEver_45 rfl (w_dec _) (Nat.le_of_ble_eq_true rfl) rfl ?_
            refine wa_goto 6 dX2_robotEver_48 rfl ?_
            refine wa_locals [(4, _), (3, _), (0, _), (1, _), (2, _)] [0, 1, 3, 4, 5] rfl ?_
            refine ih2 _ ((z_low_enc hg9 hf9).trans ?_)
            exact if_neg (fun q => q.2.elim c29 (fun z => Int32.not_lt.mpr c35 z))
          ·
            refine wa_iload 0 dX2_robotEver_38 rfl ?_
            refine wa_goto 44 dX2_robotEver_40 rfl ?_
            refine wa_istore_n [(3, _), (5, _), (4, _), (0, _), (1, _), (2, _)] dX2_robotEver_44 rfl (Nat.le_of_ble_eq_true rfl) rfl ?_
            refine wa_iinc 2 [(4, _), (3, _), (5, _), (0, _), (1, _), (2, _)] dX2_robotEver_45 rfl (w_dec _) (Nat.le_of_ble_eq_true rfl) rfl ?_
            refine wa_goto 6 dX2_robotEver_48 rfl ?_
            refine wa_locals [(4, _), (3, _), (0, _), (1, _), (2, _)] [0, 1, 3, 4, 5] rfl ?_
            refine ih2 _ ((z_low_enc hg9 hf9).trans ?_)
            exact if_pos ⟨c24, Or.inr (Int32.not_le.mp c35)⟩
  refine wa_iconst (-1) dX2_robotEver_0 (by decide) ?_
  refine wa_istore_n [(3, _), (0, _), (1, _), (2, _)] dX2_robotEver_1 rfl (Nat.le_of_ble_eq_true rfl) rfl ?_
  refine wa_bipush (30) dX2_robotEver_2 (by decide) ?_
  refine wa_istore [(4, _), (3, _), (0, _), (1, _), (2, _)] dX2_robotEver_4 (Nat.le_of_ble_eq_true rfl) rfl ?_
  exact LP 30 (Nat.le_refl _) none (fun _ h => by cases h) rfl
theorem sp_occN (h : z_coreL G M P a kd rl ol sg ra oa ras oas c) (hs : z_small c) {cl : Nat} {but : Int32} (hcl : cl < 2 ^ 31) (hn : z_robotEver c cl but = none) : w_S l G tX2_refuseOccupied (6, 0, 0) [.ref a, .int (nI cl), .int but] M (w_is (.inl none) M) := by
  have hg := h.2.1
  refine w_start (by decide) (Nat.le_of_ble_eq_true rfl) (fun X => ?_)
  refine wa_locals [(0, _), (1, _), (2, _)] [0, 1, 2] rfl ?_
  refine wa_aload_n 0 dX2_refuseOccupied_0 rfl rfl ?_
  refine wa_iload_n 1 dX2_refuseOccupied_1 rfl rfl ?_
  refine wa_iload_n 2 dX2_refuseOccupied_2 rfl rfl ?_
  refine wc_isI (wr_V dX2_refuseOccupied_3 mX2_94 (sp_robotEver h hs hcl) hg rfl rfl rfl (Nat.le_of_ble_eq_true rfl)) ?_
  rw [hn]
  refine wa_istore_n [(3, _), (0, _), (1, _), (2, _)] dX2_refuseOccupied_6 rfl (Nat.le_of_ble_eq_true rfl) rfl ?_
  refine wa_iload_n 0 dX2_refuseOccupied_7 rfl rfl ?_
  refine wa_iconst (-1) dX2_refuseOccupied_8 (by decide) ?_
  refine wa_icmp_eq 16 dX2_refuseOccupied_9 rfl (fun c9 => ?_) (fun c9 => absurd rfl c9)
  refine wa_iconst (0) dX2_refuseOccupied_16 (by decide) ?_
  refine wa_iconst (5) dX2_refuseOccupied_17 (by decide) ?_
  refine wa_iload_n 0 dX2_refuseOccupied_18 rfl rfl ?_
  refine wc_isV (wr_S dX2_refuseOccupied_19 mX2_98 sp_refuse3N rfl rfl rfl (Nat.le_of_ble_eq_true rfl)) ?_
  refine wa_vret dX2_refuseOccupied_22 rfl (Nat.le_of_ble_eq_true rfl) (Nat.le_of_ble_eq_true rfl) ?_
  exact ⟨rfl, rfl⟩
theorem sp_occT (h : z_coreL G M P a kd rl ol sg ra oa ras oas c) (hs : z_small c) {cl k : Nat} {but : Int32} (hcl : cl < 2 ^ 31) (hn : z_robotEver c cl but = some k) : w_S l G tX2_refuseOccupied (6, 1, 8) [.ref a, .int (nI cl), .int but] M (w_is (.inr ("RobotAisles$RefusedException", M.sz)) (M.push (.inr (7, [.null, .null, .null, .null, .null, .int 0, .int 5, .int (nI k)])))) := by
  have hg := h.2.1
  have hk := z_robotEver_lt hn
  have h6 : (z_robs c).length ≤ 6 := hs.2.2.2.2.1
  have hne : ¬ z_enc (some k) = -1 := fun q => by have := (z_enc_m1 (g := some k) (fun j e => by cases e; omega)).mp q; cases this
  refine w_start (by decide) (Nat.le_of_ble_eq_true rfl) (fun X => ?_)
  refine wa_locals [(0, _), (1, _), (2, _)] [0, 1, 2] rfl ?_
  refine wa_aload_n 0 dX2_refuseOccupied_0 rfl rfl ?_
  refine wa_iload_n 1 dX2_refuseOccupied_1 rfl rfl ?_
  refine wa_iload_n 2 dX2_refuseOccupied_2 rfl rfl ?_
  refine wc_isI (wr_V dX2_refuseOccupied_3 mX2_94 (sp_robotEver h hs hcl) hg rfl rfl rfl (Nat.le_of_ble_eq_true rfl)) ?_
  rw [hn]
  refine wa_istore_n [(3, _), (0, _), (1, _), (2, _)] dX2_refuseOccupied_6 rfl (Nat.le_of_ble_eq_true rfl) rfl ?_
  refine wa_iload_n 0 dX2_refuseOccupied_7 rfl rfl ?_
  refine wa_iconst (-1) dX2_refuseOccupied_8 (by decide) ?_
  refine wa_icmp_eq 16 dX2_refuseOccupied_9 rfl (fun c9 => absurd c9 hne) (fun c9 => ?_)
  refine wa_iconst (1) dX2_refuseOccupied_12 (by decide) ?_
  refine wa_goto 17 dX2_refuseOccupied_13 rfl ?_
  refine wa_iconst (5) dX2_refuseOccupied_17 (by decide) ?_
  refine wa_iload_n 0 dX2_refuseOccupied_18 rfl rfl ?_
  refine wc_isx (wr_S dX2_refuseOccupied_19 mX2_98 sp_refuse3T rfl rfl rfl (Nat.le_of_ble_eq_true rfl)) ?_
  exact wx_out (fun _ h => by cases h) (Nat.le_of_ble_eq_true rfl) (Nat.le_of_ble_eq_true rfl) ⟨rfl, rfl⟩
theorem sp_isLoaded (h : z_coreL G M P a kd rl ol sg ra oa ras oas c) (hs : z_small c) {k : Nat} {r : z_R} (hr : (z_robs c)[k]? = some r) : w_S l G tX2_isLoaded (4, 0, 0) [.ref a, .int (nI k)] M (w_is (.inl (some (.int (if z_loaded c r then 1 else 0)))) M) := by
  have hg := h.2.1
  have hal : w_AL G M rl ra ras := h.2.2.2.2.1
  have hol : w_AL G M ol oa oas := h.2.2.2.2.2.1
  have hgl := hal.choose_spec.1
  have hgo := hol.choose_spec.1
  have h10 : (z_ords c).length ≤ 10 := hs.2.2.2.2.2.1
  obtain ⟨x, hx, pv, hrp, hrn⟩ := z_robAt h hr
  obtain ⟨dn, -, hob, -⟩ := id hrp
  have hhas := (hs.2.2.2.2.2.2.1 r (List.mem_of_getElem? hr)).2.2.2
  cases ho : z_has r with
  | none =>
    have hl : z_loaded c r = false := by unfold z_loaded; rw [ho]
    rw [ho] at hob
    rw [hl]
    refine w_start (by decide) (Nat.le_of_ble_eq_true rfl) (fun X => ?_)
    refine wa_locals [(0, _), (1, _)] [0, 1] rfl ?_
    refine wa_aload_n 0 dX2_isLoaded_0 rfl rfl ?_
    refine wa_getf dX2_isLoaded_1 gX2_12 hg rfl ?_
    refine wa_iload_n 1 dX2_isLoaded_4 rfl rfl ?_
    refine wc_isA (wr_V dX2_isLoaded_5 mX2_42 (sp_get hal hx) hgl rfl rfl rfl (Nat.le_of_ble_eq_true rfl)) ?_
    refine wa_castS dX2_isLoaded_8 q259 hob rfl ?_
    refine wa_getf dX2_isLoaded_11 gX2_117 hob rfl ?_
    refine wa_istore_n [(2, _), (0, _), (1, _)] dX2_isLoaded_14 rfl (Nat.le_of_ble_eq_true rfl) rfl ?_
    refine wa_iload_n 0 dX2_isLoaded_15 rfl rfl ?_
    refine wa_iconst (-1) dX2_isLoaded_16 (by decide) ?_
    refine wa_icmp_eq 41 dX2_isLoaded_17 rfl (fun c17 => ?_) (fun c17 => absurd rfl c17)
    refine wa_iconst (0) dX2_isLoaded_41 (by decide) ?_
    refine wa_iret FieldType.boolean dX2_isLoaded_42 rfl rfl (Nat.le_of_ble_eq_true rfl) (Nat.le_of_ble_eq_true rfl) ?_
    exact ⟨rfl, rfl⟩
  | some o =>
    obtain ⟨od, hod⟩ : ∃ od, (z_ords c)[o]? = some od := ⟨_, List.getElem?_eq_getElem (hhas o ho)⟩
    obtain ⟨y, hy, la, g1, g2, g3, f, g4, g5⟩ := z_ordAt h hod
    have hpk := (hs.2.2.2.2.2.2.2 od (List.mem_of_getElem? hod))
    have hl : z_loaded c r = decide (0 < z_picked od) := by unfold z_loaded; rw [ho]; simp only [hod]
    have hne : ¬ z_enc (some o) = -1 := fun q => by have := (z_enc_m1 (g := some o) (fun j e => by cases e; have := hhas o ho; omega)).mp q; cases this
    rw [ho] at hob
    rw [hl]
    refine w_start (by decide) (Nat.le_of_ble_eq_true rfl) (fun X => ?_)
    refine wa_locals [(0, _), (1, _)] [0, 1] rfl ?_
    refine wa_aload_n 0 dX2_isLoaded_0 rfl rfl ?_
    refine wa_getf dX2_isLoaded_1 gX2_12 hg rfl ?_
    refine wa_iload_n 1 dX2_isLoaded_4 rfl rfl ?_
    refine wc_isA (wr_V dX2_isLoaded_5 mX2_42 (sp_get hal hx) hgl rfl rfl rfl (Nat.le_of_ble_eq_true rfl)) ?_
    refine wa_castS dX2_isLoaded_8 q259 hob rfl ?_
    refine wa_getf dX2_isLoaded_11 gX2_117 hob rfl ?_
    refine wa_istore_n [(2, _), (0, _), (1, _)] dX2_isLoaded_14 rfl (Nat.le_of_ble_eq_true rfl) rfl ?_
    refine wa_iload_n 0 dX2_isLoaded_15 rfl rfl ?_
    refine wa_iconst (-1) dX2_isLoaded_16 (by decide) ?_
    refine wa_icmp_eq 41 dX2_isLoaded_17 rfl (fun c17 => absurd c17 hne) (fun c17 => ?_)
    refine wa_aload_n 1 dX2_isLoaded_20 rfl rfl ?_
    refine wa_getf dX2_isLoaded_21 gX2_18 hg rfl ?_
    refine wa_iload_n 0 dX2_isLoaded_24 rfl rfl ?_
    refine wc_isA (wr_V dX2_isLoaded_25 mX2_42 (sp_get hol hy) hgo rfl rfl rfl (Nat.le_of_ble_eq_true rfl)) ?_
    refine wa_castS dX2_isLoaded_28 q377 g3 rfl ?_
    refine wa_getf dX2_isLoaded_31 gX2_133 g3 rfl ?_
    refine wa_if_le 41 dX2_isLoaded_34 rfl (fun c34 => ?_) (fun c34 => ?_)
    ·
      refine wa_iconst (0) dX2_isLoaded_41 (by decide) ?_
      refine wa_iret FieldType.boolean dX2_isLoaded_42 rfl rfl (Nat.le_of_ble_eq_true rfl) (Nat.le_of_ble_eq_true rfl) ?_
      refine ⟨?_, rfl⟩
      have hz : nI (z_picked od) ≤ 0 ↔ z_picked od ≤ 0 := nI_leI (b := 0) (by omega) (by decide)
      rw [hz] at c34
      simp only [decide_eq_true_eq]
      first
        | rw [if_neg (by omega)]
        | rw [if_pos (by omega)]
    ·
      refine wa_iconst (1) dX2_isLoaded_37 (by decide) ?_
      refine wa_goto 42 dX2_isLoaded_38 rfl ?_
      refine wa_iret FieldType.boolean dX2_isLoaded_42 rfl rfl (Nat.le_of_ble_eq_true rfl) (Nat.le_of_ble_eq_true rfl) ?_
      refine ⟨?_, rfl⟩
      have hz : nI (z_picked od) ≤ 0 ↔ z_picked od ≤ 0 := nI_leI (b := 0) (by omega) (by decide)
      rw [hz] at c34
      simp only [decide_eq_true_eq]
      first
        | rw [if_neg (by omega)]
        | rw [if_pos (by omega)]
end WH
