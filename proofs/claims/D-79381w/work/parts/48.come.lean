/-! ===== RobotAisles' changes ===== -/
set_option maxRecDepth 100000
section CO
variable {l : Launch} {G : w_G} {M : w_M} {E : Nat → Prop} {x bl ba tx ca : Nat} {sv : Option Nat} {bas : List Nat} {S : z_S}
theorem z_frB {N : w_M} (h : w_fr M N (fun q => q = bl ∨ q = ba)) (h1 : ¬ E bl) (h2 : ¬ E ba) : w_fr M N (fun q => ¬ E q) := h.mono (fun q _ e => by rcases e with rfl | rfl <;> assumption)
theorem z_appendC (h : z_sysL G M E x bl ba tx ca sv bas S) : ∀ (i y : Nat) (c : z_C), (bas ++ [ca])[i]? = some y → (z_past S ++ [z_cur S])[i]? = some c → z_core G M (z_cm E x bl ba tx) y c := by
  intro i y c h1 h2
  have hl : bas.length = (z_past S).length := h.2.2.2.2.1
  by_cases hi : i < bas.length
  · rw [List.getElem?_append_left hi] at h1
    rw [List.getElem?_append_left (by omega)] at h2
    exact h.2.2.2.2.2.2.1 i y c h1 h2
  · rw [List.getElem?_append_right (by omega)] at h1 h2
    rw [← hl] at h2
    have hi1 : i - bas.length < 1 := (List.getElem?_eq_some_iff.mp h1).1
    rw [show i - bas.length = 0 by omega] at h1 h2
    cases h1
    cases h2
    exact h.2.2.1
theorem sp_come (h : z_sysL G M E x bl ba tx ca sv bas S) {cn : Nat} {c' : z_C} {r : Int32} (hc : z_core G M (z_cm E x bl ba tx) cn c') : w_S l G tX1_come (6, 1, 10) [.ref x, .ref cn, .int r] M (w_rI (fun v N => v = r ∧ z_sys G N E x bl tx (z_come S c') ∧ w_fr M N (fun q => ¬ E q))) := by
  have hg := h.2.1
  have hal := h.2.2.2.1
  have hgl := hal.choose_spec.1
  have hl := h.2.2.2.2.1
  have h8 := h.2.2.2.2.2.1
  refine w_start (by decide) (Nat.le_of_ble_eq_true rfl) (fun X => ?_)
  refine wa_locals [(0, _), (1, _), (2, _)] [0, 1, 2] rfl ?_
  refine wa_lo (fun lo hd => ?_)
  refine wa_aload_n 0 dX1_come_0 rfl rfl ?_
  refine wa_getf dX1_come_1 gX1_21 hg rfl ?_
  refine wc_isI (wr_V dX1_come_4 mX1_68 (sp_size hal) hgl rfl rfl rfl (Nat.le_of_ble_eq_true rfl)) ?_
  refine wa_bipush (8) dX1_come_7 (by decide) ?_
  refine wa_icmp_ne 21 dX1_come_9 rfl (fun c9 => ?_) (fun c9 => ?_)
  ·
    have e8 : ¬ (z_past S).length = 8 := fun q => c9 (by rw [hl, q]; rfl)
    have hN := h
    have hcN := hc
    have hfN : w_fr M M (fun q => ¬ E q) := w_fr.rf
    rw [show z_come S c' = (c', z_past S ++ [z_cur S], z_sav S, z_why S, z_det S, z_txt S, z_flt S) by unfold z_come; rw [if_neg e8]]
    have hl8 : (z_past S).length < 8 := by omega
    obtain ⟨S2, hS2⟩ : ∃ S2, S2 = S := ⟨_, rfl⟩
    rw [show z_past S = z_past S2 by rw [hS2], show z_cur S = z_cur S2 by rw [hS2], show z_sav S = z_sav S2 by rw [hS2], show z_why S = z_why S2 by rw [hS2], show z_det S = z_det S2 by rw [hS2], show z_txt S = z_txt S2 by rw [hS2], show z_flt S = z_flt S2 by rw [hS2]]
    rw [show z_past S = z_past S2 by rw [hS2]] at hl8
    rw [← hS2] at hN
    have hgN := hN.2.1
    have halN := hN.2.2.2.1
    have hglN := halN.choose_spec.1
    have hlN := hN.2.2.2.2.1
    obtain ⟨cfs, hcg, -⟩ := hN.2.2.1.lt
    have hel : w_el _ ca := ⟨1, _, _, _, _, hcg, rfl, by decide +kernel⟩
    have hne : ca ≠ bl := w_neC hcg hglN (by decide)
    refine wa_aload_n 0 dX1_come_21 rfl rfl ?_
    refine wa_getf dX1_come_22 gX1_21 hgN rfl ?_
    refine wa_aload_n 0 dX1_come_25 rfl rfl ?_
    refine wa_getf dX1_come_26 gX1_14 hgN rfl ?_
    refine wc_I (wr_V dX1_come_29 mX1_76 (sp_addE halN (by omega) hel hne) hglN rfl rfl rfl (Nat.le_of_ble_eq_true rfl)) (fun r29 M29 h29 => ?_)
    obtain ⟨-, ba2, hal2, hba2, hf2⟩ := h29
    have hN2 := hN.list hd hf2 hal2 hba2 (ps := z_past S2 ++ [z_cur S2]) (by rw [List.length_append, List.length_append, hN.2.2.2.2.1]; rfl) (by rw [List.length_append]; simp only [List.length_cons, List.length_nil]; omega) (z_appendC hN)
    have hcN2 := hN.listK hd hf2 hba2 hcN
    have hg2 := hN2.2.1
    refine wa_pop dX1_come_32 rfl ?_
    refine wa_aload_n 0 dX1_come_33 rfl rfl ?_
    refine wa_aload_n 1 dX1_come_34 rfl rfl ?_
    refine wa_lo (fun lo2 hd2 => ?_)
    refine wa_putf [_, _, _, _, _, _, _, _] dX1_come_35 pX1_14 hg2 (Nat.le_of_ble_eq_true rfl) rfl rfl rfl ?_
    have hN3 := hN2.cur hd2 w_fr_me (w_set_self hg2) hcN2
    refine wa_iload_n 2 dX1_come_38 rfl rfl ?_
    refine wa_iret FieldType.int dX1_come_39 rfl rfl (Nat.le_of_ble_eq_true rfl) (Nat.le_of_ble_eq_true rfl) ?_
    exact ⟨_, rfl, rfl, ⟨_, _, _, _, hN3⟩, w_fr.trans hfN (w_fr.trans (z_frB hf2 hN.1.2.2.1 hN.1.2.2.2.1) (z_frX w_fr_me hN.1.2.1))⟩
  ·
    have e8 : (z_past S).length = 8 := (nI_eq (by omega) (by decide)).mp (hl ▸ c9)
    obtain ⟨b0, hb0⟩ : ∃ b0, bas[0]? = some b0 := ⟨_, List.getElem?_eq_getElem (by omega)⟩
    refine wa_aload_n 0 dX1_come_12 rfl rfl ?_
    refine wa_getf dX1_come_13 gX1_21 hg rfl ?_
    refine wa_iconst (0) dX1_come_16 (by decide) ?_
    refine wc_A (wr_V dX1_come_17 mX1_72 (sp_removeE (i := 0) hal (fun y q => (z_basEl h y q).1) (fun y q => (z_basEl h y q).2) hb0) hgl rfl rfl rfl (Nat.le_of_ble_eq_true rfl)) (fun r17 M17 h17 => ?_)
    obtain ⟨-, hal1, hf1⟩ := h17
    have hN := h.list hd hf1 hal1 (Or.inl rfl) (ps := (z_past S).eraseIdx 0) (by rw [List.length_eraseIdx_of_lt (by omega), List.length_eraseIdx_of_lt (by omega), hl]) (by rw [List.length_eraseIdx_of_lt (by omega)]; omega) (fun i y c h1 h2 => by
      rw [List.getElem?_eraseIdx_of_ge (Nat.zero_le i)] at h1 h2
      exact h.2.2.2.2.2.2.1 (i + 1) y c h1 h2)
    have hcN := h.listK hd hf1 (Or.inl rfl) hc
    have hfN := z_frB hf1 h.1.2.2.1 h.1.2.2.2.1
    refine wa_pop dX1_come_20 rfl ?_
    refine wa_lo (fun lo hd => ?_)
    rw [show z_come S c' = (c', (z_past S).eraseIdx 0 ++ [z_cur S], z_sav S, z_why S, z_det S, z_txt S, z_flt S) by unfold z_come; rw [if_pos e8, List.eraseIdx_zero]]
    have hl8 : ((z_past S).eraseIdx 0).length < 8 := by rw [List.length_eraseIdx_of_lt (by omega)]; omega
    obtain ⟨S2, hS2⟩ : ∃ S2 : z_S, S2 = (z_cur S, (z_past S).eraseIdx 0, z_sav S, z_why S, z_det S, z_txt S, z_flt S) := ⟨_, rfl⟩
    rw [show (z_past S).eraseIdx 0 = z_past S2 by rw [hS2]; rfl, show z_cur S = z_cur S2 by rw [hS2]; rfl, show z_sav S = z_sav S2 by rw [hS2]; rfl, show z_why S = z_why S2 by rw [hS2]; rfl, show z_det S = z_det S2 by rw [hS2]; rfl, show z_txt S = z_txt S2 by rw [hS2]; rfl, show z_flt S = z_flt S2 by rw [hS2]; rfl]
    rw [show (z_past S).eraseIdx 0 = z_past S2 by rw [hS2]; rfl] at hl8
    rw [← hS2] at hN
    have hgN := hN.2.1
    have halN := hN.2.2.2.1
    have hglN := halN.choose_spec.1
    have hlN := hN.2.2.2.2.1
    obtain ⟨cfs, hcg, -⟩ := hN.2.2.1.lt
    have hel : w_el _ ca := ⟨1, _, _, _, _, hcg, rfl, by decide +kernel⟩
    have hne : ca ≠ bl := w_neC hcg hglN (by decide)
    refine wa_aload_n 0 dX1_come_21 rfl rfl ?_
    refine wa_getf dX1_come_22 gX1_21 hgN rfl ?_
    refine wa_aload_n 0 dX1_come_25 rfl rfl ?_
    refine wa_getf dX1_come_26 gX1_14 hgN rfl ?_
    refine wc_I (wr_V dX1_come_29 mX1_76 (sp_addE halN (by omega) hel hne) hglN rfl rfl rfl (Nat.le_of_ble_eq_true rfl)) (fun r29 M29 h29 => ?_)
    obtain ⟨-, ba2, hal2, hba2, hf2⟩ := h29
    have hN2 := hN.list hd hf2 hal2 hba2 (ps := z_past S2 ++ [z_cur S2]) (by rw [List.length_append, List.length_append, hN.2.2.2.2.1]; rfl) (by rw [List.length_append]; simp only [List.length_cons, List.length_nil]; omega) (z_appendC hN)
    have hcN2 := hN.listK hd hf2 hba2 hcN
    have hg2 := hN2.2.1
    refine wa_pop dX1_come_32 rfl ?_
    refine wa_aload_n 0 dX1_come_33 rfl rfl ?_
    refine wa_aload_n 1 dX1_come_34 rfl rfl ?_
    refine wa_lo (fun lo2 hd2 => ?_)
    refine wa_putf [_, _, _, _, _, _, _, _] dX1_come_35 pX1_14 hg2 (Nat.le_of_ble_eq_true rfl) rfl rfl rfl ?_
    have hN3 := hN2.cur hd2 w_fr_me (w_set_self hg2) hcN2
    refine wa_iload_n 2 dX1_come_38 rfl rfl ?_
    refine wa_iret FieldType.int dX1_come_39 rfl rfl (Nat.le_of_ble_eq_true rfl) (Nat.le_of_ble_eq_true rfl) ?_
    exact ⟨_, rfl, rfl, ⟨_, _, _, _, hN3⟩, w_fr.trans hfN (w_fr.trans (z_frB hf2 hN.1.2.2.1 hN.1.2.2.2.1) (z_frX w_fr_me hN.1.2.1))⟩
end CO
