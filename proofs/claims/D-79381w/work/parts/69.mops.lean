/-! ===== the Model's changes ===== -/
set_option maxRecDepth 100000
section MO
variable {b : Nat} {M N : w_M} {m : Nat} {S : z_S} {th : Int32} {l : Launch} {G : w_G}
theorem sp_mclose (h : z_mod b M m S th) {x : Int32} : w_S l G tX3_close (6, 0, 0) [.ref m, .int x] M (z_mO b M m S (z_closeC (z_cur S) x)) := by
  obtain ⟨is, rr, rc, f, sv, pf, ip, h⟩ := h
  obtain ⟨hm, hf, -⟩ := id h
  have H := h.mh
  have hr := h.mr
  have hg := h.gd
  have hs := hg.1
  have hh := hg.2.2.2.2.2.2.2
  have hsz := hs.size
  have hR6 : (z_robs (z_cur S)).length ≤ 6 := hs.2.2.2.2.1
  have hO10 : (z_ords (z_cur S)).length ≤ 10 := hs.2.2.2.2.2.1
  have h0 := h.thr 0
  have H0 := h0.mh
  have hm0 := h0.1
  have hf0 := h0.2.1
  cases i1 : z_idx x (z_size (z_cur S)) with
  | none =>
    have ea : z_closeC (z_cur S) x = .inr (1, 0) := by unfold z_closeC; rw [i1]
    rw [ea]
    refine w_start (by decide) (Nat.le_of_ble_eq_true rfl) (fun X => ?_)
    refine wa_locals [(0, _), (1, _)] [0, 1] rfl ?_
    refine wa_aload_n 0 dX3_close_0 rfl rfl ?_
    refine wa_iconst (0) dX3_close_1 (by decide) ?_
    refine wa_putf [_, _, _, _, _, _, _, _, _, _, _, _, _, _, _, _, _, _, _, _] dX3_close_2 pX3_49 hm (Nat.le_of_ble_eq_true rfl) rfl rfl rfl ?_
    refine wa_aload_n 0 dX3_close_5 rfl rfl ?_
    refine wa_iload_n 1 dX3_close_6 rfl rfl ?_
    refine wc_isI (wr_V dX3_close_7 mX3_86 (sp_misCellZ H0 hr hs i1) hm0 rfl rfl rfl (Nat.le_of_ble_eq_true rfl)) ?_
    refine wa_if_ne 20 dX3_close_10 rfl (fun c10 => absurd (by decide) c10) (fun c10 => ?_)
    refine wa_aload_n 0 dX3_close_13 rfl rfl ?_
    refine wa_iconst (1) dX3_close_14 (by decide) ?_
    refine wa_iconst (0) dX3_close_15 (by decide) ?_
    refine wc_I (wr_V dX3_close_16 mX3_90 (sp_mrefuse h0 (by decide)) hm0 rfl rfl rfl (Nat.le_of_ble_eq_true rfl)) (fun r16 M16 h16 => ?_)
    refine wa_iret FieldType.int dX3_close_19 rfl rfl (Nat.le_of_ble_eq_true rfl) (Nat.le_of_ble_eq_true rfl) ?_
    exact ⟨_, rfl, (w_fr.rf.set z_mEm).trans (z_frE h16.2.1 (fun q e => by rw [e]; exact z_mEm)), h16.2.2.md⟩
  | some j =>
    have hjl := z_idx_lt (by omega) i1
    have e1 := z_idx_eq (by omega) i1
    subst e1
    by_cases h13 : z_bit (z_closed (z_cur S)) j = true
    ·
      have ea : z_closeC (z_cur S) (nI j) = .inr (13, 0) := by unfold z_closeC; rw [i1]; simp only [if_pos h13]
      rw [ea]
      refine w_start (by decide) (Nat.le_of_ble_eq_true rfl) (fun X => ?_)
      refine wa_locals [(0, _), (1, _)] [0, 1] rfl ?_
      refine wa_aload_n 0 dX3_close_0 rfl rfl ?_
      refine wa_iconst (0) dX3_close_1 (by decide) ?_
      refine wa_putf [_, _, _, _, _, _, _, _, _, _, _, _, _, _, _, _, _, _, _, _] dX3_close_2 pX3_49 hm (Nat.le_of_ble_eq_true rfl) rfl rfl rfl ?_
      refine wa_aload_n 0 dX3_close_5 rfl rfl ?_
      refine wa_iload_n 1 dX3_close_6 rfl rfl ?_
      refine wc_isI (wr_V dX3_close_7 mX3_86 (sp_misCellY H0 hr hs i1) hm0 rfl rfl rfl (Nat.le_of_ble_eq_true rfl)) ?_
      refine wa_if_ne 20 dX3_close_10 rfl (fun c10 => ?_) (fun c10 => absurd c10 (by decide))
      refine wa_aload_n 0 dX3_close_20 rfl rfl ?_
      refine wa_getf dX3_close_21 gX3_9 hm0 rfl ?_
      refine wa_bipush (56) dX3_close_24 (by decide) ?_
      refine wa_iload_n 1 dX3_close_26 rfl rfl ?_
      refine wa_iadd dX3_close_27 ?_
      rw [show (56 : Int32) + nI j = nI (56 + j) from nI_add 56 j]
      refine wa_iald dX3_close_28 hf0 (vp_in_nI (by omega) (by omega)) ?_
      rw [nI_clamp (by omega), hr.shut hjl]
      rw [if_pos h13]
      refine wa_iconst (1) dX3_close_29 (by decide) ?_
      refine wa_icmp_ne 41 dX3_close_30 rfl (fun c30 => absurd (by decide) c30) (fun c30 => ?_)
      refine wa_aload_n 0 dX3_close_33 rfl rfl ?_
      refine wa_bipush (13) dX3_close_34 (by decide) ?_
      refine wa_iconst (0) dX3_close_36 (by decide) ?_
      refine wc_I (wr_V dX3_close_37 mX3_90 (sp_mrefuse h0 (by decide)) hm0 rfl rfl rfl (Nat.le_of_ble_eq_true rfl)) (fun r37 M37 h37 => ?_)
      refine wa_iret FieldType.int dX3_close_40 rfl rfl (Nat.le_of_ble_eq_true rfl) (Nat.le_of_ble_eq_true rfl) ?_
      exact ⟨_, rfl, (w_fr.rf.set z_mEm).trans (z_frE h37.2.1 (fun q e => by rw [e]; exact z_mEm)), h37.2.2.md⟩
    ·
      by_cases h4 : z_kinds (z_cur S) j = 1
      ·
        have ea : z_closeC (z_cur S) (nI j) = .inr (4, nI j) := by unfold z_closeC; rw [i1]; simp only [if_neg h13, if_pos h4]
        rw [ea]
        refine w_start (by decide) (Nat.le_of_ble_eq_true rfl) (fun X => ?_)
        refine wa_locals [(0, _), (1, _)] [0, 1] rfl ?_
        refine wa_aload_n 0 dX3_close_0 rfl rfl ?_
        refine wa_iconst (0) dX3_close_1 (by decide) ?_
        refine wa_putf [_, _, _, _, _, _, _, _, _, _, _, _, _, _, _, _, _, _, _, _] dX3_close_2 pX3_49 hm (Nat.le_of_ble_eq_true rfl) rfl rfl rfl ?_
        refine wa_aload_n 0 dX3_close_5 rfl rfl ?_
        refine wa_iload_n 1 dX3_close_6 rfl rfl ?_
        refine wc_isI (wr_V dX3_close_7 mX3_86 (sp_misCellY H0 hr hs i1) hm0 rfl rfl rfl (Nat.le_of_ble_eq_true rfl)) ?_
        refine wa_if_ne 20 dX3_close_10 rfl (fun c10 => ?_) (fun c10 => absurd c10 (by decide))
        refine wa_aload_n 0 dX3_close_20 rfl rfl ?_
        refine wa_getf dX3_close_21 gX3_9 hm0 rfl ?_
        refine wa_bipush (56) dX3_close_24 (by decide) ?_
        refine wa_iload_n 1 dX3_close_26 rfl rfl ?_
        refine wa_iadd dX3_close_27 ?_
        rw [show (56 : Int32) + nI j = nI (56 + j) from nI_add 56 j]
        refine wa_iald dX3_close_28 hf0 (vp_in_nI (by omega) (by omega)) ?_
        rw [nI_clamp (by omega), hr.shut hjl]
        rw [if_neg h13]
        refine wa_iconst (1) dX3_close_29 (by decide) ?_
        refine wa_icmp_ne 41 dX3_close_30 rfl (fun c30 => ?_) (fun c30 => absurd c30 (by decide))
        refine wa_aload_n 0 dX3_close_41 rfl rfl ?_
        refine wa_getf dX3_close_42 gX3_9 hm0 rfl ?_
        refine wa_bipush (8) dX3_close_45 (by decide) ?_
        refine wa_iload_n 1 dX3_close_47 rfl rfl ?_
        refine wa_iadd dX3_close_48 ?_
        rw [show (8 : Int32) + nI j = nI (8 + j) from nI_add 8 j]
        refine wa_iald dX3_close_49 hf0 (vp_in_nI (by omega) (by omega)) ?_
        rw [nI_clamp (by omega), hr.kind hjl]
        rw [h4]
        refine wa_iconst (1) dX3_close_50 (by decide) ?_
        refine wa_icmp_ne 61 dX3_close_51 rfl (fun c51 => absurd (by decide) c51) (fun c51 => ?_)
        refine wa_aload_n 0 dX3_close_54 rfl rfl ?_
        refine wa_iconst (4) dX3_close_55 (by decide) ?_
        refine wa_iload_n 1 dX3_close_56 rfl rfl ?_
        refine wc_I (wr_V dX3_close_57 mX3_90 (sp_mrefuse h0 (by decide)) hm0 rfl rfl rfl (Nat.le_of_ble_eq_true rfl)) (fun r57 M57 h57 => ?_)
        refine wa_iret FieldType.int dX3_close_60 rfl rfl (Nat.le_of_ble_eq_true rfl) (Nat.le_of_ble_eq_true rfl) ?_
        exact ⟨_, rfl, (w_fr.rf.set z_mEm).trans (z_frE h57.2.1 (fun q e => by rw [e]; exact z_mEm)), h57.2.2.md⟩
      ·
        cases hev : z_robotEver (z_cur S) j (-1) with
        | some k =>
          have hk := z_robotEver_lt hev
          have ea : z_closeC (z_cur S) (nI j) = .inr (5, nI k) := by unfold z_closeC; rw [i1]; simp only [if_neg h13, if_neg h4, hev]
          rw [ea]
          refine w_start (by decide) (Nat.le_of_ble_eq_true rfl) (fun X => ?_)
          refine wa_locals [(0, _), (1, _)] [0, 1] rfl ?_
          refine wa_aload_n 0 dX3_close_0 rfl rfl ?_
          refine wa_iconst (0) dX3_close_1 (by decide) ?_
          refine wa_putf [_, _, _, _, _, _, _, _, _, _, _, _, _, _, _, _, _, _, _, _] dX3_close_2 pX3_49 hm (Nat.le_of_ble_eq_true rfl) rfl rfl rfl ?_
          refine wa_aload_n 0 dX3_close_5 rfl rfl ?_
          refine wa_iload_n 1 dX3_close_6 rfl rfl ?_
          refine wc_isI (wr_V dX3_close_7 mX3_86 (sp_misCellY H0 hr hs i1) hm0 rfl rfl rfl (Nat.le_of_ble_eq_true rfl)) ?_
          refine wa_if_ne 20 dX3_close_10 rfl (fun c10 => ?_) (fun c10 => absurd c10 (by decide))
          refine wa_aload_n 0 dX3_close_20 rfl rfl ?_
          refine wa_getf dX3_close_21 gX3_9 hm0 rfl ?_
          refine wa_bipush (56) dX3_close_24 (by decide) ?_
          refine wa_iload_n 1 dX3_close_26 rfl rfl ?_
          refine wa_iadd dX3_close_27 ?_
          rw [show (56 : Int32) + nI j = nI (56 + j) from nI_add 56 j]
          refine wa_iald dX3_close_28 hf0 (vp_in_nI (by omega) (by omega)) ?_
          rw [nI_clamp (by omega), hr.shut hjl]
          rw [if_neg h13]
          refine wa_iconst (1) dX3_close_29 (by decide) ?_
          refine wa_icmp_ne 41 dX3_close_30 rfl (fun c30 => ?_) (fun c30 => absurd c30 (by decide))
          refine wa_aload_n 0 dX3_close_41 rfl rfl ?_
          refine wa_getf dX3_close_42 gX3_9 hm0 rfl ?_
          refine wa_bipush (8) dX3_close_45 (by decide) ?_
          refine wa_iload_n 1 dX3_close_47 rfl rfl ?_
          refine wa_iadd dX3_close_48 ?_
          rw [show (8 : Int32) + nI j = nI (8 + j) from nI_add 8 j]
          refine wa_iald dX3_close_49 hf0 (vp_in_nI (by omega) (by omega)) ?_
          rw [nI_clamp (by omega), hr.kind hjl]
          refine wa_iconst (1) dX3_close_50 (by decide) ?_
          refine wa_icmp_ne 61 dX3_close_51 rfl (fun c51 => ?_) (fun c51 => absurd c51 h4)
          refine wa_aload_n 0 dX3_close_61 rfl rfl ?_
          refine wa_iload_n 1 dX3_close_62 rfl rfl ?_
          refine wa_iconst (0) dX3_close_63 (by decide) ?_
          refine wa_iconst (-1) dX3_close_64 (by decide) ?_
          refine wc_isI (wr_V dX3_close_65 mX3_96 (sp_mwillBe H0 hr hs (t := 0) (by omega) (by decide)) hm0 rfl rfl rfl (Nat.le_of_ble_eq_true rfl)) ?_
          rw [z_wil_0 hs, hev]
          rw [show z_enc (some k) = nI k from rfl]
          refine wa_istore_n [(2, _), (0, _), (1, _)] dX3_close_68 rfl (Nat.le_of_ble_eq_true rfl) rfl ?_
          refine wa_iload_n 0 dX3_close_69 rfl rfl ?_
          refine wa_if_lt 80 dX3_close_70 rfl (fun c70 => absurd c70 (nI_pos (by omega))) (fun c70 => ?_)
          refine wa_aload_n 1 dX3_close_73 rfl rfl ?_
          refine wa_iconst (5) dX3_close_74 (by decide) ?_
          refine wa_iload_n 0 dX3_close_75 rfl rfl ?_
          refine wc_I (wr_V dX3_close_76 mX3_90 (sp_mrefuse h0 (by decide)) hm0 rfl rfl rfl (Nat.le_of_ble_eq_true rfl)) (fun r76 M76 h76 => ?_)
          refine wa_iret FieldType.int dX3_close_79 rfl rfl (Nat.le_of_ble_eq_true rfl) (Nat.le_of_ble_eq_true rfl) ?_
          exact ⟨_, rfl, (w_fr.rf.set z_mEm).trans (z_frE h76.2.1 (fun q e => by rw [e]; exact z_mEm)), h76.2.2.md⟩
        | none =>
          have hne : ∀ i : Nat, i < 2 ^ 31 → nI i ≠ -1 := fun i hi q => by have := nI_pos hi; rw [q] at this; exact this (by decide)
          have hgd : z_good b (z_setW (z_cur S) (z_closed (z_cur S) ||| z_one j)) := hg.word (fun r hri t => by
            obtain ⟨i, hi⟩ := List.mem_iff_getElem?.mp hri
            have hil := (List.getElem?_eq_some_iff.mp hi).1
            have h64 := z_ahead_lt hs hri t
            have h1 := z_ever_none hs hev hi (hne i (by omega)) (t := t)
            have h2 := hg.2.2.2.2.2.1 r hri t
            unfold z_free at h2
            rw [Bool.and_eq_true] at h2
            rw [z_bit_or (by omega), z_bit_one (by omega) (by omega)]
            simp only [decide_eq_false h1, Bool.or_false]
            simpa using h2.2) (fun k hk hb => by
            rw [z_bit_or hk, z_bit_one (by omega) hk, Bool.or_eq_true, decide_eq_true_eq] at hb
            exact hb.elim (hg.2.2.2.2.2.2.1 k hk) (fun e => by rw [e]; exact hjl))
          have hmr : z_mr (z_setW (z_cur S) (z_closed (z_cur S) ||| z_one j)) (upd f (56 + j) 1) := z_mr_W hr hs (fun i hi => if_neg (by omega)) (fun k hk => by
            rw [z_bit_or (by omega), z_bit_one (by omega) (by omega)]
            by_cases e : k = j
            · subst e
              rw [show upd f (56 + k) 1 (56 + k) = 1 from if_pos rfl]
              simp
            · rw [show upd f (56 + j) 1 (56 + k) = f (56 + k) from if_neg (by omega), hr.shut hk]
              simp [e])
          have hsh := z_shutN_cnt hgd.2.2.2.2.2.2.1 (by show z_size (z_cur S) ≤ 64; omega)
          have ea : z_closeC (z_cur S) (nI j) = .inl (z_pop (z_closed (z_cur S) ||| z_one j), z_setW (z_cur S) (z_closed (z_cur S) ||| z_one j)) := by unfold z_closeC; rw [i1]; simp only [if_neg h13, if_neg h4, hev]
          rw [ea]
          refine w_start (by decide) (Nat.le_of_ble_eq_true rfl) (fun X => ?_)
          refine wa_locals [(0, _), (1, _)] [0, 1] rfl ?_
          refine wa_aload_n 0 dX3_close_0 rfl rfl ?_
          refine wa_iconst (0) dX3_close_1 (by decide) ?_
          refine wa_putf [_, _, _, _, _, _, _, _, _, _, _, _, _, _, _, _, _, _, _, _] dX3_close_2 pX3_49 hm (Nat.le_of_ble_eq_true rfl) rfl rfl rfl ?_
          refine wa_aload_n 0 dX3_close_5 rfl rfl ?_
          refine wa_iload_n 1 dX3_close_6 rfl rfl ?_
          refine wc_isI (wr_V dX3_close_7 mX3_86 (sp_misCellY H0 hr hs i1) hm0 rfl rfl rfl (Nat.le_of_ble_eq_true rfl)) ?_
          refine wa_if_ne 20 dX3_close_10 rfl (fun c10 => ?_) (fun c10 => absurd c10 (by decide))
          refine wa_aload_n 0 dX3_close_20 rfl rfl ?_
          refine wa_getf dX3_close_21 gX3_9 hm0 rfl ?_
          refine wa_bipush (56) dX3_close_24 (by decide) ?_
          refine wa_iload_n 1 dX3_close_26 rfl rfl ?_
          refine wa_iadd dX3_close_27 ?_
          rw [show (56 : Int32) + nI j = nI (56 + j) from nI_add 56 j]
          refine wa_iald dX3_close_28 hf0 (vp_in_nI (by omega) (by omega)) ?_
          rw [nI_clamp (by omega), hr.shut hjl]
          rw [if_neg h13]
          refine wa_iconst (1) dX3_close_29 (by decide) ?_
          refine wa_icmp_ne 41 dX3_close_30 rfl (fun c30 => ?_) (fun c30 => absurd c30 (by decide))
          refine wa_aload_n 0 dX3_close_41 rfl rfl ?_
          refine wa_getf dX3_close_42 gX3_9 hm0 rfl ?_
          refine wa_bipush (8) dX3_close_45 (by decide) ?_
          refine wa_iload_n 1 dX3_close_47 rfl rfl ?_
          refine wa_iadd dX3_close_48 ?_
          rw [show (8 : Int32) + nI j = nI (8 + j) from nI_add 8 j]
          refine wa_iald dX3_close_49 hf0 (vp_in_nI (by omega) (by omega)) ?_
          rw [nI_clamp (by omega), hr.kind hjl]
          refine wa_iconst (1) dX3_close_50 (by decide) ?_
          refine wa_icmp_ne 61 dX3_close_51 rfl (fun c51 => ?_) (fun c51 => absurd c51 h4)
          refine wa_aload_n 0 dX3_close_61 rfl rfl ?_
          refine wa_iload_n 1 dX3_close_62 rfl rfl ?_
          refine wa_iconst (0) dX3_close_63 (by decide) ?_
          refine wa_iconst (-1) dX3_close_64 (by decide) ?_
          refine wc_isI (wr_V dX3_close_65 mX3_96 (sp_mwillBe H0 hr hs (t := 0) (by omega) (by decide)) hm0 rfl rfl rfl (Nat.le_of_ble_eq_true rfl)) ?_
          rw [z_wil_0 hs, hev]
          refine wa_istore_n [(2, _), (0, _), (1, _)] dX3_close_68 rfl (Nat.le_of_ble_eq_true rfl) rfl ?_
          refine wa_iload_n 0 dX3_close_69 rfl rfl ?_
          refine wa_if_lt 80 dX3_close_70 rfl (fun c70 => ?_) (fun c70 => absurd (by decide) c70)
          refine wa_aload_n 1 dX3_close_80 rfl rfl ?_
          refine wc_V (wr_V dX3_close_81 mX3_100 (sp_mchange h0) hm0 rfl rfl rfl (Nat.le_of_ble_eq_true rfl)) (fun M81 h81 => ?_)
          obtain ⟨k0, pf2, k2⟩ := id h81
          have k1 := z_frE (m := m) k0 (fun q e => e.elim (fun e => by rw [e]; exact z_mEm) (fun e => by rw [e]; exact ⟨by omega, by omega⟩))
          have km := k2.1
          have kf := k2.2.1
          refine wa_aload_n 1 dX3_close_84 rfl rfl ?_
          refine wa_getf dX3_close_85 gX3_9 km rfl ?_
          refine wa_bipush (56) dX3_close_88 (by decide) ?_
          refine wa_iload_n 2 dX3_close_90 rfl rfl ?_
          refine wa_iadd dX3_close_91 ?_
          refine wa_iconst (1) dX3_close_92 (by decide) ?_
          rw [show (56 : Int32) + nI j = nI (56 + j) from nI_add 56 j]
          refine wa_iast dX3_close_93 kf (vp_in_nI (by omega) (by omega)) ?_
          rw [nI_clamp (by omega)]
          have k3 := k2.row (N := M81.set (m + 1) (.inl (.int, 400, .inl (upd f (56 + j) 1)))) w_fr_me (w_set_self kf) hmr hgd
          refine wa_aload_n 1 dX3_close_94 rfl rfl ?_
          refine wc_isI (wr_V dX3_close_95 mX3_118 (sp_mclosed k3.mh hmr hgd.1) k3.1 rfl rfl rfl (Nat.le_of_ble_eq_true rfl)) ?_
          refine wa_iret FieldType.int dX3_close_98 rfl rfl (Nat.le_of_ble_eq_true rfl) (Nat.le_of_ble_eq_true rfl) ?_
          refine ⟨_, rfl, ((w_fr.rf.set z_mEm).trans k1).set z_mEs, hsh.symm, ?_⟩
          exact k3.md
theorem sp_mopen (h : z_mod b M m S th) {x : Int32} : w_S l G tX3_open (6, 0, 0) [.ref m, .int x] M (z_mO b M m S (z_openC (z_cur S) x)) := by
  obtain ⟨is, rr, rc, f, sv, pf, ip, h⟩ := h
  obtain ⟨hm, hf, -⟩ := id h
  have H := h.mh
  have hr := h.mr
  have hg := h.gd
  have hs := hg.1
  have hh := hg.2.2.2.2.2.2.2
  have hsz := hs.size
  have hR6 : (z_robs (z_cur S)).length ≤ 6 := hs.2.2.2.2.1
  have hO10 : (z_ords (z_cur S)).length ≤ 10 := hs.2.2.2.2.2.1
  have h0 := h.thr 0
  have H0 := h0.mh
  have hm0 := h0.1
  have hf0 := h0.2.1
  cases i1 : z_idx x (z_size (z_cur S)) with
  | none =>
    have ea : z_openC (z_cur S) x = .inr (1, 0) := by unfold z_openC; rw [i1]
    rw [ea]
    refine w_start (by decide) (Nat.le_of_ble_eq_true rfl) (fun X => ?_)
    refine wa_locals [(0, _), (1, _)] [0, 1] rfl ?_
    refine wa_aload_n 0 dX3_open_0 rfl rfl ?_
    refine wa_iconst (0) dX3_open_1 (by decide) ?_
    refine wa_putf [_, _, _, _, _, _, _, _, _, _, _, _, _, _, _, _, _, _, _, _] dX3_open_2 pX3_49 hm (Nat.le_of_ble_eq_true rfl) rfl rfl rfl ?_
    refine wa_aload_n 0 dX3_open_5 rfl rfl ?_
    refine wa_iload_n 1 dX3_open_6 rfl rfl ?_
    refine wc_isI (wr_V dX3_open_7 mX3_86 (sp_misCellZ H0 hr hs i1) hm0 rfl rfl rfl (Nat.le_of_ble_eq_true rfl)) ?_
    refine wa_if_ne 20 dX3_open_10 rfl (fun c10 => absurd (by decide) c10) (fun c10 => ?_)
    refine wa_aload_n 0 dX3_open_13 rfl rfl ?_
    refine wa_iconst (1) dX3_open_14 (by decide) ?_
    refine wa_iconst (0) dX3_open_15 (by decide) ?_
    refine wc_I (wr_V dX3_open_16 mX3_90 (sp_mrefuse h0 (by decide)) hm0 rfl rfl rfl (Nat.le_of_ble_eq_true rfl)) (fun r16 M16 h16 => ?_)
    refine wa_iret FieldType.int dX3_open_19 rfl rfl (Nat.le_of_ble_eq_true rfl) (Nat.le_of_ble_eq_true rfl) ?_
    exact ⟨_, rfl, (w_fr.rf.set z_mEm).trans (z_frE h16.2.1 (fun q e => by rw [e]; exact z_mEm)), h16.2.2.md⟩
  | some j =>
    have hjl := z_idx_lt (by omega) i1
    have e1 := z_idx_eq (by omega) i1
    subst e1
    by_cases h13 : z_bit (z_closed (z_cur S)) j = true
    ·
      have hgd : z_good b (z_setW (z_cur S) (z_closed (z_cur S) &&& (z_one j ^^^ -1))) := hg.word (fun r hri t => by
        have h64 := z_ahead_lt hs hri t
        have h2 := hg.2.2.2.2.2.1 r hri t
        unfold z_free at h2
        rw [Bool.and_eq_true] at h2
        have h3 : z_bit (z_closed (z_cur S)) (z_ahead r t) = false := by simpa using h2.2
        rw [z_bit_off (by omega) (by omega), h3]
        rfl) (fun k hk hb => by
        rw [z_bit_off (by omega) hk, Bool.and_eq_true] at hb
        exact hg.2.2.2.2.2.2.1 k hk hb.1)
      have hmr : z_mr (z_setW (z_cur S) (z_closed (z_cur S) &&& (z_one j ^^^ -1))) (upd f (56 + j) 0) := z_mr_W hr hs (fun i hi => if_neg (by omega)) (fun k hk => by
        rw [z_bit_off (by omega) (by omega)]
        by_cases e : k = j
        · subst e
          rw [show upd f (56 + k) 0 (56 + k) = 0 from if_pos rfl]
          simp
        · rw [show upd f (56 + j) 0 (56 + k) = f (56 + k) from if_neg (by omega), hr.shut hk]
          simp [e])
      have hsh := z_shutN_cnt hgd.2.2.2.2.2.2.1 (by show z_size (z_cur S) ≤ 64; omega)
      have ea : z_openC (z_cur S) (nI j) = .inl (z_pop (z_closed (z_cur S) &&& (z_one j ^^^ -1)), z_setW (z_cur S) (z_closed (z_cur S) &&& (z_one j ^^^ -1))) := by unfold z_openC; rw [i1]; simp only [if_pos h13]
      rw [ea]
      refine w_start (by decide) (Nat.le_of_ble_eq_true rfl) (fun X => ?_)
      refine wa_locals [(0, _), (1, _)] [0, 1] rfl ?_
      refine wa_aload_n 0 dX3_open_0 rfl rfl ?_
      refine wa_iconst (0) dX3_open_1 (by decide) ?_
      refine wa_putf [_, _, _, _, _, _, _, _, _, _, _, _, _, _, _, _, _, _, _, _] dX3_open_2 pX3_49 hm (Nat.le_of_ble_eq_true rfl) rfl rfl rfl ?_
      refine wa_aload_n 0 dX3_open_5 rfl rfl ?_
      refine wa_iload_n 1 dX3_open_6 rfl rfl ?_
      refine wc_isI (wr_V dX3_open_7 mX3_86 (sp_misCellY H0 hr hs i1) hm0 rfl rfl rfl (Nat.le_of_ble_eq_true rfl)) ?_
      refine wa_if_ne 20 dX3_open_10 rfl (fun c10 => ?_) (fun c10 => absurd c10 (by decide))
      refine wa_aload_n 0 dX3_open_20 rfl rfl ?_
      refine wa_getf dX3_open_21 gX3_9 hm0 rfl ?_
      refine wa_bipush (56) dX3_open_24 (by decide) ?_
      refine wa_iload_n 1 dX3_open_26 rfl rfl ?_
      refine wa_iadd dX3_open_27 ?_
      rw [show (56 : Int32) + nI j = nI (56 + j) from nI_add 56 j]
      refine wa_iald dX3_open_28 hf0 (vp_in_nI (by omega) (by omega)) ?_
      rw [nI_clamp (by omega), hr.shut hjl]
      rw [if_pos h13]
      refine wa_if_ne 40 dX3_open_29 rfl (fun c29 => ?_) (fun c29 => absurd c29 (by decide))
      refine wa_aload_n 0 dX3_open_40 rfl rfl ?_
      refine wc_V (wr_V dX3_open_41 mX3_100 (sp_mchange h0) hm0 rfl rfl rfl (Nat.le_of_ble_eq_true rfl)) (fun M41 h41 => ?_)
      obtain ⟨k0, pf2, k2⟩ := id h41
      have k1 := z_frE (m := m) k0 (fun q e => e.elim (fun e => by rw [e]; exact z_mEm) (fun e => by rw [e]; exact ⟨by omega, by omega⟩))
      have km := k2.1
      have kf := k2.2.1
      refine wa_aload_n 0 dX3_open_44 rfl rfl ?_
      refine wa_getf dX3_open_45 gX3_9 km rfl ?_
      refine wa_bipush (56) dX3_open_48 (by decide) ?_
      refine wa_iload_n 1 dX3_open_50 rfl rfl ?_
      refine wa_iadd dX3_open_51 ?_
      refine wa_iconst (0) dX3_open_52 (by decide) ?_
      rw [show (56 : Int32) + nI j = nI (56 + j) from nI_add 56 j]
      refine wa_iast dX3_open_53 kf (vp_in_nI (by omega) (by omega)) ?_
      rw [nI_clamp (by omega)]
      have k3 := k2.row (N := M41.set (m + 1) (.inl (.int, 400, .inl (upd f (56 + j) 0)))) w_fr_me (w_set_self kf) hmr hgd
      refine wa_aload_n 0 dX3_open_54 rfl rfl ?_
      refine wc_isI (wr_V dX3_open_55 mX3_118 (sp_mclosed k3.mh hmr hgd.1) k3.1 rfl rfl rfl (Nat.le_of_ble_eq_true rfl)) ?_
      refine wa_iret FieldType.int dX3_open_58 rfl rfl (Nat.le_of_ble_eq_true rfl) (Nat.le_of_ble_eq_true rfl) ?_
      refine ⟨_, rfl, ((w_fr.rf.set z_mEm).trans k1).set z_mEs, hsh.symm, ?_⟩
      exact k3.md
    ·
      have ea : z_openC (z_cur S) (nI j) = .inr (13, 0) := by unfold z_openC; rw [i1]; simp only [if_neg h13]
      rw [ea]
      refine w_start (by decide) (Nat.le_of_ble_eq_true rfl) (fun X => ?_)
      refine wa_locals [(0, _), (1, _)] [0, 1] rfl ?_
      refine wa_aload_n 0 dX3_open_0 rfl rfl ?_
      refine wa_iconst (0) dX3_open_1 (by decide) ?_
      refine wa_putf [_, _, _, _, _, _, _, _, _, _, _, _, _, _, _, _, _, _, _, _] dX3_open_2 pX3_49 hm (Nat.le_of_ble_eq_true rfl) rfl rfl rfl ?_
      refine wa_aload_n 0 dX3_open_5 rfl rfl ?_
      refine wa_iload_n 1 dX3_open_6 rfl rfl ?_
      refine wc_isI (wr_V dX3_open_7 mX3_86 (sp_misCellY H0 hr hs i1) hm0 rfl rfl rfl (Nat.le_of_ble_eq_true rfl)) ?_
      refine wa_if_ne 20 dX3_open_10 rfl (fun c10 => ?_) (fun c10 => absurd c10 (by decide))
      refine wa_aload_n 0 dX3_open_20 rfl rfl ?_
      refine wa_getf dX3_open_21 gX3_9 hm0 rfl ?_
      refine wa_bipush (56) dX3_open_24 (by decide) ?_
      refine wa_iload_n 1 dX3_open_26 rfl rfl ?_
      refine wa_iadd dX3_open_27 ?_
      rw [show (56 : Int32) + nI j = nI (56 + j) from nI_add 56 j]
      refine wa_iald dX3_open_28 hf0 (vp_in_nI (by omega) (by omega)) ?_
      rw [nI_clamp (by omega), hr.shut hjl]
      rw [if_neg h13]
      refine wa_if_ne 40 dX3_open_29 rfl (fun c29 => absurd (by decide) c29) (fun c29 => ?_)
      refine wa_aload_n 0 dX3_open_32 rfl rfl ?_
      refine wa_bipush (13) dX3_open_33 (by decide) ?_
      refine wa_iconst (0) dX3_open_35 (by decide) ?_
      refine wc_I (wr_V dX3_open_36 mX3_90 (sp_mrefuse h0 (by decide)) hm0 rfl rfl rfl (Nat.le_of_ble_eq_true rfl)) (fun r36 M36 h36 => ?_)
      refine wa_iret FieldType.int dX3_open_39 rfl rfl (Nat.le_of_ble_eq_true rfl) (Nat.le_of_ble_eq_true rfl) ?_
      exact ⟨_, rfl, (w_fr.rf.set z_mEm).trans (z_frE h36.2.1 (fun q e => by rw [e]; exact z_mEm)), h36.2.2.md⟩
theorem sp_mset (h : z_mod b M m S th) {x v : Int32} : w_S l G tX3_set (6, 0, 0) [.ref m, .int x, .int v] M (z_mO b M m S (z_setC (z_cur S) x v)) := by
  obtain ⟨is, rr, rc, f, sv, pf, ip, h⟩ := h
  obtain ⟨hm, hf, -⟩ := id h
  have H := h.mh
  have hr := h.mr
  have hg := h.gd
  have hs := hg.1
  have hh := hg.2.2.2.2.2.2.2
  have hsz := hs.size
  have hR6 : (z_robs (z_cur S)).length ≤ 6 := hs.2.2.2.2.1
  have hO10 : (z_ords (z_cur S)).length ≤ 10 := hs.2.2.2.2.2.1
  have h0 := h.thr 0
  have H0 := h0.mh
  have hm0 := h0.1
  have hf0 := h0.2.1
  cases i1 : z_idx x 3 with
  | none =>
    have hxn : ¬ ((0 : Int32) ≤ x ∧ x ≤ 2) := (z_idx_none (n := 3) (by decide)).mp i1
    have ea : z_setC (z_cur S) x v = .inr (2, 0) := by unfold z_setC; rw [i1]
    rw [ea]
    refine w_start (by decide) (Nat.le_of_ble_eq_true rfl) (fun X => ?_)
    refine wa_locals [(0, _), (1, _), (2, _)] [0, 1, 2] rfl ?_
    refine wa_aload_n 0 dX3_set_0 rfl rfl ?_
    refine wa_iconst (0) dX3_set_1 (by decide) ?_
    refine wa_putf [_, _, _, _, _, _, _, _, _, _, _, _, _, _, _, _, _, _, _, _] dX3_set_2 pX3_49 hm (Nat.le_of_ble_eq_true rfl) rfl rfl rfl ?_
    refine wa_iload_n 1 dX3_set_5 rfl rfl ?_
    refine wa_iconst (0) dX3_set_6 (by decide) ?_
    refine wa_iconst (2) dX3_set_7 (by decide) ?_
    refine wc_isI (wr_S dX3_set_8 mX3_71 (sp_mminZ hxn) rfl rfl rfl (Nat.le_of_ble_eq_true rfl)) ?_
    refine wa_if_eq 26 dX3_set_11 rfl (fun c11 => ?_) (fun c11 => absurd (by decide) c11)
    refine wa_aload_n 0 dX3_set_26 rfl rfl ?_
    refine wa_iconst (2) dX3_set_27 (by decide) ?_
    refine wa_iconst (0) dX3_set_28 (by decide) ?_
    refine wc_I (wr_V dX3_set_29 mX3_90 (sp_mrefuse h0 (by decide)) hm0 rfl rfl rfl (Nat.le_of_ble_eq_true rfl)) (fun r29 M29 h29 => ?_)
    refine wa_iret FieldType.int dX3_set_32 rfl rfl (Nat.le_of_ble_eq_true rfl) (Nat.le_of_ble_eq_true rfl) ?_
    exact ⟨_, rfl, (w_fr.rf.set z_mEm).trans (z_frE h29.2.1 (fun q e => by rw [e]; exact z_mEm)), h29.2.2.md⟩
  | some w =>
    obtain ⟨hw, e1⟩ := (z_idx_some (n := 3) (by decide)).mp i1
    subst e1
    have hgs := hg.2.2.2.1
    match w, hw with
    | 0, _ =>
      have hy : (0 : Int32) ≤ 0 ∧ (0 : Int32) ≤ 2 := by decide
      by_cases hv : 1 ≤ v ∧ v ≤ 20
      ·
        have hgd : z_good b (z_setS (z_cur S) (fun k => if k = 0 then v else z_sets (z_cur S) k)) := hg.set (by exact ⟨hv, hgs.2⟩)
        have hmr : z_mr (z_setS (z_cur S) (fun k => if k = 0 then v else z_sets (z_cur S) k)) (upd f (5 + 0) v) := z_mr_S hr hs (fun i hi => if_neg (by omega)) (fun k hk => by
          by_cases e : k = 0
          · subst e
            rw [show upd f (5 + 0) v (5 + 0) = v from if_pos rfl, if_pos rfl]
          · rw [show upd f (5 + 0) v (5 + k) = f (5 + k) from if_neg (by omega), if_neg e]
            exact hr.2.1 k hk)
        have ea : z_setC (z_cur S) (nI 0) v = .inl (z_sets (z_cur S) 0, z_setS (z_cur S) (fun k => if k = 0 then v else z_sets (z_cur S) k)) := by unfold z_setC; rw [i1]; exact if_pos hv
        rw [ea]
        have hmo : w_S l G tX3_mostOf (1, 0, 0) [.int (nI 0)] (M.set m (z_mo m is (nI (z_past S).length) 0 (z_why S) (z_det S) (nI (z_txt S).length) (z_flt S) rr rc)) (w_is (.inl (some (.int 20))) (M.set m (z_mo m is (nI (z_past S).length) 0 (z_why S) (z_det S) (nI (z_txt S).length) (z_flt S) rr rc))) := by
          refine w_start (by decide) (Nat.le_of_ble_eq_true rfl) (fun X => ?_)
          refine wa_locals [(0, _)] [0] rfl ?_
          refine wa_iload_n 0 dX3_mostOf_0 rfl rfl ?_
          refine wa_if_ne 9 dX3_mostOf_1 rfl (fun c1 => absurd (by decide) c1) (fun c1 => ?_)
          refine wa_bipush (20) dX3_mostOf_4 (by decide) ?_
          refine wa_goto 20 dX3_mostOf_6 rfl ?_
          refine wa_iret FieldType.int dX3_mostOf_20 rfl rfl (Nat.le_of_ble_eq_true rfl) (Nat.le_of_ble_eq_true rfl) ?_
          exact ⟨rfl, rfl⟩
        refine w_start (by decide) (Nat.le_of_ble_eq_true rfl) (fun X => ?_)
        refine wa_locals [(0, _), (1, _), (2, _)] [0, 1, 2] rfl ?_
        refine wa_aload_n 0 dX3_set_0 rfl rfl ?_
        refine wa_iconst (0) dX3_set_1 (by decide) ?_
        refine wa_putf [_, _, _, _, _, _, _, _, _, _, _, _, _, _, _, _, _, _, _, _] dX3_set_2 pX3_49 hm (Nat.le_of_ble_eq_true rfl) rfl rfl rfl ?_
        refine wa_iload_n 1 dX3_set_5 rfl rfl ?_
        refine wa_iconst (0) dX3_set_6 (by decide) ?_
        refine wa_iconst (2) dX3_set_7 (by decide) ?_
        refine wc_isI (wr_S dX3_set_8 mX3_71 (sp_mminY hy) rfl rfl rfl (Nat.le_of_ble_eq_true rfl)) ?_
        refine wa_if_eq 26 dX3_set_11 rfl (fun c11 => absurd c11 (by decide)) (fun c11 => ?_)
        refine wa_iload_n 2 dX3_set_14 rfl rfl ?_
        refine wa_iconst (1) dX3_set_15 (by decide) ?_
        refine wa_iload_n 1 dX3_set_16 rfl rfl ?_
        refine wc_isI (wr_S dX3_set_17 mX3_121 hmo rfl rfl rfl (Nat.le_of_ble_eq_true rfl)) ?_
        refine wc_isI (wr_S dX3_set_20 mX3_71 (sp_mminY hv) rfl rfl rfl (Nat.le_of_ble_eq_true rfl)) ?_
        refine wa_if_ne 33 dX3_set_23 rfl (fun c23 => ?_) (fun c23 => absurd c23 (by decide))
        refine wa_aload_n 0 dX3_set_33 rfl rfl ?_
        refine wc_V (wr_V dX3_set_34 mX3_100 (sp_mchange h0) hm0 rfl rfl rfl (Nat.le_of_ble_eq_true rfl)) (fun M34 h34 => ?_)
        obtain ⟨k0, pf2, k2⟩ := id h34
        have k1 := z_frE (m := m) k0 (fun q e => e.elim (fun e => by rw [e]; exact z_mEm) (fun e => by rw [e]; exact ⟨by omega, by omega⟩))
        have km := k2.1
        have kf := k2.2.1
        refine wa_aload_n 0 dX3_set_37 rfl rfl ?_
        refine wa_getf dX3_set_38 gX3_9 km rfl ?_
        refine wa_iconst (5) dX3_set_41 (by decide) ?_
        refine wa_iload_n 1 dX3_set_42 rfl rfl ?_
        refine wa_iadd dX3_set_43 ?_
        rw [show (5 : Int32) + nI 0 = 5 by decide]
        refine wa_iald dX3_set_44 kf (vp_in_nI (n := 5) (by omega) (by omega)) ?_
        refine wa_istore_n [(3, _), (0, _), (1, _), (2, _)] dX3_set_45 rfl (Nat.le_of_ble_eq_true rfl) rfl ?_
        refine wa_aload_n 1 dX3_set_46 rfl rfl ?_
        refine wa_getf dX3_set_47 gX3_9 km rfl ?_
        refine wa_iconst (5) dX3_set_50 (by decide) ?_
        refine wa_iload_n 2 dX3_set_51 rfl rfl ?_
        refine wa_iadd dX3_set_52 ?_
        refine wa_iload_n 3 dX3_set_53 rfl rfl ?_
        rw [show (5 : Int32) + nI 0 = 5 by decide]
        refine wa_iast dX3_set_54 kf (vp_in_nI (n := 5) (by omega) (by omega)) ?_
        rw [show Int32.toNatClampNeg 5 = 5 + 0 from rfl]
        have k3 := k2.row (N := M34.set (m + 1) (.inl (.int, 400, .inl (upd f (5 + 0) v)))) w_fr_me (w_set_self kf) hmr hgd
        refine wa_iload_n 0 dX3_set_55 rfl rfl ?_
        refine wa_iret FieldType.int dX3_set_56 rfl rfl (Nat.le_of_ble_eq_true rfl) (Nat.le_of_ble_eq_true rfl) ?_
        exact ⟨_, rfl, ((w_fr.rf.set z_mEm).trans k1).set z_mEs, hr.2.1 0 (by decide), k3.md⟩
      ·
        have ea : z_setC (z_cur S) (nI 0) v = .inr (2, 0) := by unfold z_setC; rw [i1]; exact if_neg hv
        rw [ea]
        have hmo : w_S l G tX3_mostOf (1, 0, 0) [.int (nI 0)] (M.set m (z_mo m is (nI (z_past S).length) 0 (z_why S) (z_det S) (nI (z_txt S).length) (z_flt S) rr rc)) (w_is (.inl (some (.int 20))) (M.set m (z_mo m is (nI (z_past S).length) 0 (z_why S) (z_det S) (nI (z_txt S).length) (z_flt S) rr rc))) := by
          refine w_start (by decide) (Nat.le_of_ble_eq_true rfl) (fun X => ?_)
          refine wa_locals [(0, _)] [0] rfl ?_
          refine wa_iload_n 0 dX3_mostOf_0 rfl rfl ?_
          refine wa_if_ne 9 dX3_mostOf_1 rfl (fun c1 => absurd (by decide) c1) (fun c1 => ?_)
          refine wa_bipush (20) dX3_mostOf_4 (by decide) ?_
          refine wa_goto 20 dX3_mostOf_6 rfl ?_
          refine wa_iret FieldType.int dX3_mostOf_20 rfl rfl (Nat.le_of_ble_eq_true rfl) (Nat.le_of_ble_eq_true rfl) ?_
          exact ⟨rfl, rfl⟩
        refine w_start (by decide) (Nat.le_of_ble_eq_true rfl) (fun X => ?_)
        refine wa_locals [(0, _), (1, _), (2, _)] [0, 1, 2] rfl ?_
        refine wa_aload_n 0 dX3_set_0 rfl rfl ?_
        refine wa_iconst (0) dX3_set_1 (by decide) ?_
        refine wa_putf [_, _, _, _, _, _, _, _, _, _, _, _, _, _, _, _, _, _, _, _] dX3_set_2 pX3_49 hm (Nat.le_of_ble_eq_true rfl) rfl rfl rfl ?_
        refine wa_iload_n 1 dX3_set_5 rfl rfl ?_
        refine wa_iconst (0) dX3_set_6 (by decide) ?_
        refine wa_iconst (2) dX3_set_7 (by decide) ?_
        refine wc_isI (wr_S dX3_set_8 mX3_71 (sp_mminY hy) rfl rfl rfl (Nat.le_of_ble_eq_true rfl)) ?_
        refine wa_if_eq 26 dX3_set_11 rfl (fun c11 => absurd c11 (by decide)) (fun c11 => ?_)
        refine wa_iload_n 2 dX3_set_14 rfl rfl ?_
        refine wa_iconst (1) dX3_set_15 (by decide) ?_
        refine wa_iload_n 1 dX3_set_16 rfl rfl ?_
        refine wc_isI (wr_S dX3_set_17 mX3_121 hmo rfl rfl rfl (Nat.le_of_ble_eq_true rfl)) ?_
        refine wc_isI (wr_S dX3_set_20 mX3_71 (sp_mminZ hv) rfl rfl rfl (Nat.le_of_ble_eq_true rfl)) ?_
        refine wa_if_ne 33 dX3_set_23 rfl (fun c23 => absurd (by decide) c23) (fun c23 => ?_)
        refine wa_aload_n 0 dX3_set_26 rfl rfl ?_
        refine wa_iconst (2) dX3_set_27 (by decide) ?_
        refine wa_iconst (0) dX3_set_28 (by decide) ?_
        refine wc_I (wr_V dX3_set_29 mX3_90 (sp_mrefuse h0 (by decide)) hm0 rfl rfl rfl (Nat.le_of_ble_eq_true rfl)) (fun r29 M29 h29 => ?_)
        refine wa_iret FieldType.int dX3_set_32 rfl rfl (Nat.le_of_ble_eq_true rfl) (Nat.le_of_ble_eq_true rfl) ?_
        exact ⟨_, rfl, (w_fr.rf.set z_mEm).trans (z_frE h29.2.1 (fun q e => by rw [e]; exact z_mEm)), h29.2.2.md⟩
    | 1, _ =>
      have hy : (0 : Int32) ≤ 1 ∧ (1 : Int32) ≤ 2 := by decide
      by_cases hv : 1 ≤ v ∧ v ≤ 3
      ·
        have hgd : z_good b (z_setS (z_cur S) (fun k => if k = 1 then v else z_sets (z_cur S) k)) := hg.set (by exact ⟨hgs.1, hv, hgs.2.2⟩)
        have hmr : z_mr (z_setS (z_cur S) (fun k => if k = 1 then v else z_sets (z_cur S) k)) (upd f (5 + 1) v) := z_mr_S hr hs (fun i hi => if_neg (by omega)) (fun k hk => by
          by_cases e : k = 1
          · subst e
            rw [show upd f (5 + 1) v (5 + 1) = v from if_pos rfl, if_pos rfl]
          · rw [show upd f (5 + 1) v (5 + k) = f (5 + k) from if_neg (by omega), if_neg e]
            exact hr.2.1 k hk)
        have ea : z_setC (z_cur S) (nI 1) v = .inl (z_sets (z_cur S) 1, z_setS (z_cur S) (fun k => if k = 1 then v else z_sets (z_cur S) k)) := by unfold z_setC; rw [i1]; exact if_pos hv
        rw [ea]
        have hmo : w_S l G tX3_mostOf (1, 0, 0) [.int (nI 1)] (M.set m (z_mo m is (nI (z_past S).length) 0 (z_why S) (z_det S) (nI (z_txt S).length) (z_flt S) rr rc)) (w_is (.inl (some (.int 3))) (M.set m (z_mo m is (nI (z_past S).length) 0 (z_why S) (z_det S) (nI (z_txt S).length) (z_flt S) rr rc))) := by
          refine w_start (by decide) (Nat.le_of_ble_eq_true rfl) (fun X => ?_)
          refine wa_locals [(0, _)] [0] rfl ?_
          refine wa_iload_n 0 dX3_mostOf_0 rfl rfl ?_
          refine wa_if_ne 9 dX3_mostOf_1 rfl (fun c1 => ?_) (fun c1 => absurd c1 (by decide))
          refine wa_iload_n 0 dX3_mostOf_9 rfl rfl ?_
          refine wa_iconst (1) dX3_mostOf_10 (by decide) ?_
          refine wa_icmp_ne 18 dX3_mostOf_11 rfl (fun c11 => absurd (by decide) c11) (fun c11 => ?_)
          refine wa_iconst (3) dX3_mostOf_14 (by decide) ?_
          refine wa_goto 20 dX3_mostOf_15 rfl ?_
          refine wa_iret FieldType.int dX3_mostOf_20 rfl rfl (Nat.le_of_ble_eq_true rfl) (Nat.le_of_ble_eq_true rfl) ?_
          exact ⟨rfl, rfl⟩
        refine w_start (by decide) (Nat.le_of_ble_eq_true rfl) (fun X => ?_)
        refine wa_locals [(0, _), (1, _), (2, _)] [0, 1, 2] rfl ?_
        refine wa_aload_n 0 dX3_set_0 rfl rfl ?_
        refine wa_iconst (0) dX3_set_1 (by decide) ?_
        refine wa_putf [_, _, _, _, _, _, _, _, _, _, _, _, _, _, _, _, _, _, _, _] dX3_set_2 pX3_49 hm (Nat.le_of_ble_eq_true rfl) rfl rfl rfl ?_
        refine wa_iload_n 1 dX3_set_5 rfl rfl ?_
        refine wa_iconst (0) dX3_set_6 (by decide) ?_
        refine wa_iconst (2) dX3_set_7 (by decide) ?_
        refine wc_isI (wr_S dX3_set_8 mX3_71 (sp_mminY hy) rfl rfl rfl (Nat.le_of_ble_eq_true rfl)) ?_
        refine wa_if_eq 26 dX3_set_11 rfl (fun c11 => absurd c11 (by decide)) (fun c11 => ?_)
        refine wa_iload_n 2 dX3_set_14 rfl rfl ?_
        refine wa_iconst (1) dX3_set_15 (by decide) ?_
        refine wa_iload_n 1 dX3_set_16 rfl rfl ?_
        refine wc_isI (wr_S dX3_set_17 mX3_121 hmo rfl rfl rfl (Nat.le_of_ble_eq_true rfl)) ?_
        refine wc_isI (wr_S dX3_set_20 mX3_71 (sp_mminY hv) rfl rfl rfl (Nat.le_of_ble_eq_true rfl)) ?_
        refine wa_if_ne 33 dX3_set_23 rfl (fun c23 => ?_) (fun c23 => absurd c23 (by decide))
        refine wa_aload_n 0 dX3_set_33 rfl rfl ?_
        refine wc_V (wr_V dX3_set_34 mX3_100 (sp_mchange h0) hm0 rfl rfl rfl (Nat.le_of_ble_eq_true rfl)) (fun M34 h34 => ?_)
        obtain ⟨k0, pf2, k2⟩ := id h34
        have k1 := z_frE (m := m) k0 (fun q e => e.elim (fun e => by rw [e]; exact z_mEm) (fun e => by rw [e]; exact ⟨by omega, by omega⟩))
        have km := k2.1
        have kf := k2.2.1
        refine wa_aload_n 0 dX3_set_37 rfl rfl ?_
        refine wa_getf dX3_set_38 gX3_9 km rfl ?_
        refine wa_iconst (5) dX3_set_41 (by decide) ?_
        refine wa_iload_n 1 dX3_set_42 rfl rfl ?_
        refine wa_iadd dX3_set_43 ?_
        rw [show (5 : Int32) + nI 1 = 6 by decide]
        refine wa_iald dX3_set_44 kf (vp_in_nI (n := 6) (by omega) (by omega)) ?_
        refine wa_istore_n [(3, _), (0, _), (1, _), (2, _)] dX3_set_45 rfl (Nat.le_of_ble_eq_true rfl) rfl ?_
        refine wa_aload_n 1 dX3_set_46 rfl rfl ?_
        refine wa_getf dX3_set_47 gX3_9 km rfl ?_
        refine wa_iconst (5) dX3_set_50 (by decide) ?_
        refine wa_iload_n 2 dX3_set_51 rfl rfl ?_
        refine wa_iadd dX3_set_52 ?_
        refine wa_iload_n 3 dX3_set_53 rfl rfl ?_
        rw [show (5 : Int32) + nI 1 = 6 by decide]
        refine wa_iast dX3_set_54 kf (vp_in_nI (n := 6) (by omega) (by omega)) ?_
        rw [show Int32.toNatClampNeg 6 = 5 + 1 from rfl]
        have k3 := k2.row (N := M34.set (m + 1) (.inl (.int, 400, .inl (upd f (5 + 1) v)))) w_fr_me (w_set_self kf) hmr hgd
        refine wa_iload_n 0 dX3_set_55 rfl rfl ?_
        refine wa_iret FieldType.int dX3_set_56 rfl rfl (Nat.le_of_ble_eq_true rfl) (Nat.le_of_ble_eq_true rfl) ?_
        exact ⟨_, rfl, ((w_fr.rf.set z_mEm).trans k1).set z_mEs, hr.2.1 1 (by decide), k3.md⟩
      ·
        have ea : z_setC (z_cur S) (nI 1) v = .inr (2, 0) := by unfold z_setC; rw [i1]; exact if_neg hv
        rw [ea]
        have hmo : w_S l G tX3_mostOf (1, 0, 0) [.int (nI 1)] (M.set m (z_mo m is (nI (z_past S).length) 0 (z_why S) (z_det S) (nI (z_txt S).length) (z_flt S) rr rc)) (w_is (.inl (some (.int 3))) (M.set m (z_mo m is (nI (z_past S).length) 0 (z_why S) (z_det S) (nI (z_txt S).length) (z_flt S) rr rc))) := by
          refine w_start (by decide) (Nat.le_of_ble_eq_true rfl) (fun X => ?_)
          refine wa_locals [(0, _)] [0] rfl ?_
          refine wa_iload_n 0 dX3_mostOf_0 rfl rfl ?_
          refine wa_if_ne 9 dX3_mostOf_1 rfl (fun c1 => ?_) (fun c1 => absurd c1 (by decide))
          refine wa_iload_n 0 dX3_mostOf_9 rfl rfl ?_
          refine wa_iconst (1) dX3_mostOf_10 (by decide) ?_
          refine wa_icmp_ne 18 dX3_mostOf_11 rfl (fun c11 => absurd (by decide) c11) (fun c11 => ?_)
          refine wa_iconst (3) dX3_mostOf_14 (by decide) ?_
          refine wa_goto 20 dX3_mostOf_15 rfl ?_
          refine wa_iret FieldType.int dX3_mostOf_20 rfl rfl (Nat.le_of_ble_eq_true rfl) (Nat.le_of_ble_eq_true rfl) ?_
          exact ⟨rfl, rfl⟩
        refine w_start (by decide) (Nat.le_of_ble_eq_true rfl) (fun X => ?_)
        refine wa_locals [(0, _), (1, _), (2, _)] [0, 1, 2] rfl ?_
        refine wa_aload_n 0 dX3_set_0 rfl rfl ?_
        refine wa_iconst (0) dX3_set_1 (by decide) ?_
        refine wa_putf [_, _, _, _, _, _, _, _, _, _, _, _, _, _, _, _, _, _, _, _] dX3_set_2 pX3_49 hm (Nat.le_of_ble_eq_true rfl) rfl rfl rfl ?_
        refine wa_iload_n 1 dX3_set_5 rfl rfl ?_
        refine wa_iconst (0) dX3_set_6 (by decide) ?_
        refine wa_iconst (2) dX3_set_7 (by decide) ?_
        refine wc_isI (wr_S dX3_set_8 mX3_71 (sp_mminY hy) rfl rfl rfl (Nat.le_of_ble_eq_true rfl)) ?_
        refine wa_if_eq 26 dX3_set_11 rfl (fun c11 => absurd c11 (by decide)) (fun c11 => ?_)
        refine wa_iload_n 2 dX3_set_14 rfl rfl ?_
        refine wa_iconst (1) dX3_set_15 (by decide) ?_
        refine wa_iload_n 1 dX3_set_16 rfl rfl ?_
        refine wc_isI (wr_S dX3_set_17 mX3_121 hmo rfl rfl rfl (Nat.le_of_ble_eq_true rfl)) ?_
        refine wc_isI (wr_S dX3_set_20 mX3_71 (sp_mminZ hv) rfl rfl rfl (Nat.le_of_ble_eq_true rfl)) ?_
        refine wa_if_ne 33 dX3_set_23 rfl (fun c23 => absurd (by decide) c23) (fun c23 => ?_)
        refine wa_aload_n 0 dX3_set_26 rfl rfl ?_
        refine wa_iconst (2) dX3_set_27 (by decide) ?_
        refine wa_iconst (0) dX3_set_28 (by decide) ?_
        refine wc_I (wr_V dX3_set_29 mX3_90 (sp_mrefuse h0 (by decide)) hm0 rfl rfl rfl (Nat.le_of_ble_eq_true rfl)) (fun r29 M29 h29 => ?_)
        refine wa_iret FieldType.int dX3_set_32 rfl rfl (Nat.le_of_ble_eq_true rfl) (Nat.le_of_ble_eq_true rfl) ?_
        exact ⟨_, rfl, (w_fr.rf.set z_mEm).trans (z_frE h29.2.1 (fun q e => by rw [e]; exact z_mEm)), h29.2.2.md⟩
    | 2, _ =>
      have hy : (0 : Int32) ≤ 2 ∧ (2 : Int32) ≤ 2 := by decide
      by_cases hv : 1 ≤ v ∧ v ≤ 30
      ·
        have hgd : z_good b (z_setS (z_cur S) (fun k => if k = 2 then v else z_sets (z_cur S) k)) := hg.set (by exact ⟨hgs.1, hgs.2.1, hv⟩)
        have hmr : z_mr (z_setS (z_cur S) (fun k => if k = 2 then v else z_sets (z_cur S) k)) (upd f (5 + 2) v) := z_mr_S hr hs (fun i hi => if_neg (by omega)) (fun k hk => by
          by_cases e : k = 2
          · subst e
            rw [show upd f (5 + 2) v (5 + 2) = v from if_pos rfl, if_pos rfl]
          · rw [show upd f (5 + 2) v (5 + k) = f (5 + k) from if_neg (by omega), if_neg e]
            exact hr.2.1 k hk)
        have ea : z_setC (z_cur S) (nI 2) v = .inl (z_sets (z_cur S) 2, z_setS (z_cur S) (fun k => if k = 2 then v else z_sets (z_cur S) k)) := by unfold z_setC; rw [i1]; exact if_pos hv
        rw [ea]
        have hmo : w_S l G tX3_mostOf (1, 0, 0) [.int (nI 2)] (M.set m (z_mo m is (nI (z_past S).length) 0 (z_why S) (z_det S) (nI (z_txt S).length) (z_flt S) rr rc)) (w_is (.inl (some (.int 30))) (M.set m (z_mo m is (nI (z_past S).length) 0 (z_why S) (z_det S) (nI (z_txt S).length) (z_flt S) rr rc))) := by
          refine w_start (by decide) (Nat.le_of_ble_eq_true rfl) (fun X => ?_)
          refine wa_locals [(0, _)] [0] rfl ?_
          refine wa_iload_n 0 dX3_mostOf_0 rfl rfl ?_
          refine wa_if_ne 9 dX3_mostOf_1 rfl (fun c1 => ?_) (fun c1 => absurd c1 (by decide))
          refine wa_iload_n 0 dX3_mostOf_9 rfl rfl ?_
          refine wa_iconst (1) dX3_mostOf_10 (by decide) ?_
          refine wa_icmp_ne 18 dX3_mostOf_11 rfl (fun c11 => ?_) (fun c11 => absurd c11 (by decide))
          refine wa_bipush (30) dX3_mostOf_18 (by decide) ?_
          refine wa_iret FieldType.int dX3_mostOf_20 rfl rfl (Nat.le_of_ble_eq_true rfl) (Nat.le_of_ble_eq_true rfl) ?_
          exact ⟨rfl, rfl⟩
        refine w_start (by decide) (Nat.le_of_ble_eq_true rfl) (fun X => ?_)
        refine wa_locals [(0, _), (1, _), (2, _)] [0, 1, 2] rfl ?_
        refine wa_aload_n 0 dX3_set_0 rfl rfl ?_
        refine wa_iconst (0) dX3_set_1 (by decide) ?_
        refine wa_putf [_, _, _, _, _, _, _, _, _, _, _, _, _, _, _, _, _, _, _, _] dX3_set_2 pX3_49 hm (Nat.le_of_ble_eq_true rfl) rfl rfl rfl ?_
        refine wa_iload_n 1 dX3_set_5 rfl rfl ?_
        refine wa_iconst (0) dX3_set_6 (by decide) ?_
        refine wa_iconst (2) dX3_set_7 (by decide) ?_
        refine wc_isI (wr_S dX3_set_8 mX3_71 (sp_mminY hy) rfl rfl rfl (Nat.le_of_ble_eq_true rfl)) ?_
        refine wa_if_eq 26 dX3_set_11 rfl (fun c11 => absurd c11 (by decide)) (fun c11 => ?_)
        refine wa_iload_n 2 dX3_set_14 rfl rfl ?_
        refine wa_iconst (1) dX3_set_15 (by decide) ?_
        refine wa_iload_n 1 dX3_set_16 rfl rfl ?_
        refine wc_isI (wr_S dX3_set_17 mX3_121 hmo rfl rfl rfl (Nat.le_of_ble_eq_true rfl)) ?_
        refine wc_isI (wr_S dX3_set_20 mX3_71 (sp_mminY hv) rfl rfl rfl (Nat.le_of_ble_eq_true rfl)) ?_
        refine wa_if_ne 33 dX3_set_23 rfl (fun c23 => ?_) (fun c23 => absurd c23 (by decide))
        refine wa_aload_n 0 dX3_set_33 rfl rfl ?_
        refine wc_V (wr_V dX3_set_34 mX3_100 (sp_mchange h0) hm0 rfl rfl rfl (Nat.le_of_ble_eq_true rfl)) (fun M34 h34 => ?_)
        obtain ⟨k0, pf2, k2⟩ := id h34
        have k1 := z_frE (m := m) k0 (fun q e => e.elim (fun e => by rw [e]; exact z_mEm) (fun e => by rw [e]; exact ⟨by omega, by omega⟩))
        have km := k2.1
        have kf := k2.2.1
        refine wa_aload_n 0 dX3_set_37 rfl rfl ?_
        refine wa_getf dX3_set_38 gX3_9 km rfl ?_
        refine wa_iconst (5) dX3_set_41 (by decide) ?_
        refine wa_iload_n 1 dX3_set_42 rfl rfl ?_
        refine wa_iadd dX3_set_43 ?_
        rw [show (5 : Int32) + nI 2 = 7 by decide]
        refine wa_iald dX3_set_44 kf (vp_in_nI (n := 7) (by omega) (by omega)) ?_
        refine wa_istore_n [(3, _), (0, _), (1, _), (2, _)] dX3_set_45 rfl (Nat.le_of_ble_eq_true rfl) rfl ?_
        refine wa_aload_n 1 dX3_set_46 rfl rfl ?_
        refine wa_getf dX3_set_47 gX3_9 km rfl ?_
        refine wa_iconst (5) dX3_set_50 (by decide) ?_
        refine wa_iload_n 2 dX3_set_51 rfl rfl ?_
        refine wa_iadd dX3_set_52 ?_
        refine wa_iload_n 3 dX3_set_53 rfl rfl ?_
        rw [show (5 : Int32) + nI 2 = 7 by decide]
        refine wa_iast dX3_set_54 kf (vp_in_nI (n := 7) (by omega) (by omega)) ?_
        rw [show Int32.toNatClampNeg 7 = 5 + 2 from rfl]
        have k3 := k2.row (N := M34.set (m + 1) (.inl (.int, 400, .inl (upd f (5 + 2) v)))) w_fr_me (w_set_self kf) hmr hgd
        refine wa_iload_n 0 dX3_set_55 rfl rfl ?_
        refine wa_iret FieldType.int dX3_set_56 rfl rfl (Nat.le_of_ble_eq_true rfl) (Nat.le_of_ble_eq_true rfl) ?_
        exact ⟨_, rfl, ((w_fr.rf.set z_mEm).trans k1).set z_mEs, hr.2.1 2 (by decide), k3.md⟩
      ·
        have ea : z_setC (z_cur S) (nI 2) v = .inr (2, 0) := by unfold z_setC; rw [i1]; exact if_neg hv
        rw [ea]
        have hmo : w_S l G tX3_mostOf (1, 0, 0) [.int (nI 2)] (M.set m (z_mo m is (nI (z_past S).length) 0 (z_why S) (z_det S) (nI (z_txt S).length) (z_flt S) rr rc)) (w_is (.inl (some (.int 30))) (M.set m (z_mo m is (nI (z_past S).length) 0 (z_why S) (z_det S) (nI (z_txt S).length) (z_flt S) rr rc))) := by
          refine w_start (by decide) (Nat.le_of_ble_eq_true rfl) (fun X => ?_)
          refine wa_locals [(0, _)] [0] rfl ?_
          refine wa_iload_n 0 dX3_mostOf_0 rfl rfl ?_
          refine wa_if_ne 9 dX3_mostOf_1 rfl (fun c1 => ?_) (fun c1 => absurd c1 (by decide))
          refine wa_iload_n 0 dX3_mostOf_9 rfl rfl ?_
          refine wa_iconst (1) dX3_mostOf_10 (by decide) ?_
          refine wa_icmp_ne 18 dX3_mostOf_11 rfl (fun c11 => ?_) (fun c11 => absurd c11 (by decide))
          refine wa_bipush (30) dX3_mostOf_18 (by decide) ?_
          refine wa_iret FieldType.int dX3_mostOf_20 rfl rfl (Nat.le_of_ble_eq_true rfl) (Nat.le_of_ble_eq_true rfl) ?_
          exact ⟨rfl, rfl⟩
        refine w_start (by decide) (Nat.le_of_ble_eq_true rfl) (fun X => ?_)
        refine wa_locals [(0, _), (1, _), (2, _)] [0, 1, 2] rfl ?_
        refine wa_aload_n 0 dX3_set_0 rfl rfl ?_
        refine wa_iconst (0) dX3_set_1 (by decide) ?_
        refine wa_putf [_, _, _, _, _, _, _, _, _, _, _, _, _, _, _, _, _, _, _, _] dX3_set_2 pX3_49 hm (Nat.le_of_ble_eq_true rfl) rfl rfl rfl ?_
        refine wa_iload_n 1 dX3_set_5 rfl rfl ?_
        refine wa_iconst (0) dX3_set_6 (by decide) ?_
        refine wa_iconst (2) dX3_set_7 (by decide) ?_
        refine wc_isI (wr_S dX3_set_8 mX3_71 (sp_mminY hy) rfl rfl rfl (Nat.le_of_ble_eq_true rfl)) ?_
        refine wa_if_eq 26 dX3_set_11 rfl (fun c11 => absurd c11 (by decide)) (fun c11 => ?_)
        refine wa_iload_n 2 dX3_set_14 rfl rfl ?_
        refine wa_iconst (1) dX3_set_15 (by decide) ?_
        refine wa_iload_n 1 dX3_set_16 rfl rfl ?_
        refine wc_isI (wr_S dX3_set_17 mX3_121 hmo rfl rfl rfl (Nat.le_of_ble_eq_true rfl)) ?_
        refine wc_isI (wr_S dX3_set_20 mX3_71 (sp_mminZ hv) rfl rfl rfl (Nat.le_of_ble_eq_true rfl)) ?_
        refine wa_if_ne 33 dX3_set_23 rfl (fun c23 => absurd (by decide) c23) (fun c23 => ?_)
        refine wa_aload_n 0 dX3_set_26 rfl rfl ?_
        refine wa_iconst (2) dX3_set_27 (by decide) ?_
        refine wa_iconst (0) dX3_set_28 (by decide) ?_
        refine wc_I (wr_V dX3_set_29 mX3_90 (sp_mrefuse h0 (by decide)) hm0 rfl rfl rfl (Nat.le_of_ble_eq_true rfl)) (fun r29 M29 h29 => ?_)
        refine wa_iret FieldType.int dX3_set_32 rfl rfl (Nat.le_of_ble_eq_true rfl) (Nat.le_of_ble_eq_true rfl) ?_
        exact ⟨_, rfl, (w_fr.rf.set z_mEm).trans (z_frE h29.2.1 (fun q e => by rw [e]; exact z_mEm)), h29.2.2.md⟩
theorem sp_mcancel (h : z_mod b M m S th) {x : Int32} : w_S l G tX3_cancel (6, 0, 0) [.ref m, .int x] M (z_mO b M m S (z_cancelC (z_cur S) x)) := by
  obtain ⟨is, rr, rc, f, sv, pf, ip, h⟩ := h
  obtain ⟨hm, hf, -⟩ := id h
  have H := h.mh
  have hr := h.mr
  have hg := h.gd
  have hs := hg.1
  have hh := hg.2.2.2.2.2.2.2
  have hsz := hs.size
  have hR6 : (z_robs (z_cur S)).length ≤ 6 := hs.2.2.2.2.1
  have hO10 : (z_ords (z_cur S)).length ≤ 10 := hs.2.2.2.2.2.1
  have h0 := h.thr 0
  have H0 := h0.mh
  have hm0 := h0.1
  have hf0 := h0.2.1
  cases i1 : z_idx x (z_robs (z_cur S)).length with
  | none =>
    have ea : z_cancelC (z_cur S) x = .inr (1, 0) := by unfold z_cancelC; rw [i1]
    rw [ea]
    refine w_start (by decide) (Nat.le_of_ble_eq_true rfl) (fun X => ?_)
    refine wa_locals [(0, _), (1, _)] [0, 1] rfl ?_
    refine wa_aload_n 0 dX3_cancel_0 rfl rfl ?_
    refine wa_iconst (0) dX3_cancel_1 (by decide) ?_
    refine wa_putf [_, _, _, _, _, _, _, _, _, _, _, _, _, _, _, _, _, _, _, _] dX3_cancel_2 pX3_49 hm (Nat.le_of_ble_eq_true rfl) rfl rfl rfl ?_
    refine wa_aload_n 0 dX3_cancel_5 rfl rfl ?_
    refine wa_iload_n 1 dX3_cancel_6 rfl rfl ?_
    refine wc_isI (wr_V dX3_cancel_7 mX3_103 (sp_misRobotZ H0 hr hs i1) hm0 rfl rfl rfl (Nat.le_of_ble_eq_true rfl)) ?_
    refine wa_if_ne 20 dX3_cancel_10 rfl (fun c10 => absurd (by decide) c10) (fun c10 => ?_)
    refine wa_aload_n 0 dX3_cancel_13 rfl rfl ?_
    refine wa_iconst (1) dX3_cancel_14 (by decide) ?_
    refine wa_iconst (0) dX3_cancel_15 (by decide) ?_
    refine wc_I (wr_V dX3_cancel_16 mX3_90 (sp_mrefuse h0 (by decide)) hm0 rfl rfl rfl (Nat.le_of_ble_eq_true rfl)) (fun r16 M16 h16 => ?_)
    refine wa_iret FieldType.int dX3_cancel_19 rfl rfl (Nat.le_of_ble_eq_true rfl) (Nat.le_of_ble_eq_true rfl) ?_
    exact ⟨_, rfl, (w_fr.rf.set z_mEm).trans (z_frE h16.2.1 (fun q e => by rw [e]; exact z_mEm)), h16.2.2.md⟩
  | some k =>
    have hkl := z_idx_lt (by omega) i1
    have e1 := z_idx_eq (by omega) i1
    subst e1
    have hk6 : k < 6 := by omega
    obtain ⟨r, hk⟩ : ∃ r, (z_robs (z_cur S))[k]? = some r := ⟨_, List.getElem?_eq_getElem hkl⟩
    obtain ⟨q1, q2, q3, q4, q5, q6, q7⟩ := hr.rob hk
    obtain ⟨hrc, hrp, hp30, hrh⟩ := hs.2.2.2.2.2.2.1 r (List.mem_of_getElem? hk)
    by_cases h14 : z_plan r = []
    ·
      have hq4 : f (104 + 36 * k + 3) = 0 := by rw [q4, h14]; rfl
      have ea : z_cancelC (z_cur S) (nI k) = .inr (14, 0) := by unfold z_cancelC; rw [i1]; simp only [hk, if_pos h14]
      rw [ea]
      refine w_start (by decide) (Nat.le_of_ble_eq_true rfl) (fun X => ?_)
      refine wa_locals [(0, _), (1, _)] [0, 1] rfl ?_
      refine wa_aload_n 0 dX3_cancel_0 rfl rfl ?_
      refine wa_iconst (0) dX3_cancel_1 (by decide) ?_
      refine wa_putf [_, _, _, _, _, _, _, _, _, _, _, _, _, _, _, _, _, _, _, _] dX3_cancel_2 pX3_49 hm (Nat.le_of_ble_eq_true rfl) rfl rfl rfl ?_
      refine wa_aload_n 0 dX3_cancel_5 rfl rfl ?_
      refine wa_iload_n 1 dX3_cancel_6 rfl rfl ?_
      refine wc_isI (wr_V dX3_cancel_7 mX3_103 (sp_misRobotY H0 hr hs i1) hm0 rfl rfl rfl (Nat.le_of_ble_eq_true rfl)) ?_
      refine wa_if_ne 20 dX3_cancel_10 rfl (fun c10 => ?_) (fun c10 => absurd c10 (by decide))
      refine wa_aload_n 0 dX3_cancel_20 rfl rfl ?_
      refine wa_iload_n 1 dX3_cancel_21 rfl rfl ?_
      refine wa_iconst (3) dX3_cancel_22 (by decide) ?_
      refine wc_isI (wr_V dX3_cancel_23 mX3_79 (sp_mof H0 hk6 (w := 3) (by decide)) hm0 rfl rfl rfl (Nat.le_of_ble_eq_true rfl)) ?_
      rw [hq4]
      refine wa_istore_n [(2, _), (0, _), (1, _)] dX3_cancel_26 rfl (Nat.le_of_ble_eq_true rfl) rfl ?_
      refine wa_iload_n 0 dX3_cancel_27 rfl rfl ?_
      refine wa_if_ne 39 dX3_cancel_28 rfl (fun c28 => absurd (by decide) c28) (fun c28 => ?_)
      refine wa_aload_n 1 dX3_cancel_31 rfl rfl ?_
      refine wa_bipush (14) dX3_cancel_32 (by decide) ?_
      refine wa_iconst (0) dX3_cancel_34 (by decide) ?_
      refine wc_I (wr_V dX3_cancel_35 mX3_90 (sp_mrefuse h0 (by decide)) hm0 rfl rfl rfl (Nat.le_of_ble_eq_true rfl)) (fun r35 M35 h35 => ?_)
      refine wa_iret FieldType.int dX3_cancel_38 rfl rfl (Nat.le_of_ble_eq_true rfl) (Nat.le_of_ble_eq_true rfl) ?_
      exact ⟨_, rfl, (w_fr.rf.set z_mEm).trans (z_frE h35.2.1 (fun q e => by rw [e]; exact z_mEm)), h35.2.2.md⟩
    ·
      have hpl : 0 < (z_plan r).length := List.length_pos_iff.mpr h14
      have hpn : ¬ nI (z_plan r).length = 0 := nI_ne0 hpl (by omega)
      cases hev : z_robotEver (z_cur S) (z_cell r) (nI k) with
      | some k' =>
        have hk' := z_robotEver_lt hev
        have ea : z_cancelC (z_cur S) (nI k) = .inr (5, nI k') := by unfold z_cancelC; rw [i1]; simp only [hk, if_neg h14, hev]
        rw [ea]
        refine w_start (by decide) (Nat.le_of_ble_eq_true rfl) (fun X => ?_)
        refine wa_locals [(0, _), (1, _)] [0, 1] rfl ?_
        refine wa_aload_n 0 dX3_cancel_0 rfl rfl ?_
        refine wa_iconst (0) dX3_cancel_1 (by decide) ?_
        refine wa_putf [_, _, _, _, _, _, _, _, _, _, _, _, _, _, _, _, _, _, _, _] dX3_cancel_2 pX3_49 hm (Nat.le_of_ble_eq_true rfl) rfl rfl rfl ?_
        refine wa_aload_n 0 dX3_cancel_5 rfl rfl ?_
        refine wa_iload_n 1 dX3_cancel_6 rfl rfl ?_
        refine wc_isI (wr_V dX3_cancel_7 mX3_103 (sp_misRobotY H0 hr hs i1) hm0 rfl rfl rfl (Nat.le_of_ble_eq_true rfl)) ?_
        refine wa_if_ne 20 dX3_cancel_10 rfl (fun c10 => ?_) (fun c10 => absurd c10 (by decide))
        refine wa_aload_n 0 dX3_cancel_20 rfl rfl ?_
        refine wa_iload_n 1 dX3_cancel_21 rfl rfl ?_
        refine wa_iconst (3) dX3_cancel_22 (by decide) ?_
        refine wc_isI (wr_V dX3_cancel_23 mX3_79 (sp_mof H0 hk6 (w := 3) (by decide)) hm0 rfl rfl rfl (Nat.le_of_ble_eq_true rfl)) ?_
        rw [q4]
        refine wa_istore_n [(2, _), (0, _), (1, _)] dX3_cancel_26 rfl (Nat.le_of_ble_eq_true rfl) rfl ?_
        refine wa_iload_n 0 dX3_cancel_27 rfl rfl ?_
        refine wa_if_ne 39 dX3_cancel_28 rfl (fun c28 => ?_) (fun c28 => absurd c28 hpn)
        refine wa_aload_n 1 dX3_cancel_39 rfl rfl ?_
        refine wa_aload_n 1 dX3_cancel_40 rfl rfl ?_
        refine wa_iload_n 2 dX3_cancel_41 rfl rfl ?_
        refine wa_iconst (0) dX3_cancel_42 (by decide) ?_
        refine wc_isI (wr_V dX3_cancel_43 mX3_79 (sp_mof H0 hk6 (w := 0) (by decide)) hm0 rfl rfl rfl (Nat.le_of_ble_eq_true rfl)) ?_
        rw [show f (104 + 36 * k + 0) = nI (z_cell r) from q1]
        refine wa_iconst (1) dX3_cancel_46 (by decide) ?_
        refine wa_iload_n 2 dX3_cancel_47 rfl rfl ?_
        refine wc_isI (wr_V dX3_cancel_48 mX3_96 (sp_mwillBe H0 hr hs (t := 1) (by omega) (by decide)) hm0 rfl rfl rfl (Nat.le_of_ble_eq_true rfl)) ?_
        rw [z_wil_1 hs hg.2.2.2.2.1 hk, hev]
        rw [show z_enc (some k') = nI k' from rfl]
        refine wa_istore_n [(3, _), (2, _), (0, _), (1, _)] dX3_cancel_51 rfl (Nat.le_of_ble_eq_true rfl) rfl ?_
        refine wa_iload_n 0 dX3_cancel_52 rfl rfl ?_
        refine wa_if_lt 63 dX3_cancel_53 rfl (fun c53 => absurd c53 (nI_pos (by omega))) (fun c53 => ?_)
        refine wa_aload_n 2 dX3_cancel_56 rfl rfl ?_
        refine wa_iconst (5) dX3_cancel_57 (by decide) ?_
        refine wa_iload_n 0 dX3_cancel_58 rfl rfl ?_
        refine wc_I (wr_V dX3_cancel_59 mX3_90 (sp_mrefuse h0 (by decide)) hm0 rfl rfl rfl (Nat.le_of_ble_eq_true rfl)) (fun r59 M59 h59 => ?_)
        refine wa_iret FieldType.int dX3_cancel_62 rfl rfl (Nat.le_of_ble_eq_true rfl) (Nat.le_of_ble_eq_true rfl) ?_
        exact ⟨_, rfl, (w_fr.rf.set z_mEm).trans (z_frE h59.2.1 (fun q e => by rw [e]; exact z_mEm)), h59.2.2.md⟩
      | none =>
        have hgd := hg.cancel hk hev
        have hmr : z_mr (z_setR (z_cur S) ((z_robs (z_cur S)).set k (z_drop r))) (upd f (104 + 36 * k + 3) 0) := by
          refine z_mr_R hr hs (fun i hi hn => if_neg (by omega)) (by rw [List.length_set]; exact (if_neg (by omega)).trans hr.1.2.2.2.1) (fun i r' hi => ?_) (fun i hi => z_with_same hk rfl)
          rcases z_set_at hi with ⟨rfl, rfl, -⟩ | ⟨hn, hi⟩
          · exact ⟨(if_neg (by omega)).trans q1, (if_neg (by omega)).trans q2, (if_neg (by omega)).trans q3, if_pos rfl, fun z => absurd rfl z, (if_neg (by omega)).trans q6, fun j q hj => by cases hj⟩
          · exact (hr.rob hi).to (hs.2.2.2.2.2.2.1 r' (List.mem_of_getElem? hi)).2.2.1 (fun j hj => if_neg (by omega))
        have ea : z_cancelC (z_cur S) (nI k) = .inl (nI (z_plan r).length, z_setR (z_cur S) ((z_robs (z_cur S)).set k (z_drop r))) := by unfold z_cancelC; rw [i1]; simp only [hk, if_neg h14, hev]
        rw [ea]
        refine w_start (by decide) (Nat.le_of_ble_eq_true rfl) (fun X => ?_)
        refine wa_locals [(0, _), (1, _)] [0, 1] rfl ?_
        refine wa_aload_n 0 dX3_cancel_0 rfl rfl ?_
        refine wa_iconst (0) dX3_cancel_1 (by decide) ?_
        refine wa_putf [_, _, _, _, _, _, _, _, _, _, _, _, _, _, _, _, _, _, _, _] dX3_cancel_2 pX3_49 hm (Nat.le_of_ble_eq_true rfl) rfl rfl rfl ?_
        refine wa_aload_n 0 dX3_cancel_5 rfl rfl ?_
        refine wa_iload_n 1 dX3_cancel_6 rfl rfl ?_
        refine wc_isI (wr_V dX3_cancel_7 mX3_103 (sp_misRobotY H0 hr hs i1) hm0 rfl rfl rfl (Nat.le_of_ble_eq_true rfl)) ?_
        refine wa_if_ne 20 dX3_cancel_10 rfl (fun c10 => ?_) (fun c10 => absurd c10 (by decide))
        refine wa_aload_n 0 dX3_cancel_20 rfl rfl ?_
        refine wa_iload_n 1 dX3_cancel_21 rfl rfl ?_
        refine wa_iconst (3) dX3_cancel_22 (by decide) ?_
        refine wc_isI (wr_V dX3_cancel_23 mX3_79 (sp_mof H0 hk6 (w := 3) (by decide)) hm0 rfl rfl rfl (Nat.le_of_ble_eq_true rfl)) ?_
        rw [q4]
        refine wa_istore_n [(2, _), (0, _), (1, _)] dX3_cancel_26 rfl (Nat.le_of_ble_eq_true rfl) rfl ?_
        refine wa_iload_n 0 dX3_cancel_27 rfl rfl ?_
        refine wa_if_ne 39 dX3_cancel_28 rfl (fun c28 => ?_) (fun c28 => absurd c28 hpn)
        refine wa_aload_n 1 dX3_cancel_39 rfl rfl ?_
        refine wa_aload_n 1 dX3_cancel_40 rfl rfl ?_
        refine wa_iload_n 2 dX3_cancel_41 rfl rfl ?_
        refine wa_iconst (0) dX3_cancel_42 (by decide) ?_
        refine wc_isI (wr_V dX3_cancel_43 mX3_79 (sp_mof H0 hk6 (w := 0) (by decide)) hm0 rfl rfl rfl (Nat.le_of_ble_eq_true rfl)) ?_
        rw [show f (104 + 36 * k + 0) = nI (z_cell r) from q1]
        refine wa_iconst (1) dX3_cancel_46 (by decide) ?_
        refine wa_iload_n 2 dX3_cancel_47 rfl rfl ?_
        refine wc_isI (wr_V dX3_cancel_48 mX3_96 (sp_mwillBe H0 hr hs (t := 1) (by omega) (by decide)) hm0 rfl rfl rfl (Nat.le_of_ble_eq_true rfl)) ?_
        rw [z_wil_1 hs hg.2.2.2.2.1 hk, hev]
        refine wa_istore_n [(3, _), (2, _), (0, _), (1, _)] dX3_cancel_51 rfl (Nat.le_of_ble_eq_true rfl) rfl ?_
        refine wa_iload_n 0 dX3_cancel_52 rfl rfl ?_
        refine wa_if_lt 63 dX3_cancel_53 rfl (fun c53 => ?_) (fun c53 => absurd (by decide) c53)
        refine wa_aload_n 2 dX3_cancel_63 rfl rfl ?_
        refine wc_V (wr_V dX3_cancel_64 mX3_100 (sp_mchange h0) hm0 rfl rfl rfl (Nat.le_of_ble_eq_true rfl)) (fun M64 h64 => ?_)
        obtain ⟨k0, pf2, k2⟩ := id h64
        have k1 := z_frE (m := m) k0 (fun q e => e.elim (fun e => by rw [e]; exact z_mEm) (fun e => by rw [e]; exact ⟨by omega, by omega⟩))
        have km := k2.1
        have kf := k2.2.1
        refine wa_aload_n 2 dX3_cancel_67 rfl rfl ?_
        refine wa_getf dX3_cancel_68 gX3_9 km rfl ?_
        refine wa_iload_n 3 dX3_cancel_71 rfl rfl ?_
        refine wc_isI (wr_S dX3_cancel_72 mX3_75 sp_mat rfl rfl rfl (Nat.le_of_ble_eq_true rfl)) ?_
        refine wa_iconst (3) dX3_cancel_75 (by decide) ?_
        refine wa_iadd dX3_cancel_76 ?_
        refine wa_iconst (0) dX3_cancel_77 (by decide) ?_
        rw [show nI (104 + 36 * k) + 3 = nI (104 + 36 * k + 3) from nI_add _ 3]
        refine wa_iast dX3_cancel_78 kf (vp_in_nI (by omega) (by omega)) ?_
        rw [nI_clamp (by omega)]
        have k3 := k2.row (N := M64.set (m + 1) (.inl (.int, 400, .inl (upd f (104 + 36 * k + 3) 0)))) w_fr_me (w_set_self kf) hmr hgd
        refine wa_iload_n 1 dX3_cancel_79 rfl rfl ?_
        refine wa_iret FieldType.int dX3_cancel_80 rfl rfl (Nat.le_of_ble_eq_true rfl) (Nat.le_of_ble_eq_true rfl) ?_
        exact ⟨_, rfl, ((w_fr.rf.set z_mEm).trans k1).set z_mEs, rfl, k3.md⟩
theorem sp_mrelease (h : z_mod b M m S th) {x : Int32} : w_S l G tX3_release (6, 0, 0) [.ref m, .int x] M (z_mO b M m S (z_releaseC (z_cur S) x)) := by
  obtain ⟨is, rr, rc, f, sv, pf, ip, h⟩ := h
  obtain ⟨hm, hf, -⟩ := id h
  have H := h.mh
  have hr := h.mr
  have hg := h.gd
  have hs := hg.1
  have hh := hg.2.2.2.2.2.2.2
  have hsz := hs.size
  have hR6 : (z_robs (z_cur S)).length ≤ 6 := hs.2.2.2.2.1
  have hO10 : (z_ords (z_cur S)).length ≤ 10 := hs.2.2.2.2.2.1
  have h0 := h.thr 0
  have H0 := h0.mh
  have hm0 := h0.1
  have hf0 := h0.2.1
  cases i1 : z_idx x (z_robs (z_cur S)).length with
  | none =>
    have ea : z_releaseC (z_cur S) x = .inr (1, 0) := by unfold z_releaseC; rw [i1]
    rw [ea]
    refine w_start (by decide) (Nat.le_of_ble_eq_true rfl) (fun X => ?_)
    refine wa_locals [(0, _), (1, _)] [0, 1] rfl ?_
    refine wa_aload_n 0 dX3_release_0 rfl rfl ?_
    refine wa_iconst (0) dX3_release_1 (by decide) ?_
    refine wa_putf [_, _, _, _, _, _, _, _, _, _, _, _, _, _, _, _, _, _, _, _] dX3_release_2 pX3_49 hm (Nat.le_of_ble_eq_true rfl) rfl rfl rfl ?_
    refine wa_aload_n 0 dX3_release_5 rfl rfl ?_
    refine wa_iload_n 1 dX3_release_6 rfl rfl ?_
    refine wc_isI (wr_V dX3_release_7 mX3_103 (sp_misRobotZ H0 hr hs i1) hm0 rfl rfl rfl (Nat.le_of_ble_eq_true rfl)) ?_
    refine wa_if_ne 20 dX3_release_10 rfl (fun c10 => absurd (by decide) c10) (fun c10 => ?_)
    refine wa_aload_n 0 dX3_release_13 rfl rfl ?_
    refine wa_iconst (1) dX3_release_14 (by decide) ?_
    refine wa_iconst (0) dX3_release_15 (by decide) ?_
    refine wc_I (wr_V dX3_release_16 mX3_90 (sp_mrefuse h0 (by decide)) hm0 rfl rfl rfl (Nat.le_of_ble_eq_true rfl)) (fun r16 M16 h16 => ?_)
    refine wa_iret FieldType.int dX3_release_19 rfl rfl (Nat.le_of_ble_eq_true rfl) (Nat.le_of_ble_eq_true rfl) ?_
    exact ⟨_, rfl, (w_fr.rf.set z_mEm).trans (z_frE h16.2.1 (fun q e => by rw [e]; exact z_mEm)), h16.2.2.md⟩
  | some k =>
    have hkl := z_idx_lt (by omega) i1
    have e1 := z_idx_eq (by omega) i1
    subst e1
    have hk6 : k < 6 := by omega
    obtain ⟨r, hk⟩ : ∃ r, (z_robs (z_cur S))[k]? = some r := ⟨_, List.getElem?_eq_getElem hkl⟩
    obtain ⟨q1, q2, q3, q4, q5, q6, q7⟩ := hr.rob hk
    obtain ⟨hrc, hrp, hp30, hrh⟩ := hs.2.2.2.2.2.2.1 r (List.mem_of_getElem? hk)
    cases ho : z_has r with
    | none =>
      rw [ho] at q3
      have ea : z_releaseC (z_cur S) (nI k) = .inr (7, -1) := by unfold z_releaseC; rw [i1]; simp only [hk, ho]
      rw [ea]
      refine w_start (by decide) (Nat.le_of_ble_eq_true rfl) (fun X => ?_)
      refine wa_locals [(0, _), (1, _)] [0, 1] rfl ?_
      refine wa_aload_n 0 dX3_release_0 rfl rfl ?_
      refine wa_iconst (0) dX3_release_1 (by decide) ?_
      refine wa_putf [_, _, _, _, _, _, _, _, _, _, _, _, _, _, _, _, _, _, _, _] dX3_release_2 pX3_49 hm (Nat.le_of_ble_eq_true rfl) rfl rfl rfl ?_
      refine wa_aload_n 0 dX3_release_5 rfl rfl ?_
      refine wa_iload_n 1 dX3_release_6 rfl rfl ?_
      refine wc_isI (wr_V dX3_release_7 mX3_103 (sp_misRobotY H0 hr hs i1) hm0 rfl rfl rfl (Nat.le_of_ble_eq_true rfl)) ?_
      refine wa_if_ne 20 dX3_release_10 rfl (fun c10 => ?_) (fun c10 => absurd c10 (by decide))
      refine wa_aload_n 0 dX3_release_20 rfl rfl ?_
      refine wa_iload_n 1 dX3_release_21 rfl rfl ?_
      refine wa_iconst (2) dX3_release_22 (by decide) ?_
      refine wc_isI (wr_V dX3_release_23 mX3_79 (sp_mof H0 hk6 (w := 2) (by decide)) hm0 rfl rfl rfl (Nat.le_of_ble_eq_true rfl)) ?_
      rw [q3]
      refine wa_istore_n [(2, _), (0, _), (1, _)] dX3_release_26 rfl (Nat.le_of_ble_eq_true rfl) rfl ?_
      refine wa_iload_n 0 dX3_release_27 rfl rfl ?_
      refine wa_if_ge 39 dX3_release_28 rfl (fun c28 => absurd c28 (by decide)) (fun c28 => ?_)
      refine wa_aload_n 1 dX3_release_31 rfl rfl ?_
      refine wa_bipush (7) dX3_release_32 (by decide) ?_
      refine wa_iconst (-1) dX3_release_34 (by decide) ?_
      refine wc_I (wr_V dX3_release_35 mX3_90 (sp_mrefuse h0 (by decide)) hm0 rfl rfl rfl (Nat.le_of_ble_eq_true rfl)) (fun r35 M35 h35 => ?_)
      refine wa_iret FieldType.int dX3_release_38 rfl rfl (Nat.le_of_ble_eq_true rfl) (Nat.le_of_ble_eq_true rfl) ?_
      exact ⟨_, rfl, (w_fr.rf.set z_mEm).trans (z_frE h35.2.1 (fun q e => by rw [e]; exact z_mEm)), h35.2.2.md⟩
    | some i =>
      have hil := hrh i ho
      have hi10 : i < 10 := by omega
      obtain ⟨o, hi⟩ : ∃ o, (z_ords (z_cur S))[i]? = some o := ⟨_, List.getElem?_eq_getElem hil⟩
      obtain ⟨p1, p2, p3, p4, p5, p6⟩ := hr.ord hi
      have hst1 : z_state o = 1 := ((hh.2 i o hi).1).mpr (by rw [z_with_is hh hk ho]; exact fun z => by cases z)
      have hdel := (hh.2 i o hi).2.2.1 (by omega)
      have hgd : z_good b (z_setO (z_setR (z_cur S) ((z_robs (z_cur S)).set k (z_hasR r none))) ((z_ords (z_cur S)).set i (z_stO o 0 0 (z_del o)))) := hg.release hk hi ho (Or.inl rfl) ⟨fun z => absurd z (by decide), fun _ => hdel⟩ (Nat.zero_le _) (fun _ => rfl)
      have hmr : z_mr (z_setO (z_setR (z_cur S) ((z_robs (z_cur S)).set k (z_hasR r none))) ((z_ords (z_cur S)).set i (z_stO o 0 0 (z_del o)))) (upd (upd (upd f (104 + 36 * k + 2) (-1)) (320 + 8 * i + 3) (-1)) (320 + 8 * i + 2) 0) := by
        have hU : ∀ j, j ≠ 104 + 36 * k + 2 → j ≠ 320 + 8 * i + 3 → j ≠ 320 + 8 * i + 2 → upd (upd (upd f (104 + 36 * k + 2) (-1)) (320 + 8 * i + 3) (-1)) (320 + 8 * i + 2) 0 j = f j := fun j h1 h2 h3 => (if_neg h3).trans ((if_neg h2).trans (if_neg h1))
        refine z_mr_RO hr hs (fun j h1 h2 h3 => hU j (by omega) (by omega) (by omega)) (by rw [List.length_set]; exact (hU 3 (by omega) (by omega) (by omega)).trans hr.1.2.2.2.1) (by rw [List.length_set]; exact (hU 4 (by omega) (by omega) (by omega)).trans hr.1.2.2.2.2) (fun y r' hy => ?_) (fun y o' hy => ?_)
        · rcases z_set_at hy with ⟨rfl, rfl, -⟩ | ⟨hn, hy⟩
          · exact ⟨(hU _ (by omega) (by omega) (by omega)).trans q1, (hU _ (by omega) (by omega) (by omega)).trans q2, (if_neg (by omega)).trans ((if_neg (by omega)).trans (if_pos rfl)), (hU _ (by omega) (by omega) (by omega)).trans q4, fun z => (hU _ (by omega) (by omega) (by omega)).trans (q5 z), (hU _ (by omega) (by omega) (by omega)).trans q6, fun j q hj => by
              have hjl := (List.getElem?_eq_some_iff.mp hj).1
              have hjl : j < (z_plan r).length := hjl
              exact (hU _ (by omega) (by omega) (by omega)).trans (q7 j q hj)⟩
          · have hyl := (List.getElem?_eq_some_iff.mp hy).1
            exact (hr.rob hy).to (hs.2.2.2.2.2.2.1 r' (List.mem_of_getElem? hy)).2.2.1 (fun j hj => hU _ (by omega) (by omega) (by omega))
        · rcases z_set_at hy with ⟨rfl, rfl, -⟩ | ⟨hn, hy⟩
          · rw [z_with_drop (fun i1 j1 r1 r2 g1 g2 g3 g4 => hh.1 i1 j1 y r1 r2 g1 g2 g3 g4) hk ho (fun z => by cases z)]
            exact ⟨(hU _ (by omega) (by omega) (by omega)).trans p1, (hU _ (by omega) (by omega) (by omega)).trans p2, if_pos rfl, (if_neg (by omega)).trans (if_pos rfl), (hU _ (by omega) (by omega) (by omega)).trans p5, fun j q hj => (hU _ (by omega) (by omega) (by omega)).trans (p6 j q hj)⟩
          · rw [z_with_set hk (by rw [ho]; exact fun z => hn (Option.some.inj z).symm) (fun z => by cases z)]
            exact (hr.ord hy).to (hs.2.2.2.2.2.2.2 o' (List.mem_of_getElem? hy)).2.1 (fun j hj => hU _ (by omega) (by omega) (by omega))
      rw [ho] at q3
      have ea : z_releaseC (z_cur S) (nI k) = .inl (nI i, z_setO (z_setR (z_cur S) ((z_robs (z_cur S)).set k (z_hasR r none))) ((z_ords (z_cur S)).set i (z_stO o 0 0 (z_del o)))) := by unfold z_releaseC; rw [i1]; simp only [hk, ho, hi]
      rw [ea]
      refine w_start (by decide) (Nat.le_of_ble_eq_true rfl) (fun X => ?_)
      refine wa_locals [(0, _), (1, _)] [0, 1] rfl ?_
      refine wa_aload_n 0 dX3_release_0 rfl rfl ?_
      refine wa_iconst (0) dX3_release_1 (by decide) ?_
      refine wa_putf [_, _, _, _, _, _, _, _, _, _, _, _, _, _, _, _, _, _, _, _] dX3_release_2 pX3_49 hm (Nat.le_of_ble_eq_true rfl) rfl rfl rfl ?_
      refine wa_aload_n 0 dX3_release_5 rfl rfl ?_
      refine wa_iload_n 1 dX3_release_6 rfl rfl ?_
      refine wc_isI (wr_V dX3_release_7 mX3_103 (sp_misRobotY H0 hr hs i1) hm0 rfl rfl rfl (Nat.le_of_ble_eq_true rfl)) ?_
      refine wa_if_ne 20 dX3_release_10 rfl (fun c10 => ?_) (fun c10 => absurd c10 (by decide))
      refine wa_aload_n 0 dX3_release_20 rfl rfl ?_
      refine wa_iload_n 1 dX3_release_21 rfl rfl ?_
      refine wa_iconst (2) dX3_release_22 (by decide) ?_
      refine wc_isI (wr_V dX3_release_23 mX3_79 (sp_mof H0 hk6 (w := 2) (by decide)) hm0 rfl rfl rfl (Nat.le_of_ble_eq_true rfl)) ?_
      rw [q3]
      rw [show z_enc (some i) = nI i from rfl]
      refine wa_istore_n [(2, _), (0, _), (1, _)] dX3_release_26 rfl (Nat.le_of_ble_eq_true rfl) rfl ?_
      refine wa_iload_n 0 dX3_release_27 rfl rfl ?_
      refine wa_if_ge 39 dX3_release_28 rfl (fun c28 => ?_) (fun c28 => absurd (Int32.not_lt.mp (nI_pos (by omega))) c28)
      refine wa_aload_n 1 dX3_release_39 rfl rfl ?_
      refine wc_V (wr_V dX3_release_40 mX3_100 (sp_mchange h0) hm0 rfl rfl rfl (Nat.le_of_ble_eq_true rfl)) (fun M40 h40 => ?_)
      obtain ⟨k0, pf2, k2⟩ := id h40
      have k1 := z_frE (m := m) k0 (fun q e => e.elim (fun e => by rw [e]; exact z_mEm) (fun e => by rw [e]; exact ⟨by omega, by omega⟩))
      have km := k2.1
      have kf := k2.2.1
      refine wa_aload_n 1 dX3_release_43 rfl rfl ?_
      refine wa_getf dX3_release_44 gX3_9 km rfl ?_
      refine wa_iload_n 2 dX3_release_47 rfl rfl ?_
      refine wc_isI (wr_S dX3_release_48 mX3_75 sp_mat rfl rfl rfl (Nat.le_of_ble_eq_true rfl)) ?_
      refine wa_iconst (2) dX3_release_51 (by decide) ?_
      refine wa_iadd dX3_release_52 ?_
      refine wa_iconst (-1) dX3_release_53 (by decide) ?_
      rw [show nI (104 + 36 * k) + 2 = nI (104 + 36 * k + 2) from nI_add _ 2]
      refine wa_iast dX3_release_54 kf (vp_in_nI (by omega) (by omega)) ?_
      rw [nI_clamp (by omega)]
      refine wa_aload_n 1 dX3_release_55 rfl rfl ?_
      refine wa_getf dX3_release_56 gX3_9 (w_sne km (by omega)) rfl ?_
      refine wa_iload_n 0 dX3_release_59 rfl rfl ?_
      refine wc_isI (wr_S dX3_release_60 mX3_106 sp_mord rfl rfl rfl (Nat.le_of_ble_eq_true rfl)) ?_
      refine wa_iconst (3) dX3_release_63 (by decide) ?_
      refine wa_iadd dX3_release_64 ?_
      refine wa_iconst (-1) dX3_release_65 (by decide) ?_
      rw [show nI (320 + 8 * i) + 3 = nI (320 + 8 * i + 3) from nI_add _ 3]
      refine wa_iast dX3_release_66 (w_set_self kf) (vp_in_nI (by omega) (by omega)) ?_
      rw [nI_clamp (by omega)]
      refine wa_aload_n 1 dX3_release_67 rfl rfl ?_
      refine wa_getf dX3_release_68 gX3_9 (w_sne (w_sne km (by omega)) (by omega)) rfl ?_
      refine wa_iload_n 0 dX3_release_71 rfl rfl ?_
      refine wc_isI (wr_S dX3_release_72 mX3_106 sp_mord rfl rfl rfl (Nat.le_of_ble_eq_true rfl)) ?_
      refine wa_iconst (2) dX3_release_75 (by decide) ?_
      refine wa_iadd dX3_release_76 ?_
      refine wa_iconst (0) dX3_release_77 (by decide) ?_
      rw [show nI (320 + 8 * i) + 2 = nI (320 + 8 * i + 2) from nI_add _ 2]
      refine wa_iast dX3_release_78 (w_set_self (w_set_self kf)) (vp_in_nI (by omega) (by omega)) ?_
      rw [nI_clamp (by omega)]
      have k3 := k2.row (N := ((M40.set (m + 1) (.inl (.int, 400, .inl (upd f (104 + 36 * k + 2) (-1))))).set (m + 1) (.inl (.int, 400, .inl (upd (upd f (104 + 36 * k + 2) (-1)) (320 + 8 * i + 3) (-1))))).set (m + 1) (.inl (.int, 400, .inl (upd (upd (upd f (104 + 36 * k + 2) (-1)) (320 + 8 * i + 3) (-1)) (320 + 8 * i + 2) 0)))) w_fr_me.me.me (w_set_self (w_set_self (w_set_self kf))) hmr hgd
      refine wa_iload_n 0 dX3_release_79 rfl rfl ?_
      refine wa_iret FieldType.int dX3_release_80 rfl rfl (Nat.le_of_ble_eq_true rfl) (Nat.le_of_ble_eq_true rfl) ?_
      exact ⟨_, rfl, ((((w_fr.rf.set z_mEm).trans k1).set z_mEs).set z_mEs).set z_mEs, rfl, k3.md⟩
theorem sp_massign (h : z_mod b M m S th) {x y : Int32} : w_S l G tX3_assign (6, 0, 0) [.ref m, .int x, .int y] M (z_mO b M m S (z_assignC (z_cur S) x y)) := by
  obtain ⟨is, rr, rc, f, sv, pf, ip, h⟩ := h
  obtain ⟨hm, hf, -⟩ := id h
  have H := h.mh
  have hr := h.mr
  have hg := h.gd
  have hs := hg.1
  have hh := hg.2.2.2.2.2.2.2
  have hsz := hs.size
  have hR6 : (z_robs (z_cur S)).length ≤ 6 := hs.2.2.2.2.1
  have hO10 : (z_ords (z_cur S)).length ≤ 10 := hs.2.2.2.2.2.1
  have h0 := h.thr 0
  have H0 := h0.mh
  have hm0 := h0.1
  have hf0 := h0.2.1
  cases i1 : z_idx x (z_robs (z_cur S)).length with
  | none =>
    have ea : z_assignC (z_cur S) x y = .inr (1, 0) := by unfold z_assignC; rw [i1]
    rw [ea]
    refine w_start (by decide) (Nat.le_of_ble_eq_true rfl) (fun X => ?_)
    refine wa_locals [(0, _), (1, _), (2, _)] [0, 1, 2] rfl ?_
    refine wa_aload_n 0 dX3_assign_0 rfl rfl ?_
    refine wa_iconst (0) dX3_assign_1 (by decide) ?_
    refine wa_putf [_, _, _, _, _, _, _, _, _, _, _, _, _, _, _, _, _, _, _, _] dX3_assign_2 pX3_49 hm (Nat.le_of_ble_eq_true rfl) rfl rfl rfl ?_
    refine wa_aload_n 0 dX3_assign_5 rfl rfl ?_
    refine wa_iload_n 1 dX3_assign_6 rfl rfl ?_
    refine wc_isI (wr_V dX3_assign_7 mX3_103 (sp_misRobotZ H0 hr hs i1) hm0 rfl rfl rfl (Nat.le_of_ble_eq_true rfl)) ?_
    refine wa_if_eq 21 dX3_assign_10 rfl (fun c10 => ?_) (fun c10 => absurd (by decide) c10)
    refine wa_aload_n 0 dX3_assign_21 rfl rfl ?_
    refine wa_iconst (1) dX3_assign_22 (by decide) ?_
    refine wa_iconst (0) dX3_assign_23 (by decide) ?_
    refine wc_I (wr_V dX3_assign_24 mX3_90 (sp_mrefuse h0 (by decide)) hm0 rfl rfl rfl (Nat.le_of_ble_eq_true rfl)) (fun r24 M24 h24 => ?_)
    refine wa_iret FieldType.int dX3_assign_27 rfl rfl (Nat.le_of_ble_eq_true rfl) (Nat.le_of_ble_eq_true rfl) ?_
    exact ⟨_, rfl, (w_fr.rf.set z_mEm).trans (z_frE h24.2.1 (fun q e => by rw [e]; exact z_mEm)), h24.2.2.md⟩
  | some k =>
    cases i2 : z_idx y (z_ords (z_cur S)).length with
    | none =>
      have ea : z_assignC (z_cur S) x y = .inr (1, 0) := by unfold z_assignC; rw [i1, i2]
      rw [ea]
      refine w_start (by decide) (Nat.le_of_ble_eq_true rfl) (fun X => ?_)
      refine wa_locals [(0, _), (1, _), (2, _)] [0, 1, 2] rfl ?_
      refine wa_aload_n 0 dX3_assign_0 rfl rfl ?_
      refine wa_iconst (0) dX3_assign_1 (by decide) ?_
      refine wa_putf [_, _, _, _, _, _, _, _, _, _, _, _, _, _, _, _, _, _, _, _] dX3_assign_2 pX3_49 hm (Nat.le_of_ble_eq_true rfl) rfl rfl rfl ?_
      refine wa_aload_n 0 dX3_assign_5 rfl rfl ?_
      refine wa_iload_n 1 dX3_assign_6 rfl rfl ?_
      refine wc_isI (wr_V dX3_assign_7 mX3_103 (sp_misRobotY H0 hr hs i1) hm0 rfl rfl rfl (Nat.le_of_ble_eq_true rfl)) ?_
      refine wa_if_eq 21 dX3_assign_10 rfl (fun c10 => absurd c10 (by decide)) (fun c10 => ?_)
      refine wa_aload_n 0 dX3_assign_13 rfl rfl ?_
      refine wa_iload_n 2 dX3_assign_14 rfl rfl ?_
      refine wc_isI (wr_V dX3_assign_15 mX3_112 (sp_misOrderZ H0 hr hs i2) hm0 rfl rfl rfl (Nat.le_of_ble_eq_true rfl)) ?_
      refine wa_if_ne 28 dX3_assign_18 rfl (fun c18 => absurd (by decide) c18) (fun c18 => ?_)
      refine wa_aload_n 0 dX3_assign_21 rfl rfl ?_
      refine wa_iconst (1) dX3_assign_22 (by decide) ?_
      refine wa_iconst (0) dX3_assign_23 (by decide) ?_
      refine wc_I (wr_V dX3_assign_24 mX3_90 (sp_mrefuse h0 (by decide)) hm0 rfl rfl rfl (Nat.le_of_ble_eq_true rfl)) (fun r24 M24 h24 => ?_)
      refine wa_iret FieldType.int dX3_assign_27 rfl rfl (Nat.le_of_ble_eq_true rfl) (Nat.le_of_ble_eq_true rfl) ?_
      exact ⟨_, rfl, (w_fr.rf.set z_mEm).trans (z_frE h24.2.1 (fun q e => by rw [e]; exact z_mEm)), h24.2.2.md⟩
    | some i =>
      have hkl := z_idx_lt (by omega) i1
      have e1 := z_idx_eq (by omega) i1
      subst e1
      have hk6 : k < 6 := by omega
      obtain ⟨r, hk⟩ : ∃ r, (z_robs (z_cur S))[k]? = some r := ⟨_, List.getElem?_eq_getElem hkl⟩
      obtain ⟨q1, q2, q3, q4, q5, q6, q7⟩ := hr.rob hk
      obtain ⟨hrc, hrp, hp30, hrh⟩ := hs.2.2.2.2.2.2.1 r (List.mem_of_getElem? hk)
      have hil := z_idx_lt (by omega) i2
      have e2 := z_idx_eq (by omega) i2
      subst e2
      have hi10 : i < 10 := by omega
      obtain ⟨o, hi⟩ : ∃ o, (z_ords (z_cur S))[i]? = some o := ⟨_, List.getElem?_eq_getElem hil⟩
      obtain ⟨p1, p2, p3, p4, p5, p6⟩ := hr.ord hi
      cases ho : z_has r with
      | some o' =>
        have ho' := hrh o' ho
        rw [ho] at q3
        have ea : z_assignC (z_cur S) (nI k) (nI i) = .inr (7, nI o') := by unfold z_assignC; rw [i1, i2]; simp only [hk, hi, ho]
        rw [ea]
        refine w_start (by decide) (Nat.le_of_ble_eq_true rfl) (fun X => ?_)
        refine wa_locals [(0, _), (1, _), (2, _)] [0, 1, 2] rfl ?_
        refine wa_aload_n 0 dX3_assign_0 rfl rfl ?_
        refine wa_iconst (0) dX3_assign_1 (by decide) ?_
        refine wa_putf [_, _, _, _, _, _, _, _, _, _, _, _, _, _, _, _, _, _, _, _] dX3_assign_2 pX3_49 hm (Nat.le_of_ble_eq_true rfl) rfl rfl rfl ?_
        refine wa_aload_n 0 dX3_assign_5 rfl rfl ?_
        refine wa_iload_n 1 dX3_assign_6 rfl rfl ?_
        refine wc_isI (wr_V dX3_assign_7 mX3_103 (sp_misRobotY H0 hr hs i1) hm0 rfl rfl rfl (Nat.le_of_ble_eq_true rfl)) ?_
        refine wa_if_eq 21 dX3_assign_10 rfl (fun c10 => absurd c10 (by decide)) (fun c10 => ?_)
        refine wa_aload_n 0 dX3_assign_13 rfl rfl ?_
        refine wa_iload_n 2 dX3_assign_14 rfl rfl ?_
        refine wc_isI (wr_V dX3_assign_15 mX3_112 (sp_misOrderY H0 hr hs i2) hm0 rfl rfl rfl (Nat.le_of_ble_eq_true rfl)) ?_
        refine wa_if_ne 28 dX3_assign_18 rfl (fun c18 => ?_) (fun c18 => absurd c18 (by decide))
        refine wa_aload_n 0 dX3_assign_28 rfl rfl ?_
        refine wa_iload_n 1 dX3_assign_29 rfl rfl ?_
        refine wa_iconst (2) dX3_assign_30 (by decide) ?_
        refine wc_isI (wr_V dX3_assign_31 mX3_79 (sp_mof H0 hk6 (w := 2) (by decide)) hm0 rfl rfl rfl (Nat.le_of_ble_eq_true rfl)) ?_
        rw [q3]
        rw [show z_enc (some o') = nI o' from rfl]
        refine wa_if_lt 50 dX3_assign_34 rfl (fun c34 => absurd c34 (nI_pos (by omega))) (fun c34 => ?_)
        refine wa_aload_n 0 dX3_assign_37 rfl rfl ?_
        refine wa_bipush (7) dX3_assign_38 (by decide) ?_
        refine wa_aload_n 0 dX3_assign_40 rfl rfl ?_
        refine wa_iload_n 1 dX3_assign_41 rfl rfl ?_
        refine wa_iconst (2) dX3_assign_42 (by decide) ?_
        refine wc_isI (wr_V dX3_assign_43 mX3_79 (sp_mof H0 hk6 (w := 2) (by decide)) hm0 rfl rfl rfl (Nat.le_of_ble_eq_true rfl)) ?_
        rw [q3]
        rw [show z_enc (some o') = nI o' from rfl]
        refine wc_I (wr_V dX3_assign_46 mX3_90 (sp_mrefuse h0 (by decide)) hm0 rfl rfl rfl (Nat.le_of_ble_eq_true rfl)) (fun r46 M46 h46 => ?_)
        refine wa_iret FieldType.int dX3_assign_49 rfl rfl (Nat.le_of_ble_eq_true rfl) (Nat.le_of_ble_eq_true rfl) ?_
        exact ⟨_, rfl, (w_fr.rf.set z_mEm).trans (z_frE h46.2.1 (fun q e => by rw [e]; exact z_mEm)), h46.2.2.md⟩
      | none =>
        have hw0 : z_with (z_cur S) i = none ∨ z_state o ≠ 0 := Classical.byContradiction fun z => by
          have z1 := not_or.mp z
          have := ((hh.2 i o hi).1).mpr z1.1
          exact z1.2 (by omega)
        by_cases h8 : z_state o = 0
        ·
          have hpk := (hh.2 i o hi).2.2.2.2 h8
          have hwn : z_with (z_cur S) i = none := hw0.elim id (fun z => absurd h8 z)
          have hgd := hg.assign hk hi ho h8
          have hmr : z_mr (z_setO (z_setR (z_cur S) ((z_robs (z_cur S)).set k (z_hasR r (some i)))) ((z_ords (z_cur S)).set i (z_stO o (z_picked o) 1 (z_del o)))) (upd (upd f (104 + 36 * k + 2) (nI i)) (320 + 8 * i + 3) (nI k)) := by
            have hU : ∀ j, j ≠ 104 + 36 * k + 2 → j ≠ 320 + 8 * i + 3 → upd (upd f (104 + 36 * k + 2) (nI i)) (320 + 8 * i + 3) (nI k) j = f j := fun j h1 h2 => (if_neg h2).trans (if_neg h1)
            refine z_mr_RO hr hs (fun j h1 h2 h3 => hU j (by omega) (by omega)) (by rw [List.length_set]; exact (hU 3 (by omega) (by omega)).trans hr.1.2.2.2.1) (by rw [List.length_set]; exact (hU 4 (by omega) (by omega)).trans hr.1.2.2.2.2) (fun y r' hy => ?_) (fun y o' hy => ?_)
            · rcases z_set_at hy with ⟨rfl, rfl, -⟩ | ⟨hn, hy⟩
              · exact ⟨(hU _ (by omega) (by omega)).trans q1, (hU _ (by omega) (by omega)).trans q2, (if_neg (by omega)).trans (if_pos rfl), (hU _ (by omega) (by omega)).trans q4, fun z => (hU _ (by omega) (by omega)).trans (q5 z), (hU _ (by omega) (by omega)).trans q6, fun j q hj => by
                  have hjl := (List.getElem?_eq_some_iff.mp hj).1
                  have hjl : j < (z_plan r).length := hjl
                  exact (hU _ (by omega) (by omega)).trans (q7 j q hj)⟩
              · have hyl := (List.getElem?_eq_some_iff.mp hy).1
                exact (hr.rob hy).to (hs.2.2.2.2.2.2.1 r' (List.mem_of_getElem? hy)).2.2.1 (fun j hj => hU _ (by omega) (by omega))
            · rcases z_set_at hy with ⟨rfl, rfl, -⟩ | ⟨hn, hy⟩
              · rw [z_with_take hk hwn rfl]
                exact ⟨(hU _ (by omega) (by omega)).trans p1, (hU _ (by omega) (by omega)).trans p2, (hU _ (by omega) (by omega)).trans p3, if_pos rfl, (hU _ (by omega) (by omega)).trans p5, fun j q hj => (hU _ (by omega) (by omega)).trans (p6 j q hj)⟩
              · rw [z_with_set (y := y) (r' := z_hasR r (some i)) hk (by rw [ho]; exact fun z => by cases z) (fun (z : some i = some y) => hn (Option.some.inj z).symm)]
                exact (hr.ord hy).to (hs.2.2.2.2.2.2.2 o' (List.mem_of_getElem? hy)).2.1 (fun j hj => hU _ (by omega) (by omega))
          rw [ho] at q3
          have ea : z_assignC (z_cur S) (nI k) (nI i) = .inl (nI ((z_lines o).length - z_picked o), z_setO (z_setR (z_cur S) ((z_robs (z_cur S)).set k (z_hasR r (some i)))) ((z_ords (z_cur S)).set i (z_stO o (z_picked o) 1 (z_del o)))) := by unfold z_assignC; rw [i1, i2]; simp only [hk, hi, ho, if_pos h8]
          rw [ea]
          refine w_start (by decide) (Nat.le_of_ble_eq_true rfl) (fun X => ?_)
          refine wa_locals [(0, _), (1, _), (2, _)] [0, 1, 2] rfl ?_
          refine wa_aload_n 0 dX3_assign_0 rfl rfl ?_
          refine wa_iconst (0) dX3_assign_1 (by decide) ?_
          refine wa_putf [_, _, _, _, _, _, _, _, _, _, _, _, _, _, _, _, _, _, _, _] dX3_assign_2 pX3_49 hm (Nat.le_of_ble_eq_true rfl) rfl rfl rfl ?_
          refine wa_aload_n 0 dX3_assign_5 rfl rfl ?_
          refine wa_iload_n 1 dX3_assign_6 rfl rfl ?_
          refine wc_isI (wr_V dX3_assign_7 mX3_103 (sp_misRobotY H0 hr hs i1) hm0 rfl rfl rfl (Nat.le_of_ble_eq_true rfl)) ?_
          refine wa_if_eq 21 dX3_assign_10 rfl (fun c10 => absurd c10 (by decide)) (fun c10 => ?_)
          refine wa_aload_n 0 dX3_assign_13 rfl rfl ?_
          refine wa_iload_n 2 dX3_assign_14 rfl rfl ?_
          refine wc_isI (wr_V dX3_assign_15 mX3_112 (sp_misOrderY H0 hr hs i2) hm0 rfl rfl rfl (Nat.le_of_ble_eq_true rfl)) ?_
          refine wa_if_ne 28 dX3_assign_18 rfl (fun c18 => ?_) (fun c18 => absurd c18 (by decide))
          refine wa_aload_n 0 dX3_assign_28 rfl rfl ?_
          refine wa_iload_n 1 dX3_assign_29 rfl rfl ?_
          refine wa_iconst (2) dX3_assign_30 (by decide) ?_
          refine wc_isI (wr_V dX3_assign_31 mX3_79 (sp_mof H0 hk6 (w := 2) (by decide)) hm0 rfl rfl rfl (Nat.le_of_ble_eq_true rfl)) ?_
          rw [q3]
          refine wa_if_lt 50 dX3_assign_34 rfl (fun c34 => ?_) (fun c34 => absurd (by decide) c34)
          refine wa_aload_n 0 dX3_assign_50 rfl rfl ?_
          refine wa_iload_n 2 dX3_assign_51 rfl rfl ?_
          refine wc_isI (wr_V dX3_assign_52 mX3_115 (sp_mstateOf H0 hr hs hh hi) hm0 rfl rfl rfl (Nat.le_of_ble_eq_true rfl)) ?_
          rw [h8]
          refine wa_if_eq 70 dX3_assign_55 rfl (fun c55 => ?_) (fun c55 => absurd rfl c55)
          refine wa_aload_n 0 dX3_assign_70 rfl rfl ?_
          refine wc_V (wr_V dX3_assign_71 mX3_100 (sp_mchange h0) hm0 rfl rfl rfl (Nat.le_of_ble_eq_true rfl)) (fun M71 h71 => ?_)
          obtain ⟨k0, pf2, k2⟩ := id h71
          have k1 := z_frE (m := m) k0 (fun q e => e.elim (fun e => by rw [e]; exact z_mEm) (fun e => by rw [e]; exact ⟨by omega, by omega⟩))
          have km := k2.1
          have kf := k2.2.1
          refine wa_aload_n 0 dX3_assign_74 rfl rfl ?_
          refine wa_getf dX3_assign_75 gX3_9 km rfl ?_
          refine wa_iload_n 1 dX3_assign_78 rfl rfl ?_
          refine wc_isI (wr_S dX3_assign_79 mX3_75 sp_mat rfl rfl rfl (Nat.le_of_ble_eq_true rfl)) ?_
          refine wa_iconst (2) dX3_assign_82 (by decide) ?_
          refine wa_iadd dX3_assign_83 ?_
          refine wa_iload_n 2 dX3_assign_84 rfl rfl ?_
          rw [show nI (104 + 36 * k) + 2 = nI (104 + 36 * k + 2) from nI_add _ 2]
          refine wa_iast dX3_assign_85 kf (vp_in_nI (by omega) (by omega)) ?_
          rw [nI_clamp (by omega)]
          refine wa_aload_n 0 dX3_assign_86 rfl rfl ?_
          refine wa_getf dX3_assign_87 gX3_9 (w_sne km (by omega)) rfl ?_
          refine wa_iload_n 2 dX3_assign_90 rfl rfl ?_
          refine wc_isI (wr_S dX3_assign_91 mX3_106 sp_mord rfl rfl rfl (Nat.le_of_ble_eq_true rfl)) ?_
          refine wa_iconst (3) dX3_assign_94 (by decide) ?_
          refine wa_iadd dX3_assign_95 ?_
          refine wa_iload_n 1 dX3_assign_96 rfl rfl ?_
          rw [show nI (320 + 8 * i) + 3 = nI (320 + 8 * i + 3) from nI_add _ 3]
          refine wa_iast dX3_assign_97 (w_set_self kf) (vp_in_nI (by omega) (by omega)) ?_
          rw [nI_clamp (by omega)]
          have k3 := k2.row (N := (M71.set (m + 1) (.inl (.int, 400, .inl (upd f (104 + 36 * k + 2) (nI i))))).set (m + 1) (.inl (.int, 400, .inl (upd (upd f (104 + 36 * k + 2) (nI i)) (320 + 8 * i + 3) (nI k))))) w_fr_me.me (w_set_self (w_set_self kf)) hmr hgd
          refine wa_aload_n 0 dX3_assign_98 rfl rfl ?_
          refine wa_iload_n 2 dX3_assign_99 rfl rfl ?_
          refine wa_iconst (1) dX3_assign_100 (by decide) ?_
          refine wc_isI (wr_V dX3_assign_101 mX3_109 (sp_mget k3.mh hi10 (w := 1) (by decide)) k3.1 rfl rfl rfl (Nat.le_of_ble_eq_true rfl)) ?_
          refine wa_iret FieldType.int dX3_assign_104 rfl rfl (Nat.le_of_ble_eq_true rfl) (Nat.le_of_ble_eq_true rfl) ?_
          exact ⟨_, rfl, (((w_fr.rf.set z_mEm).trans k1).set z_mEs).set z_mEs, (by rw [hpk]; exact (if_neg (by omega)).trans ((if_neg (by omega)).trans p2)), k3.md⟩
        ·
          have h8n : ¬ nI (z_state o) = 0 := nI_ne0 (Nat.pos_of_ne_zero h8) (by have := (hh.2 i o hi).2.2.2.1; omega)
          rw [ho] at q3
          have ea : z_assignC (z_cur S) (nI k) (nI i) = .inr (8, nI (z_state o)) := by unfold z_assignC; rw [i1, i2]; simp only [hk, hi, ho, if_neg h8]
          rw [ea]
          refine w_start (by decide) (Nat.le_of_ble_eq_true rfl) (fun X => ?_)
          refine wa_locals [(0, _), (1, _), (2, _)] [0, 1, 2] rfl ?_
          refine wa_aload_n 0 dX3_assign_0 rfl rfl ?_
          refine wa_iconst (0) dX3_assign_1 (by decide) ?_
          refine wa_putf [_, _, _, _, _, _, _, _, _, _, _, _, _, _, _, _, _, _, _, _] dX3_assign_2 pX3_49 hm (Nat.le_of_ble_eq_true rfl) rfl rfl rfl ?_
          refine wa_aload_n 0 dX3_assign_5 rfl rfl ?_
          refine wa_iload_n 1 dX3_assign_6 rfl rfl ?_
          refine wc_isI (wr_V dX3_assign_7 mX3_103 (sp_misRobotY H0 hr hs i1) hm0 rfl rfl rfl (Nat.le_of_ble_eq_true rfl)) ?_
          refine wa_if_eq 21 dX3_assign_10 rfl (fun c10 => absurd c10 (by decide)) (fun c10 => ?_)
          refine wa_aload_n 0 dX3_assign_13 rfl rfl ?_
          refine wa_iload_n 2 dX3_assign_14 rfl rfl ?_
          refine wc_isI (wr_V dX3_assign_15 mX3_112 (sp_misOrderY H0 hr hs i2) hm0 rfl rfl rfl (Nat.le_of_ble_eq_true rfl)) ?_
          refine wa_if_ne 28 dX3_assign_18 rfl (fun c18 => ?_) (fun c18 => absurd c18 (by decide))
          refine wa_aload_n 0 dX3_assign_28 rfl rfl ?_
          refine wa_iload_n 1 dX3_assign_29 rfl rfl ?_
          refine wa_iconst (2) dX3_assign_30 (by decide) ?_
          refine wc_isI (wr_V dX3_assign_31 mX3_79 (sp_mof H0 hk6 (w := 2) (by decide)) hm0 rfl rfl rfl (Nat.le_of_ble_eq_true rfl)) ?_
          rw [q3]
          refine wa_if_lt 50 dX3_assign_34 rfl (fun c34 => ?_) (fun c34 => absurd (by decide) c34)
          refine wa_aload_n 0 dX3_assign_50 rfl rfl ?_
          refine wa_iload_n 2 dX3_assign_51 rfl rfl ?_
          refine wc_isI (wr_V dX3_assign_52 mX3_115 (sp_mstateOf H0 hr hs hh hi) hm0 rfl rfl rfl (Nat.le_of_ble_eq_true rfl)) ?_
          refine wa_if_eq 70 dX3_assign_55 rfl (fun c55 => absurd c55 h8n) (fun c55 => ?_)
          refine wa_aload_n 0 dX3_assign_58 rfl rfl ?_
          refine wa_bipush (8) dX3_assign_59 (by decide) ?_
          refine wa_aload_n 0 dX3_assign_61 rfl rfl ?_
          refine wa_iload_n 2 dX3_assign_62 rfl rfl ?_
          refine wc_isI (wr_V dX3_assign_63 mX3_115 (sp_mstateOf H0 hr hs hh hi) hm0 rfl rfl rfl (Nat.le_of_ble_eq_true rfl)) ?_
          refine wc_I (wr_V dX3_assign_66 mX3_90 (sp_mrefuse h0 (by decide)) hm0 rfl rfl rfl (Nat.le_of_ble_eq_true rfl)) (fun r66 M66 h66 => ?_)
          refine wa_iret FieldType.int dX3_assign_69 rfl rfl (Nat.le_of_ble_eq_true rfl) (Nat.le_of_ble_eq_true rfl) ?_
          exact ⟨_, rfl, (w_fr.rf.set z_mEm).trans (z_frE h66.2.1 (fun q e => by rw [e]; exact z_mEm)), h66.2.2.md⟩
theorem sp_madd (h : z_mod b M m S th) {x v : Int32} : w_S l G tX3_add (6, 0, 0) [.ref m, .int x, .int v] M (z_mO b M m S (z_addC (z_cur S) x v)) := by
  obtain ⟨is, rr, rc, f, sv, pf, ip, h⟩ := h
  obtain ⟨hm, hf, -⟩ := id h
  have H := h.mh
  have hr := h.mr
  have hg := h.gd
  have hs := hg.1
  have hh := hg.2.2.2.2.2.2.2
  have hsz := hs.size
  have hR6 : (z_robs (z_cur S)).length ≤ 6 := hs.2.2.2.2.1
  have hO10 : (z_ords (z_cur S)).length ≤ 10 := hs.2.2.2.2.2.1
  have h0 := h.thr 0
  have H0 := h0.mh
  have hm0 := h0.1
  have hf0 := h0.2.1
  cases i1 : z_idx x (z_size (z_cur S)) with
  | none =>
    have ea : z_addC (z_cur S) x v = .inr (1, 0) := by unfold z_addC; rw [i1]
    rw [ea]
    refine w_start (by decide) (Nat.le_of_ble_eq_true rfl) (fun X => ?_)
    refine wa_locals [(0, _), (1, _), (2, _)] [0, 1, 2] rfl ?_
    refine wa_aload_n 0 dX3_add_0 rfl rfl ?_
    refine wa_iconst (0) dX3_add_1 (by decide) ?_
    refine wa_putf [_, _, _, _, _, _, _, _, _, _, _, _, _, _, _, _, _, _, _, _] dX3_add_2 pX3_49 hm (Nat.le_of_ble_eq_true rfl) rfl rfl rfl ?_
    refine wa_aload_n 0 dX3_add_5 rfl rfl ?_
    refine wa_iload_n 1 dX3_add_6 rfl rfl ?_
    refine wc_isI (wr_V dX3_add_7 mX3_86 (sp_misCellZ H0 hr hs i1) hm0 rfl rfl rfl (Nat.le_of_ble_eq_true rfl)) ?_
    refine wa_if_ne 20 dX3_add_10 rfl (fun c10 => absurd (by decide) c10) (fun c10 => ?_)
    refine wa_aload_n 0 dX3_add_13 rfl rfl ?_
    refine wa_iconst (1) dX3_add_14 (by decide) ?_
    refine wa_iconst (0) dX3_add_15 (by decide) ?_
    refine wc_I (wr_V dX3_add_16 mX3_90 (sp_mrefuse h0 (by decide)) hm0 rfl rfl rfl (Nat.le_of_ble_eq_true rfl)) (fun r16 M16 h16 => ?_)
    refine wa_iret FieldType.int dX3_add_19 rfl rfl (Nat.le_of_ble_eq_true rfl) (Nat.le_of_ble_eq_true rfl) ?_
    exact ⟨_, rfl, (w_fr.rf.set z_mEm).trans (z_frE h16.2.1 (fun q e => by rw [e]; exact z_mEm)), h16.2.2.md⟩
  | some j =>
    have hjl := z_idx_lt (by omega) i1
    have e1 := z_idx_eq (by omega) i1
    subst e1
    by_cases hv : 0 ≤ v ∧ v ≤ 99
    ·
      by_cases h6 : (z_robs (z_cur S)).length = 6
      ·
        have ea : z_addC (z_cur S) (nI j) v = .inr (3, 0) := by unfold z_addC; rw [i1]; simp only [if_pos hv, if_pos h6]
        rw [ea]
        refine w_start (by decide) (Nat.le_of_ble_eq_true rfl) (fun X => ?_)
        refine wa_locals [(0, _), (1, _), (2, _)] [0, 1, 2] rfl ?_
        refine wa_aload_n 0 dX3_add_0 rfl rfl ?_
        refine wa_iconst (0) dX3_add_1 (by decide) ?_
        refine wa_putf [_, _, _, _, _, _, _, _, _, _, _, _, _, _, _, _, _, _, _, _] dX3_add_2 pX3_49 hm (Nat.le_of_ble_eq_true rfl) rfl rfl rfl ?_
        refine wa_aload_n 0 dX3_add_5 rfl rfl ?_
        refine wa_iload_n 1 dX3_add_6 rfl rfl ?_
        refine wc_isI (wr_V dX3_add_7 mX3_86 (sp_misCellY H0 hr hs i1) hm0 rfl rfl rfl (Nat.le_of_ble_eq_true rfl)) ?_
        refine wa_if_ne 20 dX3_add_10 rfl (fun c10 => ?_) (fun c10 => absurd c10 (by decide))
        refine wa_iload_n 2 dX3_add_20 rfl rfl ?_
        refine wa_iconst (0) dX3_add_21 (by decide) ?_
        refine wa_bipush (99) dX3_add_22 (by decide) ?_
        refine wc_isI (wr_S dX3_add_24 mX3_71 (sp_mminY hv) rfl rfl rfl (Nat.le_of_ble_eq_true rfl)) ?_
        refine wa_if_ne 37 dX3_add_27 rfl (fun c27 => ?_) (fun c27 => absurd c27 (by decide))
        refine wa_aload_n 0 dX3_add_37 rfl rfl ?_
        refine wa_getf dX3_add_38 gX3_9 hm0 rfl ?_
        refine wa_iconst (3) dX3_add_41 (by decide) ?_
        refine wa_iald dX3_add_42 hf0 (vp_in_nI (n := 3) (by omega) (by omega)) ?_
        rw [hr.rn]
        refine wa_bipush (6) dX3_add_43 (by decide) ?_
        refine wa_icmp_ne 55 dX3_add_45 rfl (fun c45 => absurd (congrArg nI h6) c45) (fun c45 => ?_)
        refine wa_aload_n 0 dX3_add_48 rfl rfl ?_
        refine wa_iconst (3) dX3_add_49 (by decide) ?_
        refine wa_iconst (0) dX3_add_50 (by decide) ?_
        refine wc_I (wr_V dX3_add_51 mX3_90 (sp_mrefuse h0 (by decide)) hm0 rfl rfl rfl (Nat.le_of_ble_eq_true rfl)) (fun r51 M51 h51 => ?_)
        refine wa_iret FieldType.int dX3_add_54 rfl rfl (Nat.le_of_ble_eq_true rfl) (Nat.le_of_ble_eq_true rfl) ?_
        exact ⟨_, rfl, (w_fr.rf.set z_mEm).trans (z_frE h51.2.1 (fun q e => by rw [e]; exact z_mEm)), h51.2.2.md⟩
      ·
        by_cases h4 : z_free (z_cur S) j = true
        ·
          cases hev : z_robotEver (z_cur S) j (-1) with
          | some k =>
            have hk := z_robotEver_lt hev
            have ea : z_addC (z_cur S) (nI j) v = .inr (5, nI k) := by unfold z_addC; rw [i1]; simp only [if_pos hv, if_neg h6, if_pos h4, hev]
            rw [ea]
            refine w_start (by decide) (Nat.le_of_ble_eq_true rfl) (fun X => ?_)
            refine wa_locals [(0, _), (1, _), (2, _)] [0, 1, 2] rfl ?_
            refine wa_aload_n 0 dX3_add_0 rfl rfl ?_
            refine wa_iconst (0) dX3_add_1 (by decide) ?_
            refine wa_putf [_, _, _, _, _, _, _, _, _, _, _, _, _, _, _, _, _, _, _, _] dX3_add_2 pX3_49 hm (Nat.le_of_ble_eq_true rfl) rfl rfl rfl ?_
            refine wa_aload_n 0 dX3_add_5 rfl rfl ?_
            refine wa_iload_n 1 dX3_add_6 rfl rfl ?_
            refine wc_isI (wr_V dX3_add_7 mX3_86 (sp_misCellY H0 hr hs i1) hm0 rfl rfl rfl (Nat.le_of_ble_eq_true rfl)) ?_
            refine wa_if_ne 20 dX3_add_10 rfl (fun c10 => ?_) (fun c10 => absurd c10 (by decide))
            refine wa_iload_n 2 dX3_add_20 rfl rfl ?_
            refine wa_iconst (0) dX3_add_21 (by decide) ?_
            refine wa_bipush (99) dX3_add_22 (by decide) ?_
            refine wc_isI (wr_S dX3_add_24 mX3_71 (sp_mminY hv) rfl rfl rfl (Nat.le_of_ble_eq_true rfl)) ?_
            refine wa_if_ne 37 dX3_add_27 rfl (fun c27 => ?_) (fun c27 => absurd c27 (by decide))
            refine wa_aload_n 0 dX3_add_37 rfl rfl ?_
            refine wa_getf dX3_add_38 gX3_9 hm0 rfl ?_
            refine wa_iconst (3) dX3_add_41 (by decide) ?_
            refine wa_iald dX3_add_42 hf0 (vp_in_nI (n := 3) (by omega) (by omega)) ?_
            rw [hr.rn]
            refine wa_bipush (6) dX3_add_43 (by decide) ?_
            refine wa_icmp_ne 55 dX3_add_45 rfl (fun c45 => ?_) (fun c45 => absurd ((nI_eq (b := 6) (by omega) (by decide)).mp c45) h6)
            refine wa_aload_n 0 dX3_add_55 rfl rfl ?_
            refine wa_iload_n 1 dX3_add_56 rfl rfl ?_
            refine wc_isI (wr_V dX3_add_57 mX3_93 (sp_mcanEnter H0 hr hs hjl) hm0 rfl rfl rfl (Nat.le_of_ble_eq_true rfl)) ?_
            refine wa_if_ne 70 dX3_add_60 rfl (fun c60 => ?_) (fun c60 => absurd (c60.symm.trans (if_pos h4)) (by decide))
            refine wa_aload_n 0 dX3_add_70 rfl rfl ?_
            refine wa_iload_n 1 dX3_add_71 rfl rfl ?_
            refine wa_iconst (0) dX3_add_72 (by decide) ?_
            refine wa_iconst (-1) dX3_add_73 (by decide) ?_
            refine wc_isI (wr_V dX3_add_74 mX3_96 (sp_mwillBe H0 hr hs (t := 0) (by omega) (by decide)) hm0 rfl rfl rfl (Nat.le_of_ble_eq_true rfl)) ?_
            rw [z_wil_0 hs, hev]
            rw [show z_enc (some k) = nI k from rfl]
            refine wa_istore_n [(3, _), (0, _), (1, _), (2, _)] dX3_add_77 rfl (Nat.le_of_ble_eq_true rfl) rfl ?_
            refine wa_iload_n 0 dX3_add_78 rfl rfl ?_
            refine wa_if_lt 89 dX3_add_79 rfl (fun c79 => absurd c79 (nI_pos (by omega))) (fun c79 => ?_)
            refine wa_aload_n 1 dX3_add_82 rfl rfl ?_
            refine wa_iconst (5) dX3_add_83 (by decide) ?_
            refine wa_iload_n 0 dX3_add_84 rfl rfl ?_
            refine wc_I (wr_V dX3_add_85 mX3_90 (sp_mrefuse h0 (by decide)) hm0 rfl rfl rfl (Nat.le_of_ble_eq_true rfl)) (fun r85 M85 h85 => ?_)
            refine wa_iret FieldType.int dX3_add_88 rfl rfl (Nat.le_of_ble_eq_true rfl) (Nat.le_of_ble_eq_true rfl) ?_
            exact ⟨_, rfl, (w_fr.rf.set z_mEm).trans (z_frE h85.2.1 (fun q e => by rw [e]; exact z_mEm)), h85.2.2.md⟩
          | none =>
            have hlt : (z_robs (z_cur S)).length < 6 := by omega
            have hgd := hg.add (x := v) hlt hjl h4 hev
            have ea : z_addC (z_cur S) (nI j) v = .inl (nI (z_robs (z_cur S)).length, z_setR (z_cur S) (z_robs (z_cur S) ++ [(j, v, none, 0, [], 0)])) := by unfold z_addC; rw [i1]; simp only [if_pos hv, if_neg h6, if_pos h4, hev]
            rw [ea]
            refine w_start (by decide) (Nat.le_of_ble_eq_true rfl) (fun X => ?_)
            refine wa_locals [(0, _), (1, _), (2, _)] [0, 1, 2] rfl ?_
            refine wa_aload_n 0 dX3_add_0 rfl rfl ?_
            refine wa_iconst (0) dX3_add_1 (by decide) ?_
            refine wa_putf [_, _, _, _, _, _, _, _, _, _, _, _, _, _, _, _, _, _, _, _] dX3_add_2 pX3_49 hm (Nat.le_of_ble_eq_true rfl) rfl rfl rfl ?_
            refine wa_aload_n 0 dX3_add_5 rfl rfl ?_
            refine wa_iload_n 1 dX3_add_6 rfl rfl ?_
            refine wc_isI (wr_V dX3_add_7 mX3_86 (sp_misCellY H0 hr hs i1) hm0 rfl rfl rfl (Nat.le_of_ble_eq_true rfl)) ?_
            refine wa_if_ne 20 dX3_add_10 rfl (fun c10 => ?_) (fun c10 => absurd c10 (by decide))
            refine wa_iload_n 2 dX3_add_20 rfl rfl ?_
            refine wa_iconst (0) dX3_add_21 (by decide) ?_
            refine wa_bipush (99) dX3_add_22 (by decide) ?_
            refine wc_isI (wr_S dX3_add_24 mX3_71 (sp_mminY hv) rfl rfl rfl (Nat.le_of_ble_eq_true rfl)) ?_
            refine wa_if_ne 37 dX3_add_27 rfl (fun c27 => ?_) (fun c27 => absurd c27 (by decide))
            refine wa_aload_n 0 dX3_add_37 rfl rfl ?_
            refine wa_getf dX3_add_38 gX3_9 hm0 rfl ?_
            refine wa_iconst (3) dX3_add_41 (by decide) ?_
            refine wa_iald dX3_add_42 hf0 (vp_in_nI (n := 3) (by omega) (by omega)) ?_
            rw [hr.rn]
            refine wa_bipush (6) dX3_add_43 (by decide) ?_
            refine wa_icmp_ne 55 dX3_add_45 rfl (fun c45 => ?_) (fun c45 => absurd ((nI_eq (b := 6) (by omega) (by decide)).mp c45) h6)
            refine wa_aload_n 0 dX3_add_55 rfl rfl ?_
            refine wa_iload_n 1 dX3_add_56 rfl rfl ?_
            refine wc_isI (wr_V dX3_add_57 mX3_93 (sp_mcanEnter H0 hr hs hjl) hm0 rfl rfl rfl (Nat.le_of_ble_eq_true rfl)) ?_
            refine wa_if_ne 70 dX3_add_60 rfl (fun c60 => ?_) (fun c60 => absurd (c60.symm.trans (if_pos h4)) (by decide))
            refine wa_aload_n 0 dX3_add_70 rfl rfl ?_
            refine wa_iload_n 1 dX3_add_71 rfl rfl ?_
            refine wa_iconst (0) dX3_add_72 (by decide) ?_
            refine wa_iconst (-1) dX3_add_73 (by decide) ?_
            refine wc_isI (wr_V dX3_add_74 mX3_96 (sp_mwillBe H0 hr hs (t := 0) (by omega) (by decide)) hm0 rfl rfl rfl (Nat.le_of_ble_eq_true rfl)) ?_
            rw [z_wil_0 hs, hev]
            refine wa_istore_n [(3, _), (0, _), (1, _), (2, _)] dX3_add_77 rfl (Nat.le_of_ble_eq_true rfl) rfl ?_
            refine wa_iload_n 0 dX3_add_78 rfl rfl ?_
            refine wa_if_lt 89 dX3_add_79 rfl (fun c79 => ?_) (fun c79 => absurd (by decide) c79)
            refine wa_aload_n 1 dX3_add_89 rfl rfl ?_
            refine wc_V (wr_V dX3_add_90 mX3_100 (sp_mchange h0) hm0 rfl rfl rfl (Nat.le_of_ble_eq_true rfl)) (fun M90 h90 => ?_)
            obtain ⟨k0, pf2, k2⟩ := id h90
            have k1 := z_frE (m := m) k0 (fun q e => e.elim (fun e => by rw [e]; exact z_mEm) (fun e => by rw [e]; exact ⟨by omega, by omega⟩))
            have km := k2.1
            have kf := k2.2.1
            refine wa_aload_n 1 dX3_add_93 rfl rfl ?_
            refine wa_getf dX3_add_94 gX3_9 km rfl ?_
            refine wa_iconst (3) dX3_add_97 (by decide) ?_
            refine wa_iald dX3_add_98 kf (vp_in_nI (n := 3) (by omega) (by omega)) ?_
            rw [hr.rn]
            refine wa_istore [(4, _), (3, _), (0, _), (1, _), (2, _)] dX3_add_99 (Nat.le_of_ble_eq_true rfl) rfl ?_
            refine wa_iconst (0) dX3_add_101 (by decide) ?_
            refine wa_istore [(5, _), (4, _), (3, _), (0, _), (1, _), (2, _)] dX3_add_102 (Nat.le_of_ble_eq_true rfl) rfl ?_
            refine wa_locals [(5, _), (4, _), (0, _), (1, _), (2, _)] [0, 1, 3, 4, 5] rfl ?_
            have LP : ∀ (n k : Nat) (N : w_M) (f1 : Nat → Int32), k + n = 36 → w_fr M90 N (fun q => q = m + 1) → N.get (m + 1) = some (.inl (.int, 400, .inl f1)) → (∀ i, i < 104 + 36 * (z_robs (z_cur S)).length ∨ 104 + 36 * (z_robs (z_cur S)).length + 36 ≤ i → f1 i = f i) → (∀ i, i < k → f1 (104 + 36 * (z_robs (z_cur S)).length + i) = 0) → w_A l G tX3_add (6, 0, 0) X 0 0 N 104 [(5, .int (nI k)), (4, .int (nI (z_robs (z_cur S)).length)), (0, .ref m), (1, .int (nI j)), (2, .int v)] [] (z_mO b M m S (.inl (nI (z_robs (z_cur S)).length, z_setR (z_cur S) (z_robs (z_cur S) ++ [(j, v, none, 0, [], 0)])))) := by
              intro n
              induction n with
              | zero =>
                intro k N f1 hn hfN hgN hold hnew
                have hk : k = 36 := by omega
                subst hk
                have kmN := hfN.2 _ _ km (by omega)
                have kmN1 : ∀ e, (N.set (m + 1) e).get m = _ := fun e => w_sne kmN (by omega)
                have kmN2 : ∀ e e', ((N.set (m + 1) e).set (m + 1) e').get m = _ := fun e e' => w_sne (w_sne kmN (by omega)) (by omega)
                have kmN3 : ∀ e e' e'', (((N.set (m + 1) e).set (m + 1) e').set (m + 1) e'').get m = _ := fun e e' e'' => w_sne (w_sne (w_sne kmN (by omega)) (by omega)) (by omega)
                have h03 : f1 3 = nI (z_robs (z_cur S)).length := (hold 3 (by omega)).trans hr.1.2.2.2.1
                generalize hR : (z_robs (z_cur S)).length = rn at *
                have hU : ∀ i, i ≠ 3 → i < 104 + 36 * rn ∨ 104 + 36 * rn + 36 ≤ i → upd (upd (upd (upd f1 (104 + 36 * rn) (nI j)) (104 + 36 * rn + 1) v) (104 + 36 * rn + 2) (-1)) 3 (nI (rn + 1)) i = f i := fun i h1 h2 => (if_neg h1).trans ((if_neg (by omega)).trans ((if_neg (by omega)).trans ((if_neg (by omega)).trans (hold i h2))))
                have hmr : z_mr (z_setR (z_cur S) (z_robs (z_cur S) ++ [(j, v, none, 0, [], 0)])) (upd (upd (upd (upd f1 (104 + 36 * rn) (nI j)) (104 + 36 * rn + 1) v) (104 + 36 * rn + 2) (-1)) 3 (nI (rn + 1))) := by
                  refine z_mr_R hr hs (fun i hi hn => hU i hn (by omega)) (by rw [List.length_append, hR]; exact if_pos rfl) (fun i r' hi => ?_) (fun i hi => z_with_app (fun z => by cases z))
                  rcases z_app_at hi with ⟨rfl, rfl⟩ | ⟨hl, hi⟩
                  · rw [hR]
                    have hn5 : f1 (104 + 36 * rn + 5) = 0 := hnew 5 (by decide)
                    have hn3 : f1 (104 + 36 * rn + 3) = 0 := hnew 3 (by decide)
                    exact ⟨(if_neg (by omega)).trans ((if_neg (by omega)).trans ((if_neg (by omega)).trans (if_pos rfl))), (if_neg (by omega)).trans ((if_neg (by omega)).trans (if_pos rfl)), (if_neg (by omega)).trans (if_pos rfl), (if_neg (by omega)).trans ((if_neg (by omega)).trans ((if_neg (by omega)).trans ((if_neg (by omega)).trans hn3))), fun z => absurd rfl z, (if_neg (by omega)).trans ((if_neg (by omega)).trans ((if_neg (by omega)).trans ((if_neg (by omega)).trans hn5))), fun y q hy => by cases hy⟩
                  · exact (hr.rob hi).to (hs.2.2.2.2.2.2.1 r' (List.mem_of_getElem? hi)).2.2.1 (fun y hy => hU _ (by omega) (by omega))
                refine wa_iload 0 dX3_add_104 rfl ?_
                refine wa_bipush (36) dX3_add_106 (by decide) ?_
                refine wa_icmp_ge 131 dX3_add_108 rfl (fun c108 => ?_) (fun c108 => absurd (by decide) c108)
                refine wa_aload_n 2 dX3_add_131 rfl rfl ?_
                refine wa_getf dX3_add_132 gX3_9 kmN rfl ?_
                refine wa_iload 1 dX3_add_135 rfl ?_
                refine wc_isI (wr_S dX3_add_137 mX3_75 sp_mat rfl rfl rfl (Nat.le_of_ble_eq_true rfl)) ?_
                refine wa_iconst (0) dX3_add_140 (by decide) ?_
                refine wa_iadd dX3_add_141 ?_
                refine wa_iload_n 3 dX3_add_142 rfl rfl ?_
                rw [show nI (104 + 36 * rn) + 0 = nI (104 + 36 * rn) from Int32.add_zero _]
                refine wa_iast dX3_add_143 hgN (vp_in_nI (by omega) (by omega)) ?_
                rw [nI_clamp (by omega)]
                refine wa_aload_n 2 dX3_add_144 rfl rfl ?_
                refine wa_getf dX3_add_145 gX3_9 (kmN1 _) rfl ?_
                refine wa_iload 1 dX3_add_148 rfl ?_
                refine wc_isI (wr_S dX3_add_150 mX3_75 sp_mat rfl rfl rfl (Nat.le_of_ble_eq_true rfl)) ?_
                refine wa_iconst (1) dX3_add_153 (by decide) ?_
                refine wa_iadd dX3_add_154 ?_
                refine wa_iload_n 4 dX3_add_155 rfl rfl ?_
                rw [show nI (104 + 36 * rn) + 1 = nI (104 + 36 * rn + 1) from nI_1 _]
                refine wa_iast dX3_add_156 (w_set_self hgN) (vp_in_nI (by omega) (by omega)) ?_
                rw [nI_clamp (by omega)]
                refine wa_aload_n 2 dX3_add_157 rfl rfl ?_
                refine wa_getf dX3_add_158 gX3_9 (kmN2 _ _) rfl ?_
                refine wa_iload 1 dX3_add_161 rfl ?_
                refine wc_isI (wr_S dX3_add_163 mX3_75 sp_mat rfl rfl rfl (Nat.le_of_ble_eq_true rfl)) ?_
                refine wa_iconst (2) dX3_add_166 (by decide) ?_
                refine wa_iadd dX3_add_167 ?_
                refine wa_iconst (-1) dX3_add_168 (by decide) ?_
                rw [show nI (104 + 36 * rn) + 2 = nI (104 + 36 * rn + 2) from nI_add _ 2]
                refine wa_iast dX3_add_169 (w_set_self (w_set_self hgN)) (vp_in_nI (by omega) (by omega)) ?_
                rw [nI_clamp (by omega)]
                refine wa_aload_n 2 dX3_add_170 rfl rfl ?_
                refine wa_getf dX3_add_171 gX3_9 (kmN3 _ _ _) rfl ?_
                refine wa_iconst (3) dX3_add_174 (by decide) ?_
                refine wa_dup2 dX3_add_175 rfl rfl ?_
                refine wa_iald dX3_add_176 (w_set_self (w_set_self (w_set_self hgN))) (vp_in_nI (n := 3) (by omega) (by omega)) ?_
                rw [show upd (upd (upd f1 (104 + 36 * rn) (nI j)) (104 + 36 * rn + 1) v) (104 + 36 * rn + 2) (-1) (Int32.toNatClampNeg 3) = nI rn from (if_neg (by show ¬ 3 = _; omega)).trans ((if_neg (by show ¬ 3 = _; omega)).trans ((if_neg (by show ¬ 3 = _; omega)).trans h03))]
                refine wa_iconst (1) dX3_add_177 (by decide) ?_
                refine wa_iadd dX3_add_178 ?_
                rw [show nI rn + 1 = nI (rn + 1) from nI_1 _]
                refine wa_iast dX3_add_179 (w_set_self (w_set_self (w_set_self hgN))) (vp_in_nI (n := 3) (by omega) (by omega)) ?_
                rw [show Int32.toNatClampNeg 3 = 3 from rfl]
                refine wa_iload 1 dX3_add_180 rfl ?_
                refine wa_iret FieldType.int dX3_add_182 rfl rfl (Nat.le_of_ble_eq_true rfl) (Nat.le_of_ble_eq_true rfl) ?_
                exact ⟨_, rfl, ((w_fr.rf.set z_mEm).trans k1).trans (z_frE (hfN.me.me.me.me) (fun q e => by rw [e]; exact z_mEs)), rfl, (k2.row hfN.me.me.me.me (w_set_self (w_set_self (w_set_self (w_set_self hgN)))) hmr hgd).md⟩
              | succ n ih =>
                intro k N f1 hn hfN hgN hold hnew
                have kmN := hfN.2 _ _ km (by omega)
                refine wa_iload 0 dX3_add_104 rfl ?_
                refine wa_bipush (36) dX3_add_106 (by decide) ?_
                refine wa_icmp_ge 131 dX3_add_108 rfl (fun c108 => absurd c108 (nI_lt_not (b := 36) (by omega) (by decide))) (fun c108 => ?_)
                refine wa_aload_n 2 dX3_add_111 rfl rfl ?_
                refine wa_getf dX3_add_112 gX3_9 kmN rfl ?_
                refine wa_iload 1 dX3_add_115 rfl ?_
                refine wc_isI (wr_S dX3_add_117 mX3_75 sp_mat rfl rfl rfl (Nat.le_of_ble_eq_true rfl)) ?_
                refine wa_iload 0 dX3_add_120 rfl ?_
                refine wa_iadd dX3_add_122 ?_
                refine wa_iconst (0) dX3_add_123 (by decide) ?_
                rw [nI_add]
                refine wa_iast dX3_add_124 hgN (vp_in_nI (by omega) (by omega)) ?_
                rw [nI_clamp (by omega)]
                refine wa_iinc 0 [(5, _), (4, _), (0, _), (1, _), (2, _)] dX3_add_125 rfl (w_inc k) (Nat.le_of_ble_eq_true rfl) rfl ?_
                refine wa_goto 104 dX3_add_128 rfl ?_
                refine wa_locals [(5, _), (4, _), (0, _), (1, _), (2, _)] [0, 1, 2, 3, 4] rfl ?_
                refine ih (k + 1) _ _ (by omega) hfN.me (w_set_self hgN) (fun i hi => (if_neg (by omega)).trans (hold i hi)) (fun i hi => ?_)
                by_cases e : i = k
                · subst e; exact if_pos rfl
                · exact (if_neg (by omega)).trans (hnew i (by omega))
            exact LP 36 0 M90 f (Nat.zero_add _) w_fr.rf kf (fun i _ => rfl) (fun i hi => absurd hi (Nat.not_lt_zero _))
        ·
          have ea : z_addC (z_cur S) (nI j) v = .inr (4, nI j) := by unfold z_addC; rw [i1]; simp only [if_pos hv, if_neg h6, if_neg h4]
          rw [ea]
          refine w_start (by decide) (Nat.le_of_ble_eq_true rfl) (fun X => ?_)
          refine wa_locals [(0, _), (1, _), (2, _)] [0, 1, 2] rfl ?_
          refine wa_aload_n 0 dX3_add_0 rfl rfl ?_
          refine wa_iconst (0) dX3_add_1 (by decide) ?_
          refine wa_putf [_, _, _, _, _, _, _, _, _, _, _, _, _, _, _, _, _, _, _, _] dX3_add_2 pX3_49 hm (Nat.le_of_ble_eq_true rfl) rfl rfl rfl ?_
          refine wa_aload_n 0 dX3_add_5 rfl rfl ?_
          refine wa_iload_n 1 dX3_add_6 rfl rfl ?_
          refine wc_isI (wr_V dX3_add_7 mX3_86 (sp_misCellY H0 hr hs i1) hm0 rfl rfl rfl (Nat.le_of_ble_eq_true rfl)) ?_
          refine wa_if_ne 20 dX3_add_10 rfl (fun c10 => ?_) (fun c10 => absurd c10 (by decide))
          refine wa_iload_n 2 dX3_add_20 rfl rfl ?_
          refine wa_iconst (0) dX3_add_21 (by decide) ?_
          refine wa_bipush (99) dX3_add_22 (by decide) ?_
          refine wc_isI (wr_S dX3_add_24 mX3_71 (sp_mminY hv) rfl rfl rfl (Nat.le_of_ble_eq_true rfl)) ?_
          refine wa_if_ne 37 dX3_add_27 rfl (fun c27 => ?_) (fun c27 => absurd c27 (by decide))
          refine wa_aload_n 0 dX3_add_37 rfl rfl ?_
          refine wa_getf dX3_add_38 gX3_9 hm0 rfl ?_
          refine wa_iconst (3) dX3_add_41 (by decide) ?_
          refine wa_iald dX3_add_42 hf0 (vp_in_nI (n := 3) (by omega) (by omega)) ?_
          rw [hr.rn]
          refine wa_bipush (6) dX3_add_43 (by decide) ?_
          refine wa_icmp_ne 55 dX3_add_45 rfl (fun c45 => ?_) (fun c45 => absurd ((nI_eq (b := 6) (by omega) (by decide)).mp c45) h6)
          refine wa_aload_n 0 dX3_add_55 rfl rfl ?_
          refine wa_iload_n 1 dX3_add_56 rfl rfl ?_
          refine wc_isI (wr_V dX3_add_57 mX3_93 (sp_mcanEnter H0 hr hs hjl) hm0 rfl rfl rfl (Nat.le_of_ble_eq_true rfl)) ?_
          refine wa_if_ne 70 dX3_add_60 rfl (fun c60 => absurd (if_neg h4) c60) (fun c60 => ?_)
          refine wa_aload_n 0 dX3_add_63 rfl rfl ?_
          refine wa_iconst (4) dX3_add_64 (by decide) ?_
          refine wa_iload_n 1 dX3_add_65 rfl rfl ?_
          refine wc_I (wr_V dX3_add_66 mX3_90 (sp_mrefuse h0 (by decide)) hm0 rfl rfl rfl (Nat.le_of_ble_eq_true rfl)) (fun r66 M66 h66 => ?_)
          refine wa_iret FieldType.int dX3_add_69 rfl rfl (Nat.le_of_ble_eq_true rfl) (Nat.le_of_ble_eq_true rfl) ?_
          exact ⟨_, rfl, (w_fr.rf.set z_mEm).trans (z_frE h66.2.1 (fun q e => by rw [e]; exact z_mEm)), h66.2.2.md⟩
    ·
      have ea : z_addC (z_cur S) (nI j) v = .inr (2, 0) := by unfold z_addC; rw [i1]; simp only [if_neg hv]
      rw [ea]
      refine w_start (by decide) (Nat.le_of_ble_eq_true rfl) (fun X => ?_)
      refine wa_locals [(0, _), (1, _), (2, _)] [0, 1, 2] rfl ?_
      refine wa_aload_n 0 dX3_add_0 rfl rfl ?_
      refine wa_iconst (0) dX3_add_1 (by decide) ?_
      refine wa_putf [_, _, _, _, _, _, _, _, _, _, _, _, _, _, _, _, _, _, _, _] dX3_add_2 pX3_49 hm (Nat.le_of_ble_eq_true rfl) rfl rfl rfl ?_
      refine wa_aload_n 0 dX3_add_5 rfl rfl ?_
      refine wa_iload_n 1 dX3_add_6 rfl rfl ?_
      refine wc_isI (wr_V dX3_add_7 mX3_86 (sp_misCellY H0 hr hs i1) hm0 rfl rfl rfl (Nat.le_of_ble_eq_true rfl)) ?_
      refine wa_if_ne 20 dX3_add_10 rfl (fun c10 => ?_) (fun c10 => absurd c10 (by decide))
      refine wa_iload_n 2 dX3_add_20 rfl rfl ?_
      refine wa_iconst (0) dX3_add_21 (by decide) ?_
      refine wa_bipush (99) dX3_add_22 (by decide) ?_
      refine wc_isI (wr_S dX3_add_24 mX3_71 (sp_mminZ hv) rfl rfl rfl (Nat.le_of_ble_eq_true rfl)) ?_
      refine wa_if_ne 37 dX3_add_27 rfl (fun c27 => absurd (by decide) c27) (fun c27 => ?_)
      refine wa_aload_n 0 dX3_add_30 rfl rfl ?_
      refine wa_iconst (2) dX3_add_31 (by decide) ?_
      refine wa_iconst (0) dX3_add_32 (by decide) ?_
      refine wc_I (wr_V dX3_add_33 mX3_90 (sp_mrefuse h0 (by decide)) hm0 rfl rfl rfl (Nat.le_of_ble_eq_true rfl)) (fun r33 M33 h33 => ?_)
      refine wa_iret FieldType.int dX3_add_36 rfl rfl (Nat.le_of_ble_eq_true rfl) (Nat.le_of_ble_eq_true rfl) ?_
      exact ⟨_, rfl, (w_fr.rf.set z_mEm).trans (z_frE h33.2.1 (fun q e => by rw [e]; exact z_mEm)), h33.2.2.md⟩
end MO
