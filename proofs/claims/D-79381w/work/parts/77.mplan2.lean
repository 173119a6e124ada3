/-! ===== the Model's plan, and when a robot can arrive ===== -/
set_option maxRecDepth 100000
section MA
variable {b : Nat} {M N : w_M} {m : Nat} {S : z_S} {th : Int32} {l : Launch} {G : w_G}
theorem z_fr5 {M N : w_M} {m : Nat} (h : w_fr M N (fun q => q = m + 5)) : w_fr M N (z_mE m) := z_frE h (fun q e => by rw [e]; exact ⟨by omega, by omega⟩)
theorem z_fr67 {M N : w_M} {m : Nat} (h : w_fr M N (fun q => q = m + 6 ∨ q = m + 7)) : w_fr M N (z_mE m) := z_frE h (fun q e => e.elim (fun e => by rw [e]; exact ⟨by omega, by omega⟩) (fun e => by rw [e]; exact ⟨by omega, by omega⟩))
theorem z_hor_le {b : Nat} {c : z_C} (h : z_good b c) : z_hor c ≤ 30 := by
  have hsets := h.2.2.2.1.2.2
  obtain ⟨Hh, hH, hHe⟩ := nI_of (x := z_sets c 2) (Int32.not_lt.mpr (Int32.le_trans (by decide) hsets.1))
  unfold z_hor
  rw [hHe, nI_clamp hH]
  rw [hHe] at hsets
  exact (nI_leI (b := 30) hH (by decide)).mp hsets.2
theorem sp_mplan (h : z_mod b M m S th) {x y : Int32} : w_S l G tX3_plan (8, 0, 0) [.ref m, .int x, .int y] M (z_mO b M m S (z_planC (z_cur S) x y)) := by
  obtain ⟨is, rr, rc, f, sv, pf, ip, h⟩ := h
  obtain ⟨hm, hf, -⟩ := id h
  have H := h.mh
  have hr := h.mr
  have hg := h.gd
  have hs := hg.1
  have hh := hg.2.2.2.2.2.2.2
  have hsz := hs.size
  have hR6 : (z_robs (z_cur S)).length ≤ 6 := hs.2.2.2.2.1
  have hO10 : (z_ords (z_cur S)).length ≤ 10 := hs.2.2.2.2.2.1
  have h0 := h.thr 0
  have H0 := h0.mh
  have hm0 := h0.1
  have hf0 := h0.2.1
  cases i1 : z_idx x (z_robs (z_cur S)).length with
  | none =>
    have ea : z_planC (z_cur S) x y = .inr (1, 0) := by unfold z_planC; rw [i1]
    rw [ea]
    refine w_start (by decide) (Nat.le_of_ble_eq_true rfl) (fun X => ?_)
    refine wa_locals [(0, _), (1, _), (2, _)] [0, 1, 2] rfl ?_
    refine wa_aload_n 0 dX3_plan_0 rfl rfl ?_
    refine wa_iconst (0) dX3_plan_1 (by decide) ?_
    refine wa_putf [_, _, _, _, _, _, _, _, _, _, _, _, _, _, _, _, _, _, _, _] dX3_plan_2 pX3_49 hm (Nat.le_of_ble_eq_true rfl) rfl rfl rfl ?_
    refine wa_aload_n 0 dX3_plan_5 rfl rfl ?_
    refine wa_iload_n 1 dX3_plan_6 rfl rfl ?_
    refine wc_isI (wr_V dX3_plan_7 mX3_103 (sp_misRobotZ H0 hr hs i1) hm0 rfl rfl rfl (Nat.le_of_ble_eq_true rfl)) ?_
    refine wa_if_eq 21 dX3_plan_10 rfl (fun c10 => ?_) (fun c10 => absurd (by decide) c10)
    refine wa_aload_n 0 dX3_plan_21 rfl rfl ?_
    refine wa_iconst (1) dX3_plan_22 (by decide) ?_
    refine wa_iconst (0) dX3_plan_23 (by decide) ?_
    refine wc_I (wr_V dX3_plan_24 mX3_90 (sp_mrefuse h0 (by decide)) hm0 rfl rfl rfl (Nat.le_of_ble_eq_true rfl)) (fun r24 M24 h24 => ?_)
    refine wa_iret FieldType.int dX3_plan_27 rfl rfl (Nat.le_of_ble_eq_true rfl) (Nat.le_of_ble_eq_true rfl) ?_
    exact ⟨_, rfl, (w_fr.rf.set z_mEm).trans (z_frE h24.2.1 (fun q e => by rw [e]; exact z_mEm)), h24.2.2.md⟩
  | some k =>
    cases i2 : z_idx y (z_size (z_cur S)) with
    | none =>
      have ea : z_planC (z_cur S) x y = .inr (1, 0) := by unfold z_planC; rw [i1, i2]
      rw [ea]
      refine w_start (by decide) (Nat.le_of_ble_eq_true rfl) (fun X => ?_)
      refine wa_locals [(0, _), (1, _), (2, _)] [0, 1, 2] rfl ?_
      refine wa_aload_n 0 dX3_plan_0 rfl rfl ?_
      refine wa_iconst (0) dX3_plan_1 (by decide) ?_
      refine wa_putf [_, _, _, _, _, _, _, _, _, _, _, _, _, _, _, _, _, _, _, _] dX3_plan_2 pX3_49 hm (Nat.le_of_ble_eq_true rfl) rfl rfl rfl ?_
      refine wa_aload_n 0 dX3_plan_5 rfl rfl ?_
      refine wa_iload_n 1 dX3_plan_6 rfl rfl ?_
      refine wc_isI (wr_V dX3_plan_7 mX3_103 (sp_misRobotY H0 hr hs i1) hm0 rfl rfl rfl (Nat.le_of_ble_eq_true rfl)) ?_
      refine wa_if_eq 21 dX3_plan_10 rfl (fun c10 => absurd c10 (by decide)) (fun c10 => ?_)
      refine wa_aload_n 0 dX3_plan_13 rfl rfl ?_
      refine wa_iload_n 2 dX3_plan_14 rfl rfl ?_
      refine wc_isI (wr_V dX3_plan_15 mX3_86 (sp_misCellZ H0 hr hs i2) hm0 rfl rfl rfl (Nat.le_of_ble_eq_true rfl)) ?_
      refine wa_if_ne 28 dX3_plan_18 rfl (fun c18 => absurd (by decide) c18) (fun c18 => ?_)
      refine wa_aload_n 0 dX3_plan_21 rfl rfl ?_
      refine wa_iconst (1) dX3_plan_22 (by decide) ?_
      refine wa_iconst (0) dX3_plan_23 (by decide) ?_
      refine wc_I (wr_V dX3_plan_24 mX3_90 (sp_mrefuse h0 (by decide)) hm0 rfl rfl rfl (Nat.le_of_ble_eq_true rfl)) (fun r24 M24 h24 => ?_)
      refine wa_iret FieldType.int dX3_plan_27 rfl rfl (Nat.le_of_ble_eq_true rfl) (Nat.le_of_ble_eq_true rfl) ?_
      exact ⟨_, rfl, (w_fr.rf.set z_mEm).trans (z_frE h24.2.1 (fun q e => by rw [e]; exact z_mEm)), h24.2.2.md⟩
    | some g =>
      have hkl := z_idx_lt (by omega) i1
      have e1 := z_idx_eq (by omega) i1
      subst e1
      have hk6 : k < 6 := by omega
      obtain ⟨r, hk⟩ : ∃ r, (z_robs (z_cur S))[k]? = some r := ⟨_, List.getElem?_eq_getElem hkl⟩
      obtain ⟨q1, q2, q3, q4, q5, q6, q7⟩ := hr.rob hk
      obtain ⟨hrc, hrp, hp30, hrh⟩ := hs.2.2.2.2.2.2.1 r (List.mem_of_getElem? hk)
      have hgs := z_idx_lt (by omega) i2
      have e2 := z_idx_eq (by omega) i2
      subst e2
      have hH30 := z_hor_le hg
      by_cases hpn : z_plan r = []
      ·
        by_cases h9 : z_cell r = g
        ·
          have ea : z_planC (z_cur S) (nI k) (nI g) = .inr (9, 0) := by unfold z_planC; rw [i1, i2]; simp only [hk, if_pos hpn, if_pos h9]
          rw [ea]
          refine w_start (by decide) (Nat.le_of_ble_eq_true rfl) (fun X => ?_)
          refine wa_locals [(0, _), (1, _), (2, _)] [0, 1, 2] rfl ?_
          refine wa_aload_n 0 dX3_plan_0 rfl rfl ?_
          refine wa_iconst (0) dX3_plan_1 (by decide) ?_
          refine wa_putf [_, _, _, _, _, _, _, _, _, _, _, _, _, _, _, _, _, _, _, _] dX3_plan_2 pX3_49 hm (Nat.le_of_ble_eq_true rfl) rfl rfl rfl ?_
          refine wa_aload_n 0 dX3_plan_5 rfl rfl ?_
          refine wa_iload_n 1 dX3_plan_6 rfl rfl ?_
          refine wc_isI (wr_V dX3_plan_7 mX3_103 (sp_misRobotY H0 hr hs i1) hm0 rfl rfl rfl (Nat.le_of_ble_eq_true rfl)) ?_
          refine wa_if_eq 21 dX3_plan_10 rfl (fun c10 => absurd c10 (by decide)) (fun c10 => ?_)
          refine wa_aload_n 0 dX3_plan_13 rfl rfl ?_
          refine wa_iload_n 2 dX3_plan_14 rfl rfl ?_
          refine wc_isI (wr_V dX3_plan_15 mX3_86 (sp_misCellY H0 hr hs i2) hm0 rfl rfl rfl (Nat.le_of_ble_eq_true rfl)) ?_
          refine wa_if_ne 28 dX3_plan_18 rfl (fun c18 => ?_) (fun c18 => absurd c18 (by decide))
          refine wa_aload_n 0 dX3_plan_28 rfl rfl ?_
          refine wa_iload_n 1 dX3_plan_29 rfl rfl ?_
          refine wa_iconst (3) dX3_plan_30 (by decide) ?_
          refine wc_isI (wr_V dX3_plan_31 mX3_79 (sp_mof H0 hk6 (w := 3) (by decide)) hm0 rfl rfl rfl (Nat.le_of_ble_eq_true rfl)) ?_
          rw [q4, hpn]
          rw [show nI ([] : List Nat).length = 0 from rfl]
          refine wa_if_le 50 dX3_plan_34 rfl (fun c34 => ?_) (fun c34 => absurd (by decide) c34)
          refine wa_aload_n 0 dX3_plan_50 rfl rfl ?_
          refine wa_iload_n 1 dX3_plan_51 rfl rfl ?_
          refine wa_iconst (0) dX3_plan_52 (by decide) ?_
          refine wc_isI (wr_V dX3_plan_53 mX3_79 (sp_mof H0 hk6 (w := 0) (by decide)) hm0 rfl rfl rfl (Nat.le_of_ble_eq_true rfl)) ?_
          rw [show f (104 + 36 * k + 0) = nI (z_cell r) from q1]
          refine wa_iload_n 2 dX3_plan_56 rfl rfl ?_
          refine wa_icmp_ne 68 dX3_plan_57 rfl (fun c57 => absurd (congrArg nI h9) c57) (fun c57 => ?_)
          refine wa_aload_n 0 dX3_plan_60 rfl rfl ?_
          refine wa_bipush (9) dX3_plan_61 (by decide) ?_
          refine wa_iconst (0) dX3_plan_63 (by decide) ?_
          refine wc_I (wr_V dX3_plan_64 mX3_90 (sp_mrefuse h0 (by decide)) hm0 rfl rfl rfl (Nat.le_of_ble_eq_true rfl)) (fun r64 M64 h64 => ?_)
          refine wa_iret FieldType.int dX3_plan_67 rfl rfl (Nat.le_of_ble_eq_true rfl) (Nat.le_of_ble_eq_true rfl) ?_
          exact ⟨_, rfl, (w_fr.rf.set z_mEm).trans (z_frE h64.2.1 (fun q e => by rw [e]; exact z_mEm)), h64.2.2.md⟩
        ·
          by_cases h4 : z_free (z_cur S) g = true
          ·
            cases hfi : z_first (z_cur S) k (z_cell r) g (z_hor (z_cur S)) 0 with
            | none =>
              have ea : z_planC (z_cur S) (nI k) (nI g) = .inr (10, 0) := by unfold z_planC; rw [i1, i2]; simp only [hk, if_pos hpn, if_neg h9, if_pos h4, hfi]
              rw [ea]
              refine w_start (by decide) (Nat.le_of_ble_eq_true rfl) (fun X => ?_)
              refine wa_locals [(0, _), (1, _), (2, _)] [0, 1, 2] rfl ?_
              refine wa_aload_n 0 dX3_plan_0 rfl rfl ?_
              refine wa_iconst (0) dX3_plan_1 (by decide) ?_
              refine wa_putf [_, _, _, _, _, _, _, _, _, _, _, _, _, _, _, _, _, _, _, _] dX3_plan_2 pX3_49 hm (Nat.le_of_ble_eq_true rfl) rfl rfl rfl ?_
              refine wa_aload_n 0 dX3_plan_5 rfl rfl ?_
              refine wa_iload_n 1 dX3_plan_6 rfl rfl ?_
              refine wc_isI (wr_V dX3_plan_7 mX3_103 (sp_misRobotY H0 hr hs i1) hm0 rfl rfl rfl (Nat.le_of_ble_eq_true rfl)) ?_
              refine wa_if_eq 21 dX3_plan_10 rfl (fun c10 => absurd c10 (by decide)) (fun c10 => ?_)
              refine wa_aload_n 0 dX3_plan_13 rfl rfl ?_
              refine wa_iload_n 2 dX3_plan_14 rfl rfl ?_
              refine wc_isI (wr_V dX3_plan_15 mX3_86 (sp_misCellY H0 hr hs i2) hm0 rfl rfl rfl (Nat.le_of_ble_eq_true rfl)) ?_
              refine wa_if_ne 28 dX3_plan_18 rfl (fun c18 => ?_) (fun c18 => absurd c18 (by decide))
              refine wa_aload_n 0 dX3_plan_28 rfl rfl ?_
              refine wa_iload_n 1 dX3_plan_29 rfl rfl ?_
              refine wa_iconst (3) dX3_plan_30 (by decide) ?_
              refine wc_isI (wr_V dX3_plan_31 mX3_79 (sp_mof H0 hk6 (w := 3) (by decide)) hm0 rfl rfl rfl (Nat.le_of_ble_eq_true rfl)) ?_
              rw [q4, hpn]
              rw [show nI ([] : List Nat).length = 0 from rfl]
              refine wa_if_le 50 dX3_plan_34 rfl (fun c34 => ?_) (fun c34 => absurd (by decide) c34)
              refine wa_aload_n 0 dX3_plan_50 rfl rfl ?_
              refine wa_iload_n 1 dX3_plan_51 rfl rfl ?_
              refine wa_iconst (0) dX3_plan_52 (by decide) ?_
              refine wc_isI (wr_V dX3_plan_53 mX3_79 (sp_mof H0 hk6 (w := 0) (by decide)) hm0 rfl rfl rfl (Nat.le_of_ble_eq_true rfl)) ?_
              rw [show f (104 + 36 * k + 0) = nI (z_cell r) from q1]
              refine wa_iload_n 2 dX3_plan_56 rfl rfl ?_
              refine wa_icmp_ne 68 dX3_plan_57 rfl (fun c57 => ?_) (fun c57 => absurd ((nI_eq (by omega) (by omega)).mp c57) h9)
              refine wa_aload_n 0 dX3_plan_68 rfl rfl ?_
              refine wa_iload_n 2 dX3_plan_69 rfl rfl ?_
              refine wc_isI (wr_V dX3_plan_70 mX3_93 (sp_mcanEnter H0 hr hs hgs) hm0 rfl rfl rfl (Nat.le_of_ble_eq_true rfl)) ?_
              refine wa_if_ne 83 dX3_plan_73 rfl (fun c73 => ?_) (fun c73 => absurd (c73.symm.trans (if_pos h4)) (by decide))
              refine wa_aload_n 0 dX3_plan_83 rfl rfl ?_
              refine wa_iload_n 1 dX3_plan_84 rfl rfl ?_
              refine wa_iload_n 2 dX3_plan_85 rfl rfl ?_
              refine wc_I (wr_V dX3_plan_86 mX3_142 (sp_mfewest h0 hk hgs) hm0 rfl rfl rfl (Nat.le_of_ble_eq_true rfl)) (fun r86 M86 h86 => ?_)
              obtain ⟨g1, g2, g3⟩ := h86
              rw [hfi] at g1
              subst g1
              refine wa_istore_n [(3, _), (0, _), (1, _), (2, _)] dX3_plan_89 rfl (Nat.le_of_ble_eq_true rfl) rfl ?_
              refine wa_iload_n 0 dX3_plan_90 rfl rfl ?_
              refine wa_if_ge 102 dX3_plan_91 rfl (fun c91 => absurd c91 (by decide)) (fun c91 => ?_)
              refine wa_aload_n 1 dX3_plan_94 rfl rfl ?_
              refine wa_bipush (10) dX3_plan_95 (by decide) ?_
              refine wa_iconst (0) dX3_plan_97 (by decide) ?_
              refine wc_I (wr_V dX3_plan_98 mX3_90 (sp_mrefuse g3 (by decide)) g3.1 rfl rfl rfl (Nat.le_of_ble_eq_true rfl)) (fun r98 M98 h98 => ?_)
              refine wa_iret FieldType.int dX3_plan_101 rfl rfl (Nat.le_of_ble_eq_true rfl) (Nat.le_of_ble_eq_true rfl) ?_
              exact ⟨_, rfl, ((w_fr.rf.set z_mEm).trans (z_fr5 g2)).trans (z_frE h98.2.1 (fun q e => by rw [e]; exact z_mEm)), h98.2.2.md⟩
            | some u =>
              obtain ⟨-, huH, hend, -⟩ := z_first_at _ _ _ hfi
              have hend : z_hasEnd (z_cur S) k (z_cell r) g (u + 1 - 1) = true := hend
              have hu1 : ((Option.some u).map (· + 1)) = some (u + 1) := rfl
              by_cases hld : z_loaded (z_cur S) r = true
              ·
                by_cases hbt : z_batt r < ((z_sets (z_cur S) 1) * nI (z_stepsN (z_cell r) (z_trail (z_cur S) k (z_cell r) g (u + 1) (u + 1) 0 (z_cell r))))
                ·
                  have ea : z_planC (z_cur S) (nI k) (nI g) = .inr (11, ((z_sets (z_cur S) 1) * nI (z_stepsN (z_cell r) (z_trail (z_cur S) k (z_cell r) g (u + 1) (u + 1) 0 (z_cell r))))) := by unfold z_planC; rw [i1, i2]; simp only [hk, if_pos hpn, if_neg h9, if_pos h4, hfi, if_pos hld, if_pos hbt]
                  rw [ea]
                  refine w_start (by decide) (Nat.le_of_ble_eq_true rfl) (fun X => ?_)
                  refine wa_locals [(0, _), (1, _), (2, _)] [0, 1, 2] rfl ?_
                  refine wa_aload_n 0 dX3_plan_0 rfl rfl ?_
                  refine wa_iconst (0) dX3_plan_1 (by decide) ?_
                  refine wa_putf [_, _, _, _, _, _, _, _, _, _, _, _, _, _, _, _, _, _, _, _] dX3_plan_2 pX3_49 hm (Nat.le_of_ble_eq_true rfl) rfl rfl rfl ?_
                  refine wa_aload_n 0 dX3_plan_5 rfl rfl ?_
                  refine wa_iload_n 1 dX3_plan_6 rfl rfl ?_
                  refine wc_isI (wr_V dX3_plan_7 mX3_103 (sp_misRobotY H0 hr hs i1) hm0 rfl rfl rfl (Nat.le_of_ble_eq_true rfl)) ?_
                  refine wa_if_eq 21 dX3_plan_10 rfl (fun c10 => absurd c10 (by decide)) (fun c10 => ?_)
                  refine wa_aload_n 0 dX3_plan_13 rfl rfl ?_
                  refine wa_iload_n 2 dX3_plan_14 rfl rfl ?_
                  refine wc_isI (wr_V dX3_plan_15 mX3_86 (sp_misCellY H0 hr hs i2) hm0 rfl rfl rfl (Nat.le_of_ble_eq_true rfl)) ?_
                  refine wa_if_ne 28 dX3_plan_18 rfl (fun c18 => ?_) (fun c18 => absurd c18 (by decide))
                  refine wa_aload_n 0 dX3_plan_28 rfl rfl ?_
                  refine wa_iload_n 1 dX3_plan_29 rfl rfl ?_
                  refine wa_iconst (3) dX3_plan_30 (by decide) ?_
                  refine wc_isI (wr_V dX3_plan_31 mX3_79 (sp_mof H0 hk6 (w := 3) (by decide)) hm0 rfl rfl rfl (Nat.le_of_ble_eq_true rfl)) ?_
                  rw [q4, hpn]
                  rw [show nI ([] : List Nat).length = 0 from rfl]
                  refine wa_if_le 50 dX3_plan_34 rfl (fun c34 => ?_) (fun c34 => absurd (by decide) c34)
                  refine wa_aload_n 0 dX3_plan_50 rfl rfl ?_
                  refine wa_iload_n 1 dX3_plan_51 rfl rfl ?_
                  refine wa_iconst (0) dX3_plan_52 (by decide) ?_
                  refine wc_isI (wr_V dX3_plan_53 mX3_79 (sp_mof H0 hk6 (w := 0) (by decide)) hm0 rfl rfl rfl (Nat.le_of_ble_eq_true rfl)) ?_
                  rw [show f (104 + 36 * k + 0) = nI (z_cell r) from q1]
                  refine wa_iload_n 2 dX3_plan_56 rfl rfl ?_
                  refine wa_icmp_ne 68 dX3_plan_57 rfl (fun c57 => ?_) (fun c57 => absurd ((nI_eq (by omega) (by omega)).mp c57) h9)
                  refine wa_aload_n 0 dX3_plan_68 rfl rfl ?_
                  refine wa_iload_n 2 dX3_plan_69 rfl rfl ?_
                  refine wc_isI (wr_V dX3_plan_70 mX3_93 (sp_mcanEnter H0 hr hs hgs) hm0 rfl rfl rfl (Nat.le_of_ble_eq_true rfl)) ?_
                  refine wa_if_ne 83 dX3_plan_73 rfl (fun c73 => ?_) (fun c73 => absurd (c73.symm.trans (if_pos h4)) (by decide))
                  refine wa_aload_n 0 dX3_plan_83 rfl rfl ?_
                  refine wa_iload_n 1 dX3_plan_84 rfl rfl ?_
                  refine wa_iload_n 2 dX3_plan_85 rfl rfl ?_
                  refine wc_I (wr_V dX3_plan_86 mX3_142 (sp_mfewest h0 hk hgs) hm0 rfl rfl rfl (Nat.le_of_ble_eq_true rfl)) (fun r86 M86 h86 => ?_)
                  obtain ⟨g1, g2, g3⟩ := h86
                  rw [hfi] at g1
                  have g1 : r86 = nI (u + 1) := g1
                  subst g1
                  have n1 := g3.1
                  have n2 := g3.2.1
                  have N1 := g3.mh
                  refine wa_istore_n [(3, _), (0, _), (1, _), (2, _)] dX3_plan_89 rfl (Nat.le_of_ble_eq_true rfl) rfl ?_
                  refine wa_iload_n 0 dX3_plan_90 rfl rfl ?_
                  refine wa_if_ge 102 dX3_plan_91 rfl (fun c91 => ?_) (fun c91 => absurd (Int32.not_lt.mp (nI_pos (by omega))) c91)
                  refine wa_aload_n 1 dX3_plan_102 rfl rfl ?_
                  refine wa_iload_n 2 dX3_plan_103 rfl rfl ?_
                  refine wc_isI (wr_V dX3_plan_104 mX3_145 (sp_misLoaded N1 hr hs hk) n1 rfl rfl rfl (Nat.le_of_ble_eq_true rfl)) ?_
                  refine wa_if_eq 120 dX3_plan_107 rfl (fun c107 => absurd c107 (by rw [if_pos hld]; decide)) (fun c107 => ?_)
                  refine wa_aload_n 1 dX3_plan_110 rfl rfl ?_
                  refine wa_getf dX3_plan_111 gX3_9 n1 rfl ?_
                  refine wa_bipush (6) dX3_plan_114 (by decide) ?_
                  refine wa_iald dX3_plan_116 n2 (vp_in_nI (n := 6) (by omega) (by omega)) ?_
                  rw [show f (Int32.toNatClampNeg 6) = z_sets (z_cur S) 1 from hr.2.1 1 (by decide)]
                  refine wa_goto 121 dX3_plan_117 rfl ?_
                  refine wa_istore [(4, _), (3, _), (0, _), (1, _), (2, _)] dX3_plan_121 (Nat.le_of_ble_eq_true rfl) rfl ?_
                  refine wa_iload 0 dX3_plan_123 rfl ?_
                  refine wa_aload_n 2 dX3_plan_125 rfl rfl ?_
                  refine wa_iload_n 3 dX3_plan_126 rfl rfl ?_
                  refine wa_iload_n 4 dX3_plan_127 rfl rfl ?_
                  refine wa_iload_n 1 dX3_plan_128 rfl rfl ?_
                  refine wc_I (wr_V dX3_plan_129 mX3_148 (sp_mfindPath g3 hk hgs (T := u + 1) (by omega) (by omega) hend) n1 rfl rfl rfl (Nat.le_of_ble_eq_true rfl)) (fun r129 M129 h129 => ?_)
                  obtain ⟨j1, j2, j3, pa, j4, j5⟩ := h129
                  subst j1
                  have o1 := j3.1
                  have O1 := j3.mh
                  refine wa_imul dX3_plan_132 ?_
                  refine wa_istore [(5, _), (4, _), (3, _), (0, _), (1, _), (2, _)] dX3_plan_133 (Nat.le_of_ble_eq_true rfl) rfl ?_
                  refine wa_aload_n 3 dX3_plan_135 rfl rfl ?_
                  refine wa_iload_n 4 dX3_plan_136 rfl rfl ?_
                  refine wa_iconst (1) dX3_plan_137 (by decide) ?_
                  refine wc_isI (wr_V dX3_plan_138 mX3_79 (sp_mof O1 hk6 (w := 1) (by decide)) o1 rfl rfl rfl (Nat.le_of_ble_eq_true rfl)) ?_
                  rw [q2]
                  refine wa_iload 0 dX3_plan_141 rfl ?_
                  refine wa_icmp_ge 155 dX3_plan_143 rfl (fun c143 => absurd hbt (Int32.not_lt.mpr c143)) (fun c143 => ?_)
                  refine wa_aload_n 3 dX3_plan_146 rfl rfl ?_
                  refine wa_bipush (11) dX3_plan_147 (by decide) ?_
                  refine wa_iload 0 dX3_plan_149 rfl ?_
                  refine wc_I (wr_V dX3_plan_151 mX3_90 (sp_mrefuse j3 (by decide)) o1 rfl rfl rfl (Nat.le_of_ble_eq_true rfl)) (fun r151 M151 h151 => ?_)
                  refine wa_iret FieldType.int dX3_plan_154 rfl rfl (Nat.le_of_ble_eq_true rfl) (Nat.le_of_ble_eq_true rfl) ?_
                  exact ⟨_, rfl, ((((w_fr.rf.set z_mEm).trans (z_fr5 g2)).trans (z_fr67 j2))).trans (z_frE h151.2.1 (fun q e => by rw [e]; exact z_mEm)), h151.2.2.md⟩
                ·
                  have hgd := hg.plan (w := (z_sets (z_cur S) 1)) hk hH30 hfi
                  have hlen : (z_trail (z_cur S) k (z_cell r) g (u + 1) (u + 1) 0 (z_cell r)).length = u + 1 := z_trail_len (u + 1) 0 (z_cell r) (by omega) (z_gd_start (by omega) hend)
                  have ea : z_planC (z_cur S) (nI k) (nI g) = .inl (nI (u + 1), z_setR (z_cur S) ((z_robs (z_cur S)).set k (z_planR r (z_trail (z_cur S) k (z_cell r) g (u + 1) (u + 1) 0 (z_cell r)) (z_sets (z_cur S) 1)))) := by unfold z_planC; rw [i1, i2]; simp only [hk, if_pos hpn, if_neg h9, if_pos h4, hfi, if_pos hld, if_neg hbt]
                  rw [ea]
                  refine w_start (by decide) (Nat.le_of_ble_eq_true rfl) (fun X => ?_)
                  refine wa_locals [(0, _), (1, _), (2, _)] [0, 1, 2] rfl ?_
                  refine wa_aload_n 0 dX3_plan_0 rfl rfl ?_
                  refine wa_iconst (0) dX3_plan_1 (by decide) ?_
                  refine wa_putf [_, _, _, _, _, _, _, _, _, _, _, _, _, _, _, _, _, _, _, _] dX3_plan_2 pX3_49 hm (Nat.le_of_ble_eq_true rfl) rfl rfl rfl ?_
                  refine wa_aload_n 0 dX3_plan_5 rfl rfl ?_
                  refine wa_iload_n 1 dX3_plan_6 rfl rfl ?_
                  refine wc_isI (wr_V dX3_plan_7 mX3_103 (sp_misRobotY H0 hr hs i1) hm0 rfl rfl rfl (Nat.le_of_ble_eq_true rfl)) ?_
                  refine wa_if_eq 21 dX3_plan_10 rfl (fun c10 => absurd c10 (by decide)) (fun c10 => ?_)
                  refine wa_aload_n 0 dX3_plan_13 rfl rfl ?_
                  refine wa_iload_n 2 dX3_plan_14 rfl rfl ?_
                  refine wc_isI (wr_V dX3_plan_15 mX3_86 (sp_misCellY H0 hr hs i2) hm0 rfl rfl rfl (Nat.le_of_ble_eq_true rfl)) ?_
                  refine wa_if_ne 28 dX3_plan_18 rfl (fun c18 => ?_) (fun c18 => absurd c18 (by decide))
                  refine wa_aload_n 0 dX3_plan_28 rfl rfl ?_
                  refine wa_iload_n 1 dX3_plan_29 rfl rfl ?_
                  refine wa_iconst (3) dX3_plan_30 (by decide) ?_
                  refine wc_isI (wr_V dX3_plan_31 mX3_79 (sp_mof H0 hk6 (w := 3) (by decide)) hm0 rfl rfl rfl (Nat.le_of_ble_eq_true rfl)) ?_
                  rw [q4, hpn]
                  rw [show nI ([] : List Nat).length = 0 from rfl]
                  refine wa_if_le 50 dX3_plan_34 rfl (fun c34 => ?_) (fun c34 => absurd (by decide) c34)
                  refine wa_aload_n 0 dX3_plan_50 rfl rfl ?_
                  refine wa_iload_n 1 dX3_plan_51 rfl rfl ?_
                  refine wa_iconst (0) dX3_plan_52 (by decide) ?_
                  refine wc_isI (wr_V dX3_plan_53 mX3_79 (sp_mof H0 hk6 (w := 0) (by decide)) hm0 rfl rfl rfl (Nat.le_of_ble_eq_true rfl)) ?_
                  rw [show f (104 + 36 * k + 0) = nI (z_cell r) from q1]
                  refine wa_iload_n 2 dX3_plan_56 rfl rfl ?_
                  refine wa_icmp_ne 68 dX3_plan_57 rfl (fun c57 => ?_) (fun c57 => absurd ((nI_eq (by omega) (by omega)).mp c57) h9)
                  refine wa_aload_n 0 dX3_plan_68 rfl rfl ?_
                  refine wa_iload_n 2 dX3_plan_69 rfl rfl ?_
                  refine wc_isI (wr_V dX3_plan_70 mX3_93 (sp_mcanEnter H0 hr hs hgs) hm0 rfl rfl rfl (Nat.le_of_ble_eq_true rfl)) ?_
                  refine wa_if_ne 83 dX3_plan_73 rfl (fun c73 => ?_) (fun c73 => absurd (c73.symm.trans (if_pos h4)) (by decide))
                  refine wa_aload_n 0 dX3_plan_83 rfl rfl ?_
                  refine wa_iload_n 1 dX3_plan_84 rfl rfl ?_
                  refine wa_iload_n 2 dX3_plan_85 rfl rfl ?_
                  refine wc_I (wr_V dX3_plan_86 mX3_142 (sp_mfewest h0 hk hgs) hm0 rfl rfl rfl (Nat.le_of_ble_eq_true rfl)) (fun r86 M86 h86 => ?_)
                  obtain ⟨g1, g2, g3⟩ := h86
                  rw [hfi] at g1
                  have g1 : r86 = nI (u + 1) := g1
                  subst g1
                  have n1 := g3.1
                  have n2 := g3.2.1
                  have N1 := g3.mh
                  refine wa_istore_n [(3, _), (0, _), (1, _), (2, _)] dX3_plan_89 rfl (Nat.le_of_ble_eq_true rfl) rfl ?_
                  refine wa_iload_n 0 dX3_plan_90 rfl rfl ?_
                  refine wa_if_ge 102 dX3_plan_91 rfl (fun c91 => ?_) (fun c91 => absurd (Int32.not_lt.mp (nI_pos (by omega))) c91)
                  refine wa_aload_n 1 dX3_plan_102 rfl rfl ?_
                  refine wa_iload_n 2 dX3_plan_103 rfl rfl ?_
                  refine wc_isI (wr_V dX3_plan_104 mX3_145 (sp_misLoaded N1 hr hs hk) n1 rfl rfl rfl (Nat.le_of_ble_eq_true rfl)) ?_
                  refine wa_if_eq 120 dX3_plan_107 rfl (fun c107 => absurd c107 (by rw [if_pos hld]; decide)) (fun c107 => ?_)
                  refine wa_aload_n 1 dX3_plan_110 rfl rfl ?_
                  refine wa_getf dX3_plan_111 gX3_9 n1 rfl ?_
                  refine wa_bipush (6) dX3_plan_114 (by decide) ?_
                  refine wa_iald dX3_plan_116 n2 (vp_in_nI (n := 6) (by omega) (by omega)) ?_
                  rw [show f (Int32.toNatClampNeg 6) = z_sets (z_cur S) 1 from hr.2.1 1 (by decide)]
                  refine wa_goto 121 dX3_plan_117 rfl ?_
                  refine wa_istore [(4, _), (3, _), (0, _), (1, _), (2, _)] dX3_plan_121 (Nat.le_of_ble_eq_true rfl) rfl ?_
                  refine wa_iload 0 dX3_plan_123 rfl ?_
                  refine wa_aload_n 2 dX3_plan_125 rfl rfl ?_
                  refine wa_iload_n 3 dX3_plan_126 rfl rfl ?_
                  refine wa_iload_n 4 dX3_plan_127 rfl rfl ?_
                  refine wa_iload_n 1 dX3_plan_128 rfl rfl ?_
                  refine wc_I (wr_V dX3_plan_129 mX3_148 (sp_mfindPath g3 hk hgs (T := u + 1) (by omega) (by omega) hend) n1 rfl rfl rfl (Nat.le_of_ble_eq_true rfl)) (fun r129 M129 h129 => ?_)
                  obtain ⟨j1, j2, j3, pa, j4, j5⟩ := h129
                  subst j1
                  have o1 := j3.1
                  have O1 := j3.mh
                  refine wa_imul dX3_plan_132 ?_
                  refine wa_istore [(5, _), (4, _), (3, _), (0, _), (1, _), (2, _)] dX3_plan_133 (Nat.le_of_ble_eq_true rfl) rfl ?_
                  refine wa_aload_n 3 dX3_plan_135 rfl rfl ?_
                  refine wa_iload_n 4 dX3_plan_136 rfl rfl ?_
                  refine wa_iconst (1) dX3_plan_137 (by decide) ?_
                  refine wc_isI (wr_V dX3_plan_138 mX3_79 (sp_mof O1 hk6 (w := 1) (by decide)) o1 rfl rfl rfl (Nat.le_of_ble_eq_true rfl)) ?_
                  rw [q2]
                  refine wa_iload 0 dX3_plan_141 rfl ?_
                  refine wa_icmp_ge 155 dX3_plan_143 rfl (fun c143 => ?_) (fun c143 => absurd (Int32.not_lt.mp hbt) c143)
                  refine wa_aload_n 3 dX3_plan_155 rfl rfl ?_
                  refine wc_V (wr_V dX3_plan_156 mX3_100 (sp_mchange j3) o1 rfl rfl rfl (Nat.le_of_ble_eq_true rfl)) (fun M156 h156 => ?_)
                  obtain ⟨k0, pf2, k2⟩ := id h156
                  have k1 := z_frE (m := m) k0 (fun q e => e.elim (fun e => by rw [e]; exact z_mEm) (fun e => by rw [e]; exact ⟨by omega, by omega⟩))
                  have km := k2.1
                  have kf := k2.2.1
                  have kp := k0.2 _ _ j4 (fun e => e.elim (fun e => by omega) (fun e => by omega))
                  refine wa_aload_n 3 dX3_plan_159 rfl rfl ?_
                  refine wa_getf dX3_plan_160 gX3_9 km rfl ?_
                  refine wa_iload_n 4 dX3_plan_163 rfl rfl ?_
                  refine wc_isI (wr_S dX3_plan_164 mX3_75 sp_mat rfl rfl rfl (Nat.le_of_ble_eq_true rfl)) ?_
                  refine wa_iconst (3) dX3_plan_167 (by decide) ?_
                  refine wa_iadd dX3_plan_168 ?_
                  refine wa_iload_n 2 dX3_plan_169 rfl rfl ?_
                  rw [show nI (104 + 36 * k) + 3 = nI (104 + 36 * k + 3) from nI_add _ 3]
                  refine wa_iast dX3_plan_170 kf (vp_in_nI (by omega) (by omega)) ?_
                  rw [nI_clamp (by omega)]
                  refine wa_aload_n 3 dX3_plan_171 rfl rfl ?_
                  refine wa_getf dX3_plan_172 gX3_9 (w_sne km (by omega)) rfl ?_
                  refine wa_iload_n 4 dX3_plan_175 rfl rfl ?_
                  refine wc_isI (wr_S dX3_plan_176 mX3_75 sp_mat rfl rfl rfl (Nat.le_of_ble_eq_true rfl)) ?_
                  refine wa_iconst (4) dX3_plan_179 (by decide) ?_
                  refine wa_iadd dX3_plan_180 ?_
                  refine wa_iload 1 dX3_plan_181 rfl ?_
                  rw [show nI (104 + 36 * k) + 4 = nI (104 + 36 * k + 4) from nI_add _ 4]
                  refine wa_iast dX3_plan_183 (w_set_self kf) (vp_in_nI (by omega) (by omega)) ?_
                  rw [nI_clamp (by omega)]
                  refine wa_aload_n 3 dX3_plan_184 rfl rfl ?_
                  refine wa_getf dX3_plan_185 gX3_29 (w_sne (w_sne km (by omega)) (by omega)) rfl ?_
                  refine wa_iconst (0) dX3_plan_188 (by decide) ?_
                  refine wa_aload_n 3 dX3_plan_189 rfl rfl ?_
                  refine wa_getf dX3_plan_190 gX3_9 (w_sne (w_sne km (by omega)) (by omega)) rfl ?_
                  refine wa_iload_n 4 dX3_plan_193 rfl rfl ?_
                  refine wc_isI (wr_S dX3_plan_194 mX3_75 sp_mat rfl rfl rfl (Nat.le_of_ble_eq_true rfl)) ?_
                  refine wa_bipush (6) dX3_plan_197 (by decide) ?_
                  refine wa_iadd dX3_plan_199 ?_
                  rw [show nI (104 + 36 * k) + 6 = nI (104 + 36 * k + 6) from nI_add _ 6]
                  refine wa_iload_n 2 dX3_plan_200 rfl rfl ?_
                  refine wa_copyi 0 (104 + 36 * k + 6) (u + 1) dX3_plan_201 q2037 (w_sne (w_sne kp (by omega)) (by omega)) (w_set_self (w_set_self kf)) rfl rfl rfl (by omega) (by omega) (by decide) (by decide) rfl (Nat.le_of_ble_eq_true rfl) ?_
                  refine wa_iload_n 2 dX3_plan_204 rfl rfl ?_
                  refine wa_iret FieldType.int dX3_plan_205 rfl rfl (Nat.le_of_ble_eq_true rfl) (Nat.le_of_ble_eq_true rfl) ?_
                  have hmr : z_mr (z_setR (z_cur S) ((z_robs (z_cur S)).set k (z_planR r (z_trail (z_cur S) k (z_cell r) g (u + 1) (u + 1) 0 (z_cell r)) (z_sets (z_cur S) 1)))) (va_cpy pa (upd (upd f (104 + 36 * k + 3) (nI (u + 1))) (104 + 36 * k + 4) (z_sets (z_cur S) 1)) 0 (104 + 36 * k + 6) (u + 1)) := by
                    refine z_mr_R hr hs (fun i hi hn => (if_neg (by omega)).trans ((if_neg (by omega)).trans (if_neg (by omega)))) (by rw [List.length_set]; exact (if_neg (by omega)).trans ((if_neg (by omega)).trans ((if_neg (by omega)).trans hr.1.2.2.2.1))) (fun i r' hi => ?_) (fun i hi => z_with_same hk rfl)
                    rcases z_set_at hi with ⟨rfl, rfl, -⟩ | ⟨hn, hi⟩
                    · refine ⟨(if_neg (by omega)).trans ((if_neg (by omega)).trans ((if_neg (by omega)).trans q1)), (if_neg (by omega)).trans ((if_neg (by omega)).trans ((if_neg (by omega)).trans q2)), (if_neg (by omega)).trans ((if_neg (by omega)).trans ((if_neg (by omega)).trans q3)), (if_neg (by omega)).trans ((if_neg (by omega)).trans ((if_pos rfl).trans (by show nI (u + 1) = nI (z_trail (z_cur S) i (z_cell r) g (u + 1) (u + 1) 0 (z_cell r)).length; rw [hlen]))), fun _ => (if_neg (by omega)).trans (if_pos rfl), (if_neg (by omega)).trans ((if_neg (by omega)).trans ((if_neg (by omega)).trans q6)), fun j q hj => ?_⟩
                      have hj : (z_trail (z_cur S) i (z_cell r) g (u + 1) (u + 1) 0 (z_cell r))[j]? = some q := hj
                      have hjl := (List.getElem?_eq_some_iff.mp hj).1
                      rw [hlen] at hjl
                      refine (if_pos (by omega)).trans ?_
                      rw [show 0 + (104 + 36 * i + 6 + j - (104 + 36 * i + 6)) = j by omega]
                      exact j5 j q hj
                    · have hil := (List.getElem?_eq_some_iff.mp hi).1
                      exact (hr.rob hi).to (hs.2.2.2.2.2.2.1 r' (List.mem_of_getElem? hi)).2.2.1 (fun j hj => (if_neg (by omega)).trans ((if_neg (by omega)).trans (if_neg (by omega))))
                  exact ⟨_, rfl, (((((w_fr.rf.set z_mEm).trans (z_fr5 g2)).trans (z_fr67 j2)).trans k1)).trans (z_frE (m := m) w_fr_me.me.me (fun q e => by rw [e]; exact z_mEs)), rfl, (k2.row w_fr_me.me.me (w_set_self (w_set_self (w_set_self kf))) hmr hgd).md⟩
              ·
                by_cases hbt : z_batt r < (1 * nI (z_stepsN (z_cell r) (z_trail (z_cur S) k (z_cell r) g (u + 1) (u + 1) 0 (z_cell r))))
                ·
                  have ea : z_planC (z_cur S) (nI k) (nI g) = .inr (11, (1 * nI (z_stepsN (z_cell r) (z_trail (z_cur S) k (z_cell r) g (u + 1) (u + 1) 0 (z_cell r))))) := by unfold z_planC; rw [i1, i2]; simp only [hk, if_pos hpn, if_neg h9, if_pos h4, hfi, if_neg hld, if_pos hbt]
                  rw [ea]
                  refine w_start (by decide) (Nat.le_of_ble_eq_true rfl) (fun X => ?_)
                  refine wa_locals [(0, _), (1, _), (2, _)] [0, 1, 2] rfl ?_
                  refine wa_aload_n 0 dX3_plan_0 rfl rfl ?_
                  refine wa_iconst (0) dX3_plan_1 (by decide) ?_
                  refine wa_putf [_, _, _, _, _, _, _, _, _, _, _, _, _, _, _, _, _, _, _, _] dX3_plan_2 pX3_49 hm (Nat.le_of_ble_eq_true rfl) rfl rfl rfl ?_
                  refine wa_aload_n 0 dX3_plan_5 rfl rfl ?_
                  refine wa_iload_n 1 dX3_plan_6 rfl rfl ?_
                  refine wc_isI (wr_V dX3_plan_7 mX3_103 (sp_misRobotY H0 hr hs i1) hm0 rfl rfl rfl (Nat.le_of_ble_eq_true rfl)) ?_
                  refine wa_if_eq 21 dX3_plan_10 rfl (fun c10 => absurd c10 (by decide)) (fun c10 => ?_)
                  refine wa_aload_n 0 dX3_plan_13 rfl rfl ?_
                  refine wa_iload_n 2 dX3_plan_14 rfl rfl ?_
                  refine wc_isI (wr_V dX3_plan_15 mX3_86 (sp_misCellY H0 hr hs i2) hm0 rfl rfl rfl (Nat.le_of_ble_eq_true rfl)) ?_
                  refine wa_if_ne 28 dX3_plan_18 rfl (fun c18 => ?_) (fun c18 => absurd c18 (by decide))
                  refine wa_aload_n 0 dX3_plan_28 rfl rfl ?_
                  refine wa_iload_n 1 dX3_plan_29 rfl rfl ?_
                  refine wa_iconst (3) dX3_plan_30 (by decide) ?_
                  refine wc_isI (wr_V dX3_plan_31 mX3_79 (sp_mof H0 hk6 (w := 3) (by decide)) hm0 rfl rfl rfl (Nat.le_of_ble_eq_true rfl)) ?_
                  rw [q4, hpn]
                  rw [show nI ([] : List Nat).length = 0 from rfl]
                  refine wa_if_le 50 dX3_plan_34 rfl (fun c34 => ?_) (fun c34 => absurd (by decide) c34)
                  refine wa_aload_n 0 dX3_plan_50 rfl rfl ?_
                  refine wa_iload_n 1 dX3_plan_51 rfl rfl ?_
                  refine wa_iconst (0) dX3_plan_52 (by decide) ?_
                  refine wc_isI (wr_V dX3_plan_53 mX3_79 (sp_mof H0 hk6 (w := 0) (by decide)) hm0 rfl rfl rfl (Nat.le_of_ble_eq_true rfl)) ?_
                  rw [show f (104 + 36 * k + 0) = nI (z_cell r) from q1]
                  refine wa_iload_n 2 dX3_plan_56 rfl rfl ?_
                  refine wa_icmp_ne 68 dX3_plan_57 rfl (fun c57 => ?_) (fun c57 => absurd ((nI_eq (by omega) (by omega)).mp c57) h9)
                  refine wa_aload_n 0 dX3_plan_68 rfl rfl ?_
                  refine wa_iload_n 2 dX3_plan_69 rfl rfl ?_
                  refine wc_isI (wr_V dX3_plan_70 mX3_93 (sp_mcanEnter H0 hr hs hgs) hm0 rfl rfl rfl (Nat.le_of_ble_eq_true rfl)) ?_
                  refine wa_if_ne 83 dX3_plan_73 rfl (fun c73 => ?_) (fun c73 => absurd (c73.symm.trans (if_pos h4)) (by decide))
                  refine wa_aload_n 0 dX3_plan_83 rfl rfl ?_
                  refine wa_iload_n 1 dX3_plan_84 rfl rfl ?_
                  refine wa_iload_n 2 dX3_plan_85 rfl rfl ?_
                  refine wc_I (wr_V dX3_plan_86 mX3_142 (sp_mfewest h0 hk hgs) hm0 rfl rfl rfl (Nat.le_of_ble_eq_true rfl)) (fun r86 M86 h86 => ?_)
                  obtain ⟨g1, g2, g3⟩ := h86
                  rw [hfi] at g1
                  have g1 : r86 = nI (u + 1) := g1
                  subst g1
                  have n1 := g3.1
                  have n2 := g3.2.1
                  have N1 := g3.mh
                  refine wa_istore_n [(3, _), (0, _), (1, _), (2, _)] dX3_plan_89 rfl (Nat.le_of_ble_eq_true rfl) rfl ?_
                  refine wa_iload_n 0 dX3_plan_90 rfl rfl ?_
                  refine wa_if_ge 102 dX3_plan_91 rfl (fun c91 => ?_) (fun c91 => absurd (Int32.not_lt.mp (nI_pos (by omega))) c91)
                  refine wa_aload_n 1 dX3_plan_102 rfl rfl ?_
                  refine wa_iload_n 2 dX3_plan_103 rfl rfl ?_
                  refine wc_isI (wr_V dX3_plan_104 mX3_145 (sp_misLoaded N1 hr hs hk) n1 rfl rfl rfl (Nat.le_of_ble_eq_true rfl)) ?_
                  refine wa_if_eq 120 dX3_plan_107 rfl (fun c107 => ?_) (fun c107 => absurd (if_neg hld) c107)
                  refine wa_iconst (1) dX3_plan_120 (by decide) ?_
                  refine wa_istore [(4, _), (3, _), (0, _), (1, _), (2, _)] dX3_plan_121 (Nat.le_of_ble_eq_true rfl) rfl ?_
                  refine wa_iload 0 dX3_plan_123 rfl ?_
                  refine wa_aload_n 2 dX3_plan_125 rfl rfl ?_
                  refine wa_iload_n 3 dX3_plan_126 rfl rfl ?_
                  refine wa_iload_n 4 dX3_plan_127 rfl rfl ?_
                  refine wa_iload_n 1 dX3_plan_128 rfl rfl ?_
                  refine wc_I (wr_V dX3_plan_129 mX3_148 (sp_mfindPath g3 hk hgs (T := u + 1) (by omega) (by omega) hend) n1 rfl rfl rfl (Nat.le_of_ble_eq_true rfl)) (fun r129 M129 h129 => ?_)
                  obtain ⟨j1, j2, j3, pa, j4, j5⟩ := h129
                  subst j1
                  have o1 := j3.1
                  have O1 := j3.mh
                  refine wa_imul dX3_plan_132 ?_
                  refine wa_istore [(5, _), (4, _), (3, _), (0, _), (1, _), (2, _)] dX3_plan_133 (Nat.le_of_ble_eq_true rfl) rfl ?_
                  refine wa_aload_n 3 dX3_plan_135 rfl rfl ?_
                  refine wa_iload_n 4 dX3_plan_136 rfl rfl ?_
                  refine wa_iconst (1) dX3_plan_137 (by decide) ?_
                  refine wc_isI (wr_V dX3_plan_138 mX3_79 (sp_mof O1 hk6 (w := 1) (by decide)) o1 rfl rfl rfl (Nat.le_of_ble_eq_true rfl)) ?_
                  rw [q2]
                  refine wa_iload 0 dX3_plan_141 rfl ?_
                  refine wa_icmp_ge 155 dX3_plan_143 rfl (fun c143 => absurd hbt (Int32.not_lt.mpr c143)) (fun c143 => ?_)
                  refine wa_aload_n 3 dX3_plan_146 rfl rfl ?_
                  refine wa_bipush (11) dX3_plan_147 (by decide) ?_
                  refine wa_iload 0 dX3_plan_149 rfl ?_
                  refine wc_I (wr_V dX3_plan_151 mX3_90 (sp_mrefuse j3 (by decide)) o1 rfl rfl rfl (Nat.le_of_ble_eq_true rfl)) (fun r151 M151 h151 => ?_)
                  refine wa_iret FieldType.int dX3_plan_154 rfl rfl (Nat.le_of_ble_eq_true rfl) (Nat.le_of_ble_eq_true rfl) ?_
                  exact ⟨_, rfl, ((((w_fr.rf.set z_mEm).trans (z_fr5 g2)).trans (z_fr67 j2))).trans (z_frE h151.2.1 (fun q e => by rw [e]; exact z_mEm)), h151.2.2.md⟩
                ·
                  have hgd := hg.plan (w := 1) hk hH30 hfi
                  have hlen : (z_trail (z_cur S) k (z_cell r) g (u + 1) (u + 1) 0 (z_cell r)).length = u + 1 := z_trail_len (u + 1) 0 (z_cell r) (by omega) (z_gd_start (by omega) hend)
                  have ea : z_planC (z_cur S) (nI k) (nI g) = .inl (nI (u + 1), z_setR (z_cur S) ((z_robs (z_cur S)).set k (z_planR r (z_trail (z_cur S) k (z_cell r) g (u + 1) (u + 1) 0 (z_cell r)) 1))) := by unfold z_planC; rw [i1, i2]; simp only [hk, if_pos hpn, if_neg h9, if_pos h4, hfi, if_neg hld, if_neg hbt]
                  rw [ea]
                  refine w_start (by decide) (Nat.le_of_ble_eq_true rfl) (fun X => ?_)
                  refine wa_locals [(0, _), (1, _), (2, _)] [0, 1, 2] rfl ?_
                  refine wa_aload_n 0 dX3_plan_0 rfl rfl ?_
                  refine wa_iconst (0) dX3_plan_1 (by decide) ?_
                  refine wa_putf [_, _, _, _, _, _, _, _, _, _, _, _, _, _, _, _, _, _, _, _] dX3_plan_2 pX3_49 hm (Nat.le_of_ble_eq_true rfl) rfl rfl rfl ?_
                  refine wa_aload_n 0 dX3_plan_5 rfl rfl ?_
                  refine wa_iload_n 1 dX3_plan_6 rfl rfl ?_
                  refine wc_isI (wr_V dX3_plan_7 mX3_103 (sp_misRobotY H0 hr hs i1) hm0 rfl rfl rfl (Nat.le_of_ble_eq_true rfl)) ?_
                  refine wa_if_eq 21 dX3_plan_10 rfl (fun c10 => absurd c10 (by decide)) (fun c10 => ?_)
                  refine wa_aload_n 0 dX3_plan_13 rfl rfl ?_
                  refine wa_iload_n 2 dX3_plan_14 rfl rfl ?_
                  refine wc_isI (wr_V dX3_plan_15 mX3_86 (sp_misCellY H0 hr hs i2) hm0 rfl rfl rfl (Nat.le_of_ble_eq_true rfl)) ?_
                  refine wa_if_ne 28 dX3_plan_18 rfl (fun c18 => ?_) (fun c18 => absurd c18 (by decide))
                  refine wa_aload_n 0 dX3_plan_28 rfl rfl ?_
                  refine wa_iload_n 1 dX3_plan_29 rfl rfl ?_
                  refine wa_iconst (3) dX3_plan_30 (by decide) ?_
                  refine wc_isI (wr_V dX3_plan_31 mX3_79 (sp_mof H0 hk6 (w := 3) (by decide)) hm0 rfl rfl rfl (Nat.le_of_ble_eq_true rfl)) ?_
                  rw [q4, hpn]
                  rw [show nI ([] : List Nat).length = 0 from rfl]
                  refine wa_if_le 50 dX3_plan_34 rfl (fun c34 => ?_) (fun c34 => absurd (by decide) c34)
                  refine wa_aload_n 0 dX3_plan_50 rfl rfl ?_
                  refine wa_iload_n 1 dX3_plan_51 rfl rfl ?_
                  refine wa_iconst (0) dX3_plan_52 (by decide) ?_
                  refine wc_isI (wr_V dX3_plan_53 mX3_79 (sp_mof H0 hk6 (w := 0) (by decide)) hm0 rfl rfl rfl (Nat.le_of_ble_eq_true rfl)) ?_
                  rw [show f (104 + 36 * k + 0) = nI (z_cell r) from q1]
                  refine wa_iload_n 2 dX3_plan_56 rfl rfl ?_
                  refine wa_icmp_ne 68 dX3_plan_57 rfl (fun c57 => ?_) (fun c57 => absurd ((nI_eq (by omega) (by omega)).mp c57) h9)
                  refine wa_aload_n 0 dX3_plan_68 rfl rfl ?_
                  refine wa_iload_n 2 dX3_plan_69 rfl rfl ?_
                  refine wc_isI (wr_V dX3_plan_70 mX3_93 (sp_mcanEnter H0 hr hs hgs) hm0 rfl rfl rfl (Nat.le_of_ble_eq_true rfl)) ?_
                  refine wa_if_ne 83 dX3_plan_73 rfl (fun c73 => ?_) (fun c73 => absurd (c73.symm.trans (if_pos h4)) (by decide))
                  refine wa_aload_n 0 dX3_plan_83 rfl rfl ?_
                  refine wa_iload_n 1 dX3_plan_84 rfl rfl ?_
                  refine wa_iload_n 2 dX3_plan_85 rfl rfl ?_
                  refine wc_I (wr_V dX3_plan_86 mX3_142 (sp_mfewest h0 hk hgs) hm0 rfl rfl rfl (Nat.le_of_ble_eq_true rfl)) (fun r86 M86 h86 => ?_)
                  obtain ⟨g1, g2, g3⟩ := h86
                  rw [hfi] at g1
                  have g1 : r86 = nI (u + 1) := g1
                  subst g1
                  have n1 := g3.1
                  have n2 := g3.2.1
                  have N1 := g3.mh
                  refine wa_istore_n [(3, _), (0, _), (1, _), (2, _)] dX3_plan_89 rfl (Nat.le_of_ble_eq_true rfl) rfl ?_
                  refine wa_iload_n 0 dX3_plan_90 rfl rfl ?_
                  refine wa_if_ge 102 dX3_plan_91 rfl (fun c91 => ?_) (fun c91 => absurd (Int32.not_lt.mp (nI_pos (by omega))) c91)
                  refine wa_aload_n 1 dX3_plan_102 rfl rfl ?_
                  refine wa_iload_n 2 dX3_plan_103 rfl rfl ?_
                  refine wc_isI (wr_V dX3_plan_104 mX3_145 (sp_misLoaded N1 hr hs hk) n1 rfl rfl rfl (Nat.le_of_ble_eq_true rfl)) ?_
                  refine wa_if_eq 120 dX3_plan_107 rfl (fun c107 => ?_) (fun c107 => absurd (if_neg hld) c107)
                  refine wa_iconst (1) dX3_plan_120 (by decide) ?_
                  refine wa_istore [(4, _), (3, _), (0, _), (1, _), (2, _)] dX3_plan_121 (Nat.le_of_ble_eq_true rfl) rfl ?_
                  refine wa_iload 0 dX3_plan_123 rfl ?_
                  refine wa_aload_n 2 dX3_plan_125 rfl rfl ?_
                  refine wa_iload_n 3 dX3_plan_126 rfl rfl ?_
                  refine wa_iload_n 4 dX3_plan_127 rfl rfl ?_
                  refine wa_iload_n 1 dX3_plan_128 rfl rfl ?_
                  refine wc_I (wr_V dX3_plan_129 mX3_148 (sp_mfindPath g3 hk hgs (T := u + 1) (by omega) (by omega) hend) n1 rfl rfl rfl (Nat.le_of_ble_eq_true rfl)) (fun r129 M129 h129 => ?_)
                  obtain ⟨j1, j2, j3, pa, j4, j5⟩ := h129
                  subst j1
                  have o1 := j3.1
                  have O1 := j3.mh
                  refine wa_imul dX3_plan_132 ?_
                  refine wa_istore [(5, _), (4, _), (3, _), (0, _), (1, _), (2, _)] dX3_plan_133 (Nat.le_of_ble_eq_true rfl) rfl ?_
                  refine wa_aload_n 3 dX3_plan_135 rfl rfl ?_
                  refine wa_iload_n 4 dX3_plan_136 rfl rfl ?_
                  refine wa_iconst (1) dX3_plan_137 (by decide) ?_
                  refine wc_isI (wr_V dX3_plan_138 mX3_79 (sp_mof O1 hk6 (w := 1) (by decide)) o1 rfl rfl rfl (Nat.le_of_ble_eq_true rfl)) ?_
                  rw [q2]
                  refine wa_iload 0 dX3_plan_141 rfl ?_
                  refine wa_icmp_ge 155 dX3_plan_143 rfl (fun c143 => ?_) (fun c143 => absurd (Int32.not_lt.mp hbt) c143)
                  refine wa_aload_n 3 dX3_plan_155 rfl rfl ?_
                  refine wc_V (wr_V dX3_plan_156 mX3_100 (sp_mchange j3) o1 rfl rfl rfl (Nat.le_of_ble_eq_true rfl)) (fun M156 h156 => ?_)
                  obtain ⟨k0, pf2, k2⟩ := id h156
                  have k1 := z_frE (m := m) k0 (fun q e => e.elim (fun e => by rw [e]; exact z_mEm) (fun e => by rw [e]; exact ⟨by omega, by omega⟩))
                  have km := k2.1
                  have kf := k2.2.1
                  have kp := k0.2 _ _ j4 (fun e => e.elim (fun e => by omega) (fun e => by omega))
                  refine wa_aload_n 3 dX3_plan_159 rfl rfl ?_
                  refine wa_getf dX3_plan_160 gX3_9 km rfl ?_
                  refine wa_iload_n 4 dX3_plan_163 rfl rfl ?_
                  refine wc_isI (wr_S dX3_plan_164 mX3_75 sp_mat rfl rfl rfl (Nat.le_of_ble_eq_true rfl)) ?_
                  refine wa_iconst (3) dX3_plan_167 (by decide) ?_
                  refine wa_iadd dX3_plan_168 ?_
                  refine wa_iload_n 2 dX3_plan_169 rfl rfl ?_
                  rw [show nI (104 + 36 * k) + 3 = nI (104 + 36 * k + 3) from nI_add _ 3]
                  refine wa_iast dX3_plan_170 kf (vp_in_nI (by omega) (by omega)) ?_
                  rw [nI_clamp (by omega)]
                  refine wa_aload_n 3 dX3_plan_171 rfl rfl ?_
                  refine wa_getf dX3_plan_172 gX3_9 (w_sne km (by omega)) rfl ?_
                  refine wa_iload_n 4 dX3_plan_175 rfl rfl ?_
                  refine wc_isI (wr_S dX3_plan_176 mX3_75 sp_mat rfl rfl rfl (Nat.le_of_ble_eq_true rfl)) ?_
                  refine wa_iconst (4) dX3_plan_179 (by decide) ?_
                  refine wa_iadd dX3_plan_180 ?_
                  refine wa_iload 1 dX3_plan_181 rfl ?_
                  rw [show nI (104 + 36 * k) + 4 = nI (104 + 36 * k + 4) from nI_add _ 4]
                  refine wa_iast dX3_plan_183 (w_set_self kf) (vp_in_nI (by omega) (by omega)) ?_
                  rw [nI_clamp (by omega)]
                  refine wa_aload_n 3 dX3_plan_184 rfl rfl ?_
                  refine wa_getf dX3_plan_185 gX3_29 (w_sne (w_sne km (by omega)) (by omega)) rfl ?_
                  refine wa_iconst (0) dX3_plan_188 (by decide) ?_
                  refine wa_aload_n 3 dX3_plan_189 rfl rfl ?_
                  refine wa_getf dX3_plan_190 gX3_9 (w_sne (w_sne km (by omega)) (by omega)) rfl ?_
                  refine wa_iload_n 4 dX3_plan_193 rfl rfl ?_
                  refine wc_isI (wr_S dX3_plan_194 mX3_75 sp_mat rfl rfl rfl (Nat.le_of_ble_eq_true rfl)) ?_
                  refine wa_bipush (6) dX3_plan_197 (by decide) ?_
                  refine wa_iadd dX3_plan_199 ?_
                  rw [show nI (104 + 36 * k) + 6 = nI (104 + 36 * k + 6) from nI_add _ 6]
                  refine wa_iload_n 2 dX3_plan_200 rfl rfl ?_
                  refine wa_copyi 0 (104 + 36 * k + 6) (u + 1) dX3_plan_201 q2037 (w_sne (w_sne kp (by omega)) (by omega)) (w_set_self (w_set_self kf)) rfl rfl rfl (by omega) (by omega) (by decide) (by decide) rfl (Nat.le_of_ble_eq_true rfl) ?_
                  refine wa_iload_n 2 dX3_plan_204 rfl rfl ?_
                  refine wa_iret FieldType.int dX3_plan_205 rfl rfl (Nat.le_of_ble_eq_true rfl) (Nat.le_of_ble_eq_true rfl) ?_
                  have hmr : z_mr (z_setR (z_cur S) ((z_robs (z_cur S)).set k (z_planR r (z_trail (z_cur S) k (z_cell r) g (u + 1) (u + 1) 0 (z_cell r)) 1))) (va_cpy pa (upd (upd f (104 + 36 * k + 3) (nI (u + 1))) (104 + 36 * k + 4) 1) 0 (104 + 36 * k + 6) (u + 1)) := by
                    refine z_mr_R hr hs (fun i hi hn => (if_neg (by omega)).trans ((if_neg (by omega)).trans (if_neg (by omega)))) (by rw [List.length_set]; exact (if_neg (by omega)).trans ((if_neg (by omega)).trans ((if_neg (by omega)).trans hr.1.2.2.2.1))) (fun i r' hi => ?_) (fun i hi => z_with_same hk rfl)
                    rcases z_set_at hi with ⟨rfl, rfl, -⟩ | ⟨hn, hi⟩
                    · refine ⟨(if_neg (by omega)).trans ((if_neg (by omega)).trans ((if_neg (by omega)).trans q1)), (if_neg (by omega)).trans ((if_neg (by omega)).trans ((if_neg (by omega)).trans q2)), (if_neg (by omega)).trans ((if_neg (by omega)).trans ((if_neg (by omega)).trans q3)), (if_neg (by omega)).trans ((if_neg (by omega)).trans ((if_pos rfl).trans (by show nI (u + 1) = nI (z_trail (z_cur S) i (z_cell r) g (u + 1) (u + 1) 0 (z_cell r)).length; rw [hlen]))), fun _ => (if_neg (by omega)).trans (if_pos rfl), (if_neg (by omega)).trans ((if_neg (by omega)).trans ((if_neg (by omega)).trans q6)), fun j q hj => ?_⟩
                      have hj : (z_trail (z_cur S) i (z_cell r) g (u + 1) (u + 1) 0 (z_cell r))[j]? = some q := hj
                      have hjl := (List.getElem?_eq_some_iff.mp hj).1
                      rw [hlen] at hjl
                      refine (if_pos (by omega)).trans ?_
                      rw [show 0 + (104 + 36 * i + 6 + j - (104 + 36 * i + 6)) = j by omega]
                      exact j5 j q hj
                    · have hil := (List.getElem?_eq_some_iff.mp hi).1
                      exact (hr.rob hi).to (hs.2.2.2.2.2.2.1 r' (List.mem_of_getElem? hi)).2.2.1 (fun j hj => (if_neg (by omega)).trans ((if_neg (by omega)).trans (if_neg (by omega))))
                  exact ⟨_, rfl, (((((w_fr.rf.set z_mEm).trans (z_fr5 g2)).trans (z_fr67 j2)).trans k1)).trans (z_frE (m := m) w_fr_me.me.me (fun q e => by rw [e]; exact z_mEs)), rfl, (k2.row w_fr_me.me.me (w_set_self (w_set_self (w_set_self kf))) hmr hgd).md⟩
          ·
            have ea : z_planC (z_cur S) (nI k) (nI g) = .inr (4, nI g) := by unfold z_planC; rw [i1, i2]; simp only [hk, if_pos hpn, if_neg h9, if_neg h4]
            rw [ea]
            refine w_start (by decide) (Nat.le_of_ble_eq_true rfl) (fun X => ?_)
            refine wa_locals [(0, _), (1, _), (2, _)] [0, 1, 2] rfl ?_
            refine wa_aload_n 0 dX3_plan_0 rfl rfl ?_
            refine wa_iconst (0) dX3_plan_1 (by decide) ?_
            refine wa_putf [_, _, _, _, _, _, _, _, _, _, _, _, _, _, _, _, _, _, _, _] dX3_plan_2 pX3_49 hm (Nat.le_of_ble_eq_true rfl) rfl rfl rfl ?_
            refine wa_aload_n 0 dX3_plan_5 rfl rfl ?_
            refine wa_iload_n 1 dX3_plan_6 rfl rfl ?_
            refine wc_isI (wr_V dX3_plan_7 mX3_103 (sp_misRobotY H0 hr hs i1) hm0 rfl rfl rfl (Nat.le_of_ble_eq_true rfl)) ?_
            refine wa_if_eq 21 dX3_plan_10 rfl (fun c10 => absurd c10 (by decide)) (fun c10 => ?_)
            refine wa_aload_n 0 dX3_plan_13 rfl rfl ?_
            refine wa_iload_n 2 dX3_plan_14 rfl rfl ?_
            refine wc_isI (wr_V dX3_plan_15 mX3_86 (sp_misCellY H0 hr hs i2) hm0 rfl rfl rfl (Nat.le_of_ble_eq_true rfl)) ?_
            refine wa_if_ne 28 dX3_plan_18 rfl (fun c18 => ?_) (fun c18 => absurd c18 (by decide))
            refine wa_aload_n 0 dX3_plan_28 rfl rfl ?_
            refine wa_iload_n 1 dX3_plan_29 rfl rfl ?_
            refine wa_iconst (3) dX3_plan_30 (by decide) ?_
            refine wc_isI (wr_V dX3_plan_31 mX3_79 (sp_mof H0 hk6 (w := 3) (by decide)) hm0 rfl rfl rfl (Nat.le_of_ble_eq_true rfl)) ?_
            rw [q4, hpn]
            rw [show nI ([] : List Nat).length = 0 from rfl]
            refine wa_if_le 50 dX3_plan_34 rfl (fun c34 => ?_) (fun c34 => absurd (by decide) c34)
            refine wa_aload_n 0 dX3_plan_50 rfl rfl ?_
            refine wa_iload_n 1 dX3_plan_51 rfl rfl ?_
            refine wa_iconst (0) dX3_plan_52 (by decide) ?_
            refine wc_isI (wr_V dX3_plan_53 mX3_79 (sp_mof H0 hk6 (w := 0) (by decide)) hm0 rfl rfl rfl (Nat.le_of_ble_eq_true rfl)) ?_
            rw [show f (104 + 36 * k + 0) = nI (z_cell r) from q1]
            refine wa_iload_n 2 dX3_plan_56 rfl rfl ?_
            refine wa_icmp_ne 68 dX3_plan_57 rfl (fun c57 => ?_) (fun c57 => absurd ((nI_eq (by omega) (by omega)).mp c57) h9)
            refine wa_aload_n 0 dX3_plan_68 rfl rfl ?_
            refine wa_iload_n 2 dX3_plan_69 rfl rfl ?_
            refine wc_isI (wr_V dX3_plan_70 mX3_93 (sp_mcanEnter H0 hr hs hgs) hm0 rfl rfl rfl (Nat.le_of_ble_eq_true rfl)) ?_
            refine wa_if_ne 83 dX3_plan_73 rfl (fun c73 => absurd (if_neg h4) c73) (fun c73 => ?_)
            refine wa_aload_n 0 dX3_plan_76 rfl rfl ?_
            refine wa_iconst (4) dX3_plan_77 (by decide) ?_
            refine wa_iload_n 2 dX3_plan_78 rfl rfl ?_
            refine wc_I (wr_V dX3_plan_79 mX3_90 (sp_mrefuse h0 (by decide)) hm0 rfl rfl rfl (Nat.le_of_ble_eq_true rfl)) (fun r79 M79 h79 => ?_)
            refine wa_iret FieldType.int dX3_plan_82 rfl rfl (Nat.le_of_ble_eq_true rfl) (Nat.le_of_ble_eq_true rfl) ?_
            exact ⟨_, rfl, (w_fr.rf.set z_mEm).trans (z_frE h79.2.1 (fun q e => by rw [e]; exact z_mEm)), h79.2.2.md⟩
      ·
        have hpl : 0 < (z_plan r).length := List.length_pos_iff.mpr hpn
        have ea : z_planC (z_cur S) (nI k) (nI g) = .inr (6, nI (z_plan r).length) := by unfold z_planC; rw [i1, i2]; simp only [hk, if_neg hpn]
        rw [ea]
        refine w_start (by decide) (Nat.le_of_ble_eq_true rfl) (fun X => ?_)
        refine wa_locals [(0, _), (1, _), (2, _)] [0, 1, 2] rfl ?_
        refine wa_aload_n 0 dX3_plan_0 rfl rfl ?_
        refine wa_iconst (0) dX3_plan_1 (by decide) ?_
        refine wa_putf [_, _, _, _, _, _, _, _, _, _, _, _, _, _, _, _, _, _, _, _] dX3_plan_2 pX3_49 hm (Nat.le_of_ble_eq_true rfl) rfl rfl rfl ?_
        refine wa_aload_n 0 dX3_plan_5 rfl rfl ?_
        refine wa_iload_n 1 dX3_plan_6 rfl rfl ?_
        refine wc_isI (wr_V dX3_plan_7 mX3_103 (sp_misRobotY H0 hr hs i1) hm0 rfl rfl rfl (Nat.le_of_ble_eq_true rfl)) ?_
        refine wa_if_eq 21 dX3_plan_10 rfl (fun c10 => absurd c10 (by decide)) (fun c10 => ?_)
        refine wa_aload_n 0 dX3_plan_13 rfl rfl ?_
        refine wa_iload_n 2 dX3_plan_14 rfl rfl ?_
        refine wc_isI (wr_V dX3_plan_15 mX3_86 (sp_misCellY H0 hr hs i2) hm0 rfl rfl rfl (Nat.le_of_ble_eq_true rfl)) ?_
        refine wa_if_ne 28 dX3_plan_18 rfl (fun c18 => ?_) (fun c18 => absurd c18 (by decide))
        refine wa_aload_n 0 dX3_plan_28 rfl rfl ?_
        refine wa_iload_n 1 dX3_plan_29 rfl rfl ?_
        refine wa_iconst (3) dX3_plan_30 (by decide) ?_
        refine wc_isI (wr_V dX3_plan_31 mX3_79 (sp_mof H0 hk6 (w := 3) (by decide)) hm0 rfl rfl rfl (Nat.le_of_ble_eq_true rfl)) ?_
        rw [q4]
        refine wa_if_le 50 dX3_plan_34 rfl (fun c34 => absurd ((nI_leI (b := 0) (by omega) (by decide)).mp c34) (by omega)) (fun c34 => ?_)
        refine wa_aload_n 0 dX3_plan_37 rfl rfl ?_
        refine wa_bipush (6) dX3_plan_38 (by decide) ?_
        refine wa_aload_n 0 dX3_plan_40 rfl rfl ?_
        refine wa_iload_n 1 dX3_plan_41 rfl rfl ?_
        refine wa_iconst (3) dX3_plan_42 (by decide) ?_
        refine wc_isI (wr_V dX3_plan_43 mX3_79 (sp_mof H0 hk6 (w := 3) (by decide)) hm0 rfl rfl rfl (Nat.le_of_ble_eq_true rfl)) ?_
        rw [q4]
        refine wc_I (wr_V dX3_plan_46 mX3_90 (sp_mrefuse h0 (by decide)) hm0 rfl rfl rfl (Nat.le_of_ble_eq_true rfl)) (fun r46 M46 h46 => ?_)
        refine wa_iret FieldType.int dX3_plan_49 rfl rfl (Nat.le_of_ble_eq_true rfl) (Nat.le_of_ble_eq_true rfl) ?_
        exact ⟨_, rfl, (w_fr.rf.set z_mEm).trans (z_frE h46.2.1 (fun q e => by rw [e]; exact z_mEm)), h46.2.2.md⟩
theorem sp_marrival (h : z_mod b M m S th) {x y : Int32} : w_S l G tX3_arrival (7, 0, 0) [.ref m, .int x, .int y] M (z_mA b M m S (z_arrA (z_cur S) x y)) := by
  obtain ⟨is, rr, rc, f, sv, pf, ip, h⟩ := h
  obtain ⟨hm, hf, -⟩ := id h
  have H := h.mh
  have hr := h.mr
  have hg := h.gd
  have hs := hg.1
  have hh := hg.2.2.2.2.2.2.2
  have hsz := hs.size
  have hR6 : (z_robs (z_cur S)).length ≤ 6 := hs.2.2.2.2.1
  have hO10 : (z_ords (z_cur S)).length ≤ 10 := hs.2.2.2.2.2.1
  have h0 := h.thr 0
  have H0 := h0.mh
  cases i1 : z_idx x (z_robs (z_cur S)).length with
  | none =>
    have ea : z_arrA (z_cur S) x y = .inr 1 := by unfold z_arrA; rw [i1]
    rw [ea]
    refine w_start (by decide) (Nat.le_of_ble_eq_true rfl) (fun X => ?_)
    refine wa_locals [(0, _), (1, _), (2, _)] [0, 1, 2] rfl ?_
    refine wa_aload_n 0 dX3_arrival_0 rfl rfl ?_
    refine wa_aload_n 0 dX3_arrival_1 rfl rfl ?_
    refine wa_iload_n 1 dX3_arrival_2 rfl rfl ?_
    refine wc_isI (wr_V dX3_arrival_3 mX3_103 (sp_misRobotZ H hr hs i1) hm rfl rfl rfl (Nat.le_of_ble_eq_true rfl)) ?_
    refine wa_if_eq 21 dX3_arrival_6 rfl (fun c6 => ?_) (fun c6 => absurd (by decide) c6)
    refine wa_iconst (1) dX3_arrival_21 (by decide) ?_
    refine wa_putf [_, _, _, _, _, _, _, _, _, _, _, _, _, _, _, _, _, _, _, _] dX3_arrival_22 pX3_49 hm (Nat.le_of_ble_eq_true rfl) rfl rfl rfl ?_
    refine wa_aload_n 0 dX3_arrival_25 rfl rfl ?_
    refine wa_getf dX3_arrival_26 gX3_49 (w_set_self hm) rfl ?_
    refine wa_if_gt 42 dX3_arrival_29 rfl (fun c29 => ?_) (fun c29 => absurd (by decide) c29)
    refine wa_iconst (0) dX3_arrival_42 (by decide) ?_
    refine wa_iret FieldType.int dX3_arrival_43 rfl rfl (Nat.le_of_ble_eq_true rfl) (Nat.le_of_ble_eq_true rfl) ?_
    exact ⟨_, rfl, (w_fr.rf.set z_mEm), (h.thr 1).md⟩
  | some k =>
    cases i2 : z_idx y (z_size (z_cur S)) with
    | none =>
      have ea : z_arrA (z_cur S) x y = .inr 1 := by unfold z_arrA; rw [i1, i2]
      rw [ea]
      refine w_start (by decide) (Nat.le_of_ble_eq_true rfl) (fun X => ?_)
      refine wa_locals [(0, _), (1, _), (2, _)] [0, 1, 2] rfl ?_
      refine wa_aload_n 0 dX3_arrival_0 rfl rfl ?_
      refine wa_aload_n 0 dX3_arrival_1 rfl rfl ?_
      refine wa_iload_n 1 dX3_arrival_2 rfl rfl ?_
      refine wc_isI (wr_V dX3_arrival_3 mX3_103 (sp_misRobotY H hr hs i1) hm rfl rfl rfl (Nat.le_of_ble_eq_true rfl)) ?_
      refine wa_if_eq 21 dX3_arrival_6 rfl (fun c6 => absurd c6 (by decide)) (fun c6 => ?_)
      refine wa_aload_n 0 dX3_arrival_9 rfl rfl ?_
      refine wa_iload_n 2 dX3_arrival_10 rfl rfl ?_
      refine wc_isI (wr_V dX3_arrival_11 mX3_86 (sp_misCellZ H hr hs i2) hm rfl rfl rfl (Nat.le_of_ble_eq_true rfl)) ?_
      refine wa_if_eq 21 dX3_arrival_14 rfl (fun c14 => ?_) (fun c14 => absurd (by decide) c14)
      refine wa_iconst (1) dX3_arrival_21 (by decide) ?_
      refine wa_putf [_, _, _, _, _, _, _, _, _, _, _, _, _, _, _, _, _, _, _, _] dX3_arrival_22 pX3_49 hm (Nat.le_of_ble_eq_true rfl) rfl rfl rfl ?_
      refine wa_aload_n 0 dX3_arrival_25 rfl rfl ?_
      refine wa_getf dX3_arrival_26 gX3_49 (w_set_self hm) rfl ?_
      refine wa_if_gt 42 dX3_arrival_29 rfl (fun c29 => ?_) (fun c29 => absurd (by decide) c29)
      refine wa_iconst (0) dX3_arrival_42 (by decide) ?_
      refine wa_iret FieldType.int dX3_arrival_43 rfl rfl (Nat.le_of_ble_eq_true rfl) (Nat.le_of_ble_eq_true rfl) ?_
      exact ⟨_, rfl, (w_fr.rf.set z_mEm), (h.thr 1).md⟩
    | some g =>
      have hkl := z_idx_lt (by omega) i1
      have e1 := z_idx_eq (by omega) i1
      subst e1
      have hk6 : k < 6 := by omega
      obtain ⟨r, hk⟩ : ∃ r, (z_robs (z_cur S))[k]? = some r := ⟨_, List.getElem?_eq_getElem hkl⟩
      obtain ⟨q1, q2, q3, q4, q5, q6, q7⟩ := hr.rob hk
      obtain ⟨hrc, hrp, hp30, hrh⟩ := hs.2.2.2.2.2.2.1 r (List.mem_of_getElem? hk)
      have hgs := z_idx_lt (by omega) i2
      have e2 := z_idx_eq (by omega) i2
      subst e2
      have hH30 := z_hor_le hg
      have hfs : z_free (z_cur S) (z_cell r) = true := hg.2.2.2.2.2.1 r (List.mem_of_getElem? hk) 0
      by_cases h9 : z_cell r = g
      ·
        have h4 : z_free (z_cur S) g = true := by rw [← h9]; exact hfs
        have ea : z_arrA (z_cur S) (nI k) (nI g) = .inl 0 := by unfold z_arrA; rw [i1, i2]; simp only [hk, if_pos h4, if_pos h9]
        rw [ea]
        refine w_start (by decide) (Nat.le_of_ble_eq_true rfl) (fun X => ?_)
        refine wa_locals [(0, _), (1, _), (2, _)] [0, 1, 2] rfl ?_
        refine wa_aload_n 0 dX3_arrival_0 rfl rfl ?_
        refine wa_aload_n 0 dX3_arrival_1 rfl rfl ?_
        refine wa_iload_n 1 dX3_arrival_2 rfl rfl ?_
        refine wc_isI (wr_V dX3_arrival_3 mX3_103 (sp_misRobotY H hr hs i1) hm rfl rfl rfl (Nat.le_of_ble_eq_true rfl)) ?_
        refine wa_if_eq 21 dX3_arrival_6 rfl (fun c6 => absurd c6 (by decide)) (fun c6 => ?_)
        refine wa_aload_n 0 dX3_arrival_9 rfl rfl ?_
        refine wa_iload_n 2 dX3_arrival_10 rfl rfl ?_
        refine wc_isI (wr_V dX3_arrival_11 mX3_86 (sp_misCellY H hr hs i2) hm rfl rfl rfl (Nat.le_of_ble_eq_true rfl)) ?_
        refine wa_if_eq 21 dX3_arrival_14 rfl (fun c14 => absurd c14 (by decide)) (fun c14 => ?_)
        refine wa_iconst (0) dX3_arrival_17 (by decide) ?_
        refine wa_goto 22 dX3_arrival_18 rfl ?_
        refine wa_putf [_, _, _, _, _, _, _, _, _, _, _, _, _, _, _, _, _, _, _, _] dX3_arrival_22 pX3_49 hm (Nat.le_of_ble_eq_true rfl) rfl rfl rfl ?_
        refine wa_aload_n 0 dX3_arrival_25 rfl rfl ?_
        refine wa_getf dX3_arrival_26 gX3_49 (w_set_self hm) rfl ?_
        refine wa_if_gt 42 dX3_arrival_29 rfl (fun c29 => absurd c29 (by decide)) (fun c29 => ?_)
        refine wa_aload_n 0 dX3_arrival_32 rfl rfl ?_
        refine wa_iload_n 1 dX3_arrival_33 rfl rfl ?_
        refine wa_iconst (0) dX3_arrival_34 (by decide) ?_
        refine wc_isI (wr_V dX3_arrival_35 mX3_79 (sp_mof H0 hk6 (w := 0) (by decide)) h0.1 rfl rfl rfl (Nat.le_of_ble_eq_true rfl)) ?_
        rw [show f (104 + 36 * k + 0) = nI (z_cell r) from q1]
        refine wa_iload_n 2 dX3_arrival_38 rfl rfl ?_
        refine wa_icmp_ne 44 dX3_arrival_39 rfl (fun c39 => absurd (congrArg nI h9) c39) (fun c39 => ?_)
        refine wa_iconst (0) dX3_arrival_42 (by decide) ?_
        refine wa_iret FieldType.int dX3_arrival_43 rfl rfl (Nat.le_of_ble_eq_true rfl) (Nat.le_of_ble_eq_true rfl) ?_
        exact ⟨_, rfl, (w_fr.rf.set z_mEm), rfl, h0.md⟩
      ·
        by_cases h4 : z_free (z_cur S) g = true
        ·
          cases hfi : z_first (z_cur S) k (z_cell r) g (z_hor (z_cur S)) 0 with
          | none =>
            have ea : z_arrA (z_cur S) (nI k) (nI g) = .inr 2 := by unfold z_arrA; rw [i1, i2]; simp only [hk, if_pos h4, if_neg h9, hfi]
            rw [ea]
            refine w_start (by decide) (Nat.le_of_ble_eq_true rfl) (fun X => ?_)
            refine wa_locals [(0, _), (1, _), (2, _)] [0, 1, 2] rfl ?_
            refine wa_aload_n 0 dX3_arrival_0 rfl rfl ?_
            refine wa_aload_n 0 dX3_arrival_1 rfl rfl ?_
            refine wa_iload_n 1 dX3_arrival_2 rfl rfl ?_
            refine wc_isI (wr_V dX3_arrival_3 mX3_103 (sp_misRobotY H hr hs i1) hm rfl rfl rfl (Nat.le_of_ble_eq_true rfl)) ?_
            refine wa_if_eq 21 dX3_arrival_6 rfl (fun c6 => absurd c6 (by decide)) (fun c6 => ?_)
            refine wa_aload_n 0 dX3_arrival_9 rfl rfl ?_
            refine wa_iload_n 2 dX3_arrival_10 rfl rfl ?_
            refine wc_isI (wr_V dX3_arrival_11 mX3_86 (sp_misCellY H hr hs i2) hm rfl rfl rfl (Nat.le_of_ble_eq_true rfl)) ?_
            refine wa_if_eq 21 dX3_arrival_14 rfl (fun c14 => absurd c14 (by decide)) (fun c14 => ?_)
            refine wa_iconst (0) dX3_arrival_17 (by decide) ?_
            refine wa_goto 22 dX3_arrival_18 rfl ?_
            refine wa_putf [_, _, _, _, _, _, _, _, _, _, _, _, _, _, _, _, _, _, _, _] dX3_arrival_22 pX3_49 hm (Nat.le_of_ble_eq_true rfl) rfl rfl rfl ?_
            refine wa_aload_n 0 dX3_arrival_25 rfl rfl ?_
            refine wa_getf dX3_arrival_26 gX3_49 (w_set_self hm) rfl ?_
            refine wa_if_gt 42 dX3_arrival_29 rfl (fun c29 => absurd c29 (by decide)) (fun c29 => ?_)
            refine wa_aload_n 0 dX3_arrival_32 rfl rfl ?_
            refine wa_iload_n 1 dX3_arrival_33 rfl rfl ?_
            refine wa_iconst (0) dX3_arrival_34 (by decide) ?_
            refine wc_isI (wr_V dX3_arrival_35 mX3_79 (sp_mof H0 hk6 (w := 0) (by decide)) h0.1 rfl rfl rfl (Nat.le_of_ble_eq_true rfl)) ?_
            rw [show f (104 + 36 * k + 0) = nI (z_cell r) from q1]
            refine wa_iload_n 2 dX3_arrival_38 rfl rfl ?_
            refine wa_icmp_ne 44 dX3_arrival_39 rfl (fun c39 => ?_) (fun c39 => absurd ((nI_eq (by omega) (by omega)).mp c39) h9)
            refine wa_aload_n 0 dX3_arrival_44 rfl rfl ?_
            refine wa_iload_n 2 dX3_arrival_45 rfl rfl ?_
            refine wc_isI (wr_V dX3_arrival_46 mX3_93 (sp_mcanEnter H0 hr hs hgs) h0.1 rfl rfl rfl (Nat.le_of_ble_eq_true rfl)) ?_
            refine wa_if_eq 61 dX3_arrival_49 rfl (fun c49 => absurd (c49.symm.trans (if_pos h4)) (by decide)) (fun c49 => ?_)
            refine wa_aload_n 0 dX3_arrival_52 rfl rfl ?_
            refine wa_iload_n 1 dX3_arrival_53 rfl rfl ?_
            refine wa_iload_n 2 dX3_arrival_54 rfl rfl ?_
            refine wc_I (wr_V dX3_arrival_55 mX3_142 (sp_mfewest h0 hk hgs) h0.1 rfl rfl rfl (Nat.le_of_ble_eq_true rfl)) (fun r55 M55 h55 => ?_)
            obtain ⟨g1, g2, g3⟩ := h55
            rw [hfi] at g1
            subst g1
            refine wa_goto 62 dX3_arrival_58 rfl ?_
            refine wa_istore_n [(3, _), (0, _), (1, _), (2, _)] dX3_arrival_62 rfl (Nat.le_of_ble_eq_true rfl) rfl ?_
            refine wa_aload_n 1 dX3_arrival_63 rfl rfl ?_
            refine wa_iload_n 0 dX3_arrival_64 rfl rfl ?_
            refine wa_if_ge 72 dX3_arrival_65 rfl (fun c65 => absurd c65 (by decide)) (fun c65 => ?_)
            refine wa_iconst (2) dX3_arrival_68 (by decide) ?_
            refine wa_goto 73 dX3_arrival_69 rfl ?_
            refine wa_putf [_, _, _, _, _, _, _, _, _, _, _, _, _, _, _, _, _, _, _, _] dX3_arrival_73 pX3_49 g3.1 (Nat.le_of_ble_eq_true rfl) rfl rfl rfl ?_
            refine wa_aload_n 1 dX3_arrival_76 rfl rfl ?_
            refine wa_getf dX3_arrival_77 gX3_49 (w_set_self g3.1) rfl ?_
            refine wa_if_le 87 dX3_arrival_80 rfl (fun c80 => absurd c80 (by decide)) (fun c80 => ?_)
            refine wa_iconst (0) dX3_arrival_83 (by decide) ?_
            refine wa_goto 88 dX3_arrival_84 rfl ?_
            refine wa_iret FieldType.int dX3_arrival_88 rfl rfl (Nat.le_of_ble_eq_true rfl) (Nat.le_of_ble_eq_true rfl) ?_
            exact ⟨_, rfl, ((w_fr.rf.set z_mEm).trans (z_fr5 g2)).set z_mEm, (g3.thr 2).md⟩
          | some u =>
            obtain ⟨-, huH, -, -⟩ := z_first_at _ _ _ hfi
            have ea : z_arrA (z_cur S) (nI k) (nI g) = .inl (nI (u + 1)) := by unfold z_arrA; rw [i1, i2]; simp only [hk, if_pos h4, if_neg h9, hfi]
            rw [ea]
            refine w_start (by decide) (Nat.le_of_ble_eq_true rfl) (fun X => ?_)
            refine wa_locals [(0, _), (1, _), (2, _)] [0, 1, 2] rfl ?_
            refine wa_aload_n 0 dX3_arrival_0 rfl rfl ?_
            refine wa_aload_n 0 dX3_arrival_1 rfl rfl ?_
            refine wa_iload_n 1 dX3_arrival_2 rfl rfl ?_
            refine wc_isI (wr_V dX3_arrival_3 mX3_103 (sp_misRobotY H hr hs i1) hm rfl rfl rfl (Nat.le_of_ble_eq_true rfl)) ?_
            refine wa_if_eq 21 dX3_arrival_6 rfl (fun c6 => absurd c6 (by decide)) (fun c6 => ?_)
            refine wa_aload_n 0 dX3_arrival_9 rfl rfl ?_
            refine wa_iload_n 2 dX3_arrival_10 rfl rfl ?_
            refine wc_isI (wr_V dX3_arrival_11 mX3_86 (sp_misCellY H hr hs i2) hm rfl rfl rfl (Nat.le_of_ble_eq_true rfl)) ?_
            refine wa_if_eq 21 dX3_arrival_14 rfl (fun c14 => absurd c14 (by decide)) (fun c14 => ?_)
            refine wa_iconst (0) dX3_arrival_17 (by decide) ?_
            refine wa_goto 22 dX3_arrival_18 rfl ?_
            refine wa_putf [_, _, _, _, _, _, _, _, _, _, _, _, _, _, _, _, _, _, _, _] dX3_arrival_22 pX3_49 hm (Nat.le_of_ble_eq_true rfl) rfl rfl rfl ?_
            refine wa_aload_n 0 dX3_arrival_25 rfl rfl ?_
            refine wa_getf dX3_arrival_26 gX3_49 (w_set_self hm) rfl ?_
            refine wa_if_gt 42 dX3_arrival_29 rfl (fun c29 => absurd c29 (by decide)) (fun c29 => ?_)
            refine wa_aload_n 0 dX3_arrival_32 rfl rfl ?_
            refine wa_iload_n 1 dX3_arrival_33 rfl rfl ?_
            refine wa_iconst (0) dX3_arrival_34 (by decide) ?_
            refine wc_isI (wr_V dX3_arrival_35 mX3_79 (sp_mof H0 hk6 (w := 0) (by decide)) h0.1 rfl rfl rfl (Nat.le_of_ble_eq_true rfl)) ?_
            rw [show f (104 + 36 * k + 0) = nI (z_cell r) from q1]
            refine wa_iload_n 2 dX3_arrival_38 rfl rfl ?_
            refine wa_icmp_ne 44 dX3_arrival_39 rfl (fun c39 => ?_) (fun c39 => absurd ((nI_eq (by omega) (by omega)).mp c39) h9)
            refine wa_aload_n 0 dX3_arrival_44 rfl rfl ?_
            refine wa_iload_n 2 dX3_arrival_45 rfl rfl ?_
            refine wc_isI (wr_V dX3_arrival_46 mX3_93 (sp_mcanEnter H0 hr hs hgs) h0.1 rfl rfl rfl (Nat.le_of_ble_eq_true rfl)) ?_
            refine wa_if_eq 61 dX3_arrival_49 rfl (fun c49 => absurd (c49.symm.trans (if_pos h4)) (by decide)) (fun c49 => ?_)
            refine wa_aload_n 0 dX3_arrival_52 rfl rfl ?_
            refine wa_iload_n 1 dX3_arrival_53 rfl rfl ?_
            refine wa_iload_n 2 dX3_arrival_54 rfl rfl ?_
            refine wc_I (wr_V dX3_arrival_55 mX3_142 (sp_mfewest h0 hk hgs) h0.1 rfl rfl rfl (Nat.le_of_ble_eq_true rfl)) (fun r55 M55 h55 => ?_)
            obtain ⟨g1, g2, g3⟩ := h55
            rw [hfi] at g1
            have g1 : r55 = nI (u + 1) := g1
            subst g1
            refine wa_goto 62 dX3_arrival_58 rfl ?_
            refine wa_istore_n [(3, _), (0, _), (1, _), (2, _)] dX3_arrival_62 rfl (Nat.le_of_ble_eq_true rfl) rfl ?_
            refine wa_aload_n 1 dX3_arrival_63 rfl rfl ?_
            refine wa_iload_n 0 dX3_arrival_64 rfl rfl ?_
            refine wa_if_ge 72 dX3_arrival_65 rfl (fun c65 => ?_) (fun c65 => absurd (Int32.not_lt.mp (nI_pos (n := u + 1) (by omega))) c65)
            refine wa_iconst (0) dX3_arrival_72 (by decide) ?_
            refine wa_putf [_, _, _, _, _, _, _, _, _, _, _, _, _, _, _, _, _, _, _, _] dX3_arrival_73 pX3_49 g3.1 (Nat.le_of_ble_eq_true rfl) rfl rfl rfl ?_
            refine wa_aload_n 1 dX3_arrival_76 rfl rfl ?_
            refine wa_getf dX3_arrival_77 gX3_49 (w_set_self g3.1) rfl ?_
            refine wa_if_le 87 dX3_arrival_80 rfl (fun c80 => ?_) (fun c80 => absurd (by decide) c80)
            refine wa_iload_n 0 dX3_arrival_87 rfl rfl ?_
            refine wa_iret FieldType.int dX3_arrival_88 rfl rfl (Nat.le_of_ble_eq_true rfl) (Nat.le_of_ble_eq_true rfl) ?_
            exact ⟨_, rfl, ((w_fr.rf.set z_mEm).trans (z_fr5 g2)).set z_mEm, rfl, (g3.thr 0).md⟩
        ·
          have ea : z_arrA (z_cur S) (nI k) (nI g) = .inr 2 := by unfold z_arrA; rw [i1, i2]; simp only [hk, if_neg h4]
          rw [ea]
          refine w_start (by decide) (Nat.le_of_ble_eq_true rfl) (fun X => ?_)
          refine wa_locals [(0, _), (1, _), (2, _)] [0, 1, 2] rfl ?_
          refine wa_aload_n 0 dX3_arrival_0 rfl rfl ?_
          refine wa_aload_n 0 dX3_arrival_1 rfl rfl ?_
          refine wa_iload_n 1 dX3_arrival_2 rfl rfl ?_
          refine wc_isI (wr_V dX3_arrival_3 mX3_103 (sp_misRobotY H hr hs i1) hm rfl rfl rfl (Nat.le_of_ble_eq_true rfl)) ?_
          refine wa_if_eq 21 dX3_arrival_6 rfl (fun c6 => absurd c6 (by decide)) (fun c6 => ?_)
          refine wa_aload_n 0 dX3_arrival_9 rfl rfl ?_
          refine wa_iload_n 2 dX3_arrival_10 rfl rfl ?_
          refine wc_isI (wr_V dX3_arrival_11 mX3_86 (sp_misCellY H hr hs i2) hm rfl rfl rfl (Nat.le_of_ble_eq_true rfl)) ?_
          refine wa_if_eq 21 dX3_arrival_14 rfl (fun c14 => absurd c14 (by decide)) (fun c14 => ?_)
          refine wa_iconst (0) dX3_arrival_17 (by decide) ?_
          refine wa_goto 22 dX3_arrival_18 rfl ?_
          refine wa_putf [_, _, _, _, _, _, _, _, _, _, _, _, _, _, _, _, _, _, _, _] dX3_arrival_22 pX3_49 hm (Nat.le_of_ble_eq_true rfl) rfl rfl rfl ?_
          refine wa_aload_n 0 dX3_arrival_25 rfl rfl ?_
          refine wa_getf dX3_arrival_26 gX3_49 (w_set_self hm) rfl ?_
          refine wa_if_gt 42 dX3_arrival_29 rfl (fun c29 => absurd c29 (by decide)) (fun c29 => ?_)
          refine wa_aload_n 0 dX3_arrival_32 rfl rfl ?_
          refine wa_iload_n 1 dX3_arrival_33 rfl rfl ?_
          refine wa_iconst (0) dX3_arrival_34 (by decide) ?_
          refine wc_isI (wr_V dX3_arrival_35 mX3_79 (sp_mof H0 hk6 (w := 0) (by decide)) h0.1 rfl rfl rfl (Nat.le_of_ble_eq_true rfl)) ?_
          rw [show f (104 + 36 * k + 0) = nI (z_cell r) from q1]
          refine wa_iload_n 2 dX3_arrival_38 rfl rfl ?_
          refine wa_icmp_ne 44 dX3_arrival_39 rfl (fun c39 => ?_) (fun c39 => absurd ((nI_eq (by omega) (by omega)).mp c39) h9)
          refine wa_aload_n 0 dX3_arrival_44 rfl rfl ?_
          refine wa_iload_n 2 dX3_arrival_45 rfl rfl ?_
          refine wc_isI (wr_V dX3_arrival_46 mX3_93 (sp_mcanEnter H0 hr hs hgs) h0.1 rfl rfl rfl (Nat.le_of_ble_eq_true rfl)) ?_
          refine wa_if_eq 61 dX3_arrival_49 rfl (fun c49 => ?_) (fun c49 => absurd (if_neg h4) c49)
          refine wa_iconst (-1) dX3_arrival_61 (by decide) ?_
          refine wa_istore_n [(3, _), (0, _), (1, _), (2, _)] dX3_arrival_62 rfl (Nat.le_of_ble_eq_true rfl) rfl ?_
          refine wa_aload_n 1 dX3_arrival_63 rfl rfl ?_
          refine wa_iload_n 0 dX3_arrival_64 rfl rfl ?_
          refine wa_if_ge 72 dX3_arrival_65 rfl (fun c65 => absurd c65 (by decide)) (fun c65 => ?_)
          refine wa_iconst (2) dX3_arrival_68 (by decide) ?_
          refine wa_goto 73 dX3_arrival_69 rfl ?_
          refine wa_putf [_, _, _, _, _, _, _, _, _, _, _, _, _, _, _, _, _, _, _, _] dX3_arrival_73 pX3_49 (w_set_self hm) (Nat.le_of_ble_eq_true rfl) rfl rfl rfl ?_
          refine wa_aload_n 1 dX3_arrival_76 rfl rfl ?_
          refine wa_getf dX3_arrival_77 gX3_49 (w_set_self (w_set_self hm)) rfl ?_
          refine wa_if_le 87 dX3_arrival_80 rfl (fun c80 => absurd c80 (by decide)) (fun c80 => ?_)
          refine wa_iconst (0) dX3_arrival_83 (by decide) ?_
          refine wa_goto 88 dX3_arrival_84 rfl ?_
          refine wa_iret FieldType.int dX3_arrival_88 rfl rfl (Nat.le_of_ble_eq_true rfl) (Nat.le_of_ble_eq_true rfl) ?_
          exact ⟨_, rfl, (w_fr.rf.set z_mEm).set z_mEm, (h0.thr 2).md⟩
theorem sp_marrivalAgain (h : z_mod b M m S th) {x y : Int32} : w_S l G tX3_arrivalAgain (8, 0, 0) [.ref m, .int x, .int y] M (z_mA b M m S (z_arrA (z_cur S) x y)) := by
  obtain ⟨is, rr, rc, f, sv, pf, ip, h9⟩ := id h
  have hm := h9.1
  refine w_start (by decide) (Nat.le_of_ble_eq_true rfl) (fun X => ?_)
  refine wa_locals [(0, _), (1, _), (2, _)] [0, 1, 2] rfl ?_
  refine wa_aload_n 0 dX3_arrivalAgain_0 rfl rfl ?_
  refine wa_iload_n 1 dX3_arrivalAgain_1 rfl rfl ?_
  refine wa_iload_n 2 dX3_arrivalAgain_2 rfl rfl ?_
  refine wc_I (wr_V dX3_arrivalAgain_3 mX3_179 (sp_marrival h) hm rfl rfl rfl (Nat.le_of_ble_eq_true rfl)) (fun r3 M3 h3 => ?_)
  refine wa_iret FieldType.int dX3_arrivalAgain_6 rfl rfl (Nat.le_of_ble_eq_true rfl) (Nat.le_of_ble_eq_true rfl) ?_
  exact ⟨_, rfl, h3⟩
end MA
