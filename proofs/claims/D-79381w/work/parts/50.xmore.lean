/-! ===== RobotAisles: orders, undo, the snapshot, the text ===== -/
set_option maxRecDepth 100000
def z_linesL (f s t : Int32) : List Int32 := if s = -1 then [f] else if t = -1 then [f, s] else [f, s, t]
def z_orderX (c : z_C) (due f s t : Int32) : z_res := if z_idx f (z_size c) = none ∨ ((s = -1 ∧ ¬ t = -1) ∧ z_idx t (z_size c) = none) then .inr (1, 0) else if s = -1 ∧ ¬ t = -1 then .inr (2, 0) else z_orderC c due (z_linesL f s t)
section XM
variable {l : Launch} {G : w_G} {M : w_M} {E : Nat → Prop} {x bl ba tx ca : Nat} {sv : Option Nat} {bas : List Nat} {S : z_S}
theorem z_sysL.fresh (h : z_sysL G M E x bl ba tx ca sv bas S) (h0 : w_ad G 0 < M.sz) {q : Nat} (hq : M.sz ≤ q) : z_cm E x bl ba tx q := by
  obtain ⟨⟨e1, e2, e3, e4, e5, e6⟩, h1, h2, h3, h4, h5, h6, h7, h8, f, h9, h10⟩ := h
  rintro (rfl | rfl | rfl | rfl | z)
  · have := w_lt h1; omega
  · have := h3.lt.1; omega
  · rcases h3.lt.2 with z | z
    · omega
    · omega
  · have := w_lt h9; omega
  · have := e1 q z; omega
theorem sp_linesT {f s t : Int32} (hs : s = -1) (ht : ¬ t = -1) : w_S l G tX1_linesOf (7, 1, 8) [.int f, .int s, .int t] M (w_is (.inr ("RobotAisles$RefusedException", M.sz)) (M.push (.inr (7, [.null, .null, .null, .null, .null, .int 0, .int 2, .int 0])))) := by
  refine w_start (by decide) (Nat.le_of_ble_eq_true rfl) (fun X => ?_)
  refine wa_locals [(0, _), (1, _), (2, _)] [0, 1, 2] rfl ?_
  refine wa_iload_n 1 dX1_linesOf_0 rfl rfl ?_
  refine wa_iconst (-1) dX1_linesOf_1 (by decide) ?_
  refine wa_icmp_ne 14 dX1_linesOf_2 rfl (fun c2 => absurd hs c2) (fun c2 => ?_)
  refine wa_iload_n 2 dX1_linesOf_5 rfl rfl ?_
  refine wa_iconst (-1) dX1_linesOf_6 (by decide) ?_
  refine wa_icmp_eq 14 dX1_linesOf_7 rfl (fun c7 => absurd c7 ht) (fun c7 => ?_)
  refine wa_iconst (1) dX1_linesOf_10 (by decide) ?_
  refine wa_goto 15 dX1_linesOf_11 rfl ?_
  refine wa_iconst (2) dX1_linesOf_15 (by decide) ?_
  refine wc_isx (wr_S dX1_linesOf_16 mX1_99 sp_refuse2T rfl rfl rfl (Nat.le_of_ble_eq_true rfl)) ?_
  exact wx_out (fun _ h => by cases h) (Nat.le_of_ble_eq_true rfl) (Nat.le_of_ble_eq_true rfl) ⟨rfl, rfl⟩
theorem sp_linesN {f s t : Int32} (hh : ¬ (s = -1 ∧ ¬ t = -1)) : w_S l G tX1_linesOf (7, 1, 8) [.int f, .int s, .int t] M (w_rA (fun r N => r = M.sz ∧ w_fr M N (fun _ => False) ∧ ∃ g : Nat → Int32, N.get r = some (.inl (.int, (z_linesL f s t).length, .inl g)) ∧ ∀ (i : Nat) (y : Int32), (z_linesL f s t)[i]? = some y → g i = y)) := by
  by_cases hs : s = -1
  · have ht : t = -1 := Classical.byContradiction fun w => hh ⟨hs, w⟩
    have e : z_linesL f s t = [f] := if_pos hs
    rw [e]
    ·
      refine w_start (by decide) (Nat.le_of_ble_eq_true rfl) (fun X => ?_)
      refine wa_locals [(0, _), (1, _), (2, _)] [0, 1, 2] rfl ?_
      refine wa_iload_n 1 dX1_linesOf_0 rfl rfl ?_
      refine wa_iconst (-1) dX1_linesOf_1 (by decide) ?_
      refine wa_icmp_ne 14 dX1_linesOf_2 rfl (fun c2 => absurd hs c2) (fun c2 => ?_)
      refine wa_iload_n 2 dX1_linesOf_5 rfl rfl ?_
      refine wa_iconst (-1) dX1_linesOf_6 (by decide) ?_
      refine wa_icmp_eq 14 dX1_linesOf_7 rfl (fun c7 => ?_) (fun c7 => absurd ht c7)
      refine wa_iconst (0) dX1_linesOf_14 (by decide) ?_
      refine wa_iconst (2) dX1_linesOf_15 (by decide) ?_
      refine wc_isV (wr_S dX1_linesOf_16 mX1_99 sp_refuse2N rfl rfl rfl (Nat.le_of_ble_eq_true rfl)) ?_
      refine wa_iload_n 1 dX1_linesOf_19 rfl rfl ?_
      refine wa_iconst (-1) dX1_linesOf_20 (by decide) ?_
      refine wa_icmp_ne 28 dX1_linesOf_21 rfl (fun c21 => absurd hs c21) (fun c21 => ?_)
      refine wa_iconst (1) dX1_linesOf_24 (by decide) ?_
      refine wa_goto 38 dX1_linesOf_25 rfl ?_
      refine wa_newi (1) dX1_linesOf_38 q160 rfl (by decide) (Nat.le_of_ble_eq_true rfl) (Nat.le_of_ble_eq_true rfl) ?_
      refine wa_astore_n [(3, _), (0, _), (1, _), (2, _)] dX1_linesOf_40 rfl (Nat.le_of_ble_eq_true rfl) rfl ?_
      refine wa_aload_n 0 dX1_linesOf_41 rfl rfl ?_
      refine wa_iconst (0) dX1_linesOf_42 (by decide) ?_
      refine wa_iload_n 1 dX1_linesOf_43 rfl rfl ?_
      refine wa_iast dX1_linesOf_44 w_push_self (vp_in_nI (n := 0) (by decide) (by decide)) ?_
      rw [w_push_set]
      refine wa_aload_n 0 dX1_linesOf_45 rfl rfl ?_
      refine wa_alen 0 dX1_linesOf_46 w_push_self rfl ?_
      refine wa_iconst (1) dX1_linesOf_47 (by decide) ?_
      refine wa_icmp_le 55 dX1_linesOf_48 rfl (fun c48 => ?_) (fun c48 => absurd (show nI 1 ≤ 1 from by decide) c48)
      refine wa_aload_n 0 dX1_linesOf_55 rfl rfl ?_
      refine wa_alen 0 dX1_linesOf_56 w_push_self rfl ?_
      refine wa_iconst (2) dX1_linesOf_57 (by decide) ?_
      refine wa_icmp_le 65 dX1_linesOf_58 rfl (fun c58 => ?_) (fun c58 => absurd (show nI 1 ≤ 2 from by decide) c58)
      refine wa_aload_n 0 dX1_linesOf_65 rfl rfl ?_
      refine wa_aret (FieldType.array FieldType.int) dX1_linesOf_66 rfl rfl (Nat.le_of_ble_eq_true rfl) (Nat.le_of_ble_eq_true rfl) ?_
      refine ⟨_, rfl, rfl, w_fr.rf.push, _, w_push_self, fun i y hi => ?_⟩
      have hi3 : i < 1 := (List.getElem?_eq_some_iff.mp hi).1
      rcases (show i = 0 by omega) with rfl <;> (cases hi; rfl)
  · by_cases ht : t = -1
    · have e : z_linesL f s t = [f, s] := (if_neg hs).trans (if_pos ht)
      rw [e]
      refine w_start (by decide) (Nat.le_of_ble_eq_true rfl) (fun X => ?_)
      refine wa_locals [(0, _), (1, _), (2, _)] [0, 1, 2] rfl ?_
      refine wa_iload_n 1 dX1_linesOf_0 rfl rfl ?_
      refine wa_iconst (-1) dX1_linesOf_1 (by decide) ?_
      refine wa_icmp_ne 14 dX1_linesOf_2 rfl (fun c2 => ?_) (fun c2 => absurd c2 hs)
      refine wa_iconst (0) dX1_linesOf_14 (by decide) ?_
      refine wa_iconst (2) dX1_linesOf_15 (by decide) ?_
      refine wc_isV (wr_S dX1_linesOf_16 mX1_99 sp_refuse2N rfl rfl rfl (Nat.le_of_ble_eq_true rfl)) ?_
      refine wa_iload_n 1 dX1_linesOf_19 rfl rfl ?_
      refine wa_iconst (-1) dX1_linesOf_20 (by decide) ?_
      refine wa_icmp_ne 28 dX1_linesOf_21 rfl (fun c21 => ?_) (fun c21 => absurd c21 hs)
      refine wa_iload_n 2 dX1_linesOf_28 rfl rfl ?_
      refine wa_iconst (-1) dX1_linesOf_29 (by decide) ?_
      refine wa_icmp_ne 37 dX1_linesOf_30 rfl (fun c30 => absurd ht c30) (fun c30 => ?_)
      refine wa_iconst (2) dX1_linesOf_33 (by decide) ?_
      refine wa_goto 38 dX1_linesOf_34 rfl ?_
      refine wa_newi (2) dX1_linesOf_38 q160 rfl (by decide) (Nat.le_of_ble_eq_true rfl) (Nat.le_of_ble_eq_true rfl) ?_
      refine wa_astore_n [(3, _), (0, _), (1, _), (2, _)] dX1_linesOf_40 rfl (Nat.le_of_ble_eq_true rfl) rfl ?_
      refine wa_aload_n 0 dX1_linesOf_41 rfl rfl ?_
      refine wa_iconst (0) dX1_linesOf_42 (by decide) ?_
      refine wa_iload_n 1 dX1_linesOf_43 rfl rfl ?_
      refine wa_iast dX1_linesOf_44 w_push_self (vp_in_nI (n := 0) (by decide) (by decide)) ?_
      rw [w_push_set]
      refine wa_aload_n 0 dX1_linesOf_45 rfl rfl ?_
      refine wa_alen 0 dX1_linesOf_46 w_push_self rfl ?_
      refine wa_iconst (1) dX1_linesOf_47 (by decide) ?_
      refine wa_icmp_le 55 dX1_linesOf_48 rfl (fun c48 => absurd c48 (show ¬ nI 2 ≤ 1 from by decide)) (fun c48 => ?_)
      refine wa_aload_n 0 dX1_linesOf_51 rfl rfl ?_
      refine wa_iconst (1) dX1_linesOf_52 (by decide) ?_
      refine wa_iload_n 2 dX1_linesOf_53 rfl rfl ?_
      refine wa_iast dX1_linesOf_54 w_push_self (vp_in_nI (n := 1) (by decide) (by decide)) ?_
      rw [w_push_set]
      refine wa_aload_n 0 dX1_linesOf_55 rfl rfl ?_
      refine wa_alen 0 dX1_linesOf_56 w_push_self rfl ?_
      refine wa_iconst (2) dX1_linesOf_57 (by decide) ?_
      refine wa_icmp_le 65 dX1_linesOf_58 rfl (fun c58 => ?_) (fun c58 => absurd (show nI 2 ≤ 2 from by decide) c58)
      refine wa_aload_n 0 dX1_linesOf_65 rfl rfl ?_
      refine wa_aret (FieldType.array FieldType.int) dX1_linesOf_66 rfl rfl (Nat.le_of_ble_eq_true rfl) (Nat.le_of_ble_eq_true rfl) ?_
      refine ⟨_, rfl, rfl, w_fr.rf.push, _, w_push_self, fun i y hi => ?_⟩
      have hi3 : i < 2 := (List.getElem?_eq_some_iff.mp hi).1
      rcases (show i = 0 ∨ i = 1 by omega) with rfl | rfl <;> (cases hi; rfl)
    · have e : z_linesL f s t = [f, s, t] := (if_neg hs).trans (if_neg ht)
      rw [e]
      refine w_start (by decide) (Nat.le_of_ble_eq_true rfl) (fun X => ?_)
      refine wa_locals [(0, _), (1, _), (2, _)] [0, 1, 2] rfl ?_
      refine wa_iload_n 1 dX1_linesOf_0 rfl rfl ?_
      refine wa_iconst (-1) dX1_linesOf_1 (by decide) ?_
      refine wa_icmp_ne 14 dX1_linesOf_2 rfl (fun c2 => ?_) (fun c2 => absurd c2 hs)
      refine wa_iconst (0) dX1_linesOf_14 (by decide) ?_
      refine wa_iconst (2) dX1_linesOf_15 (by decide) ?_
      refine wc_isV (wr_S dX1_linesOf_16 mX1_99 sp_refuse2N rfl rfl rfl (Nat.le_of_ble_eq_true rfl)) ?_
      refine wa_iload_n 1 dX1_linesOf_19 rfl rfl ?_
      refine wa_iconst (-1) dX1_linesOf_20 (by decide) ?_
      refine wa_icmp_ne 28 dX1_linesOf_21 rfl (fun c21 => ?_) (fun c21 => absurd c21 hs)
      refine wa_iload_n 2 dX1_linesOf_28 rfl rfl ?_
      refine wa_iconst (-1) dX1_linesOf_29 (by decide) ?_
      refine wa_icmp_ne 37 dX1_linesOf_30 rfl (fun c30 => ?_) (fun c30 => absurd c30 ht)
      refine wa_iconst (3) dX1_linesOf_37 (by decide) ?_
      refine wa_newi (3) dX1_linesOf_38 q160 rfl (by decide) (Nat.le_of_ble_eq_true rfl) (Nat.le_of_ble_eq_true rfl) ?_
      refine wa_astore_n [(3, _), (0, _), (1, _), (2, _)] dX1_linesOf_40 rfl (Nat.le_of_ble_eq_true rfl) rfl ?_
      refine wa_aload_n 0 dX1_linesOf_41 rfl rfl ?_
      refine wa_iconst (0) dX1_linesOf_42 (by decide) ?_
      refine wa_iload_n 1 dX1_linesOf_43 rfl rfl ?_
      refine wa_iast dX1_linesOf_44 w_push_self (vp_in_nI (n := 0) (by decide) (by decide)) ?_
      rw [w_push_set]
      refine wa_aload_n 0 dX1_linesOf_45 rfl rfl ?_
      refine wa_alen 0 dX1_linesOf_46 w_push_self rfl ?_
      refine wa_iconst (1) dX1_linesOf_47 (by decide) ?_
      refine wa_icmp_le 55 dX1_linesOf_48 rfl (fun c48 => absurd c48 (show ¬ nI 3 ≤ 1 from by decide)) (fun c48 => ?_)
      refine wa_aload_n 0 dX1_linesOf_51 rfl rfl ?_
      refine wa_iconst (1) dX1_linesOf_52 (by decide) ?_
      refine wa_iload_n 2 dX1_linesOf_53 rfl rfl ?_
      refine wa_iast dX1_linesOf_54 w_push_self (vp_in_nI (n := 1) (by decide) (by decide)) ?_
      rw [w_push_set]
      refine wa_aload_n 0 dX1_linesOf_55 rfl rfl ?_
      refine wa_alen 0 dX1_linesOf_56 w_push_self rfl ?_
      refine wa_iconst (2) dX1_linesOf_57 (by decide) ?_
      refine wa_icmp_le 65 dX1_linesOf_58 rfl (fun c58 => absurd c58 (show ¬ nI 3 ≤ 2 from by decide)) (fun c58 => ?_)
      refine wa_aload_n 0 dX1_linesOf_61 rfl rfl ?_
      refine wa_iconst (2) dX1_linesOf_62 (by decide) ?_
      refine wa_iload_n 3 dX1_linesOf_63 rfl rfl ?_
      refine wa_iast dX1_linesOf_64 w_push_self (vp_in_nI (n := 2) (by decide) (by decide)) ?_
      rw [w_push_set]
      refine wa_aload_n 0 dX1_linesOf_65 rfl rfl ?_
      refine wa_aret (FieldType.array FieldType.int) dX1_linesOf_66 rfl rfl (Nat.le_of_ble_eq_true rfl) (Nat.le_of_ble_eq_true rfl) ?_
      refine ⟨_, rfl, rfl, w_fr.rf.push, _, w_push_self, fun i y hi => ?_⟩
      have hi3 : i < 3 := (List.getElem?_eq_some_iff.mp hi).1
      rcases (show i = 0 ∨ i = 1 ∨ i = 2 by omega) with rfl | rfl | rfl <;> (cases hi; rfl)
theorem sp_X1_order (hS : z_sys G M E x bl tx S) (hs : z_small (z_cur S)) {due f s t : Int32} : w_S l G tX1_order (9, 40, 320) [.ref x, .int due, .int f, .int s, .int t] M (z_opQ G E x bl tx M S (z_orderX (z_cur S) due f s t)) := by
  obtain ⟨ba, ca, sv, bas, h⟩ := hS
  have hg := h.2.1
  obtain ⟨kdc, rlc, olc, sgc, rac, oac, rasc, oasc, hLc⟩ := h.2.2.1
  have hgc := hLc.2.1
  obtain ⟨n1, n2, n3⟩ := z_idxL hs
  have hl3 : (z_linesL f s t).length ≤ 3 := by unfold z_linesL; split <;> (try split) <;> simp
  by_cases hal : s = -1 ∧ ¬ t = -1
  ·
    refine w_start (by decide) (Nat.le_of_ble_eq_true rfl) (fun X => ?_)
    refine wa_locals [(0, _), (1, _), (2, _), (3, _), (4, _)] [0, 1, 2, 3, 4] rfl ?_
    refine wa_lo2 (fun h0 => ?_)
    refine wa_iload_n 3 dX1_order_0 rfl rfl ?_
    refine wa_iconst (-1) dX1_order_1 (by decide) ?_
    refine wa_icmp_ne 15 dX1_order_2 rfl (fun c2 => absurd hal.1 c2) (fun c2 => ?_)
    refine wa_iload 4 dX1_order_5 rfl ?_
    refine wa_iconst (-1) dX1_order_7 (by decide) ?_
    refine wa_icmp_eq 15 dX1_order_8 rfl (fun c8 => absurd c8 hal.2) (fun c8 => ?_)
    refine wa_iconst (1) dX1_order_11 (by decide) ?_
    refine wa_goto 16 dX1_order_12 rfl ?_
    refine wa_istore [(5, _), (0, _), (1, _), (2, _), (3, _), (4, _)] dX1_order_16 (Nat.le_of_ble_eq_true rfl) rfl ?_
    refine wa_aload_n 1 dX1_order_18 rfl rfl ?_
    refine wa_getf dX1_order_19 gX1_14 hg rfl ?_
    refine wa_iload_n 3 dX1_order_22 rfl rfl ?_
    refine wc_isI (wr_V dX1_order_23 mX1_102 (sp_hasCell hLc hs) hgc rfl rfl rfl (Nat.le_of_ble_eq_true rfl)) ?_
    refine wa_if_eq 46 dX1_order_26 rfl (fun c26 => ?_) (fun c26 => ?_)
    ·
      have i1 := z_not c26
      refine wa_iconst (1) dX1_order_46 (by decide) ?_
      refine wa_goto 51 dX1_order_47 rfl ?_
      refine wa_iconst (1) dX1_order_51 (by decide) ?_
      refine wc_isx (wr_S dX1_order_52 mX1_99 sp_refuse2T rfl rfl rfl (Nat.le_of_ble_eq_true rfl)) ?_
      rw [show z_orderX (z_cur S) due f s t = .inr (1, 0) from if_pos (Or.inl i1)]
      have hfH : w_fr M (M.push (.inr (7, [.null, .null, .null, .null, .null, .int 0, .int 1, .int 0]))) (fun _ => False) := w_fr.rf.push
      have hH := h.keepE (hfH.mono (fun _ _ z => z.elim))
      have hgH := hH.2.1
      have hqH := w_push_self (M := M) (e := .inr (7, [.null, .null, .null, .null, .null, .int 0, .int 1, .int 0]))
      refine wx_catch [] [] _ rfl (fun z hz => by cases hz) rfl (by decide) q697 q717 88 rfl ?_
      refine wa_astore [(5, _), (0, _), (1, _), (2, _), (3, _), (4, _)] dX1_order_88 (Nat.le_of_ble_eq_true rfl) rfl ?_
      refine wa_aload_n 1 dX1_order_90 rfl rfl ?_
      refine wa_aload 0 dX1_order_91 rfl ?_
      refine wc_A (wr_V dX1_order_93 mX1_91 (sp_keep hH hqH) hgH rfl rfl rfl (Nat.le_of_ble_eq_true rfl)) (fun r93 M93 h93 => ?_)
      obtain ⟨e6, hq6, hs6, hf6⟩ := h93
      refine wa_athrow dX1_order_96 hq6 rfl (wx_out (fun z hz => Or.inl (by rcases List.mem_singleton.mp hz with rfl; rfl)) (Nat.le_of_ble_eq_true rfl) (Nat.le_of_ble_eq_true rfl) ⟨w_fr.trans (hfH.mono (fun _ _ z => z.elim)) hf6, ?_⟩)
      exact ⟨⟨_, rfl⟩, _, _, _, _, hs6⟩
    ·
      refine wa_iload 0 dX1_order_29 rfl ?_
      refine wa_if_eq 50 dX1_order_31 rfl (fun c31 => absurd c31 (by decide)) (fun c31 => ?_)
      refine wa_aload_n 1 dX1_order_34 rfl rfl ?_
      refine wa_getf dX1_order_35 gX1_14 hg rfl ?_
      refine wa_iload 5 dX1_order_38 rfl ?_
      refine wc_isI (wr_V dX1_order_40 mX1_102 (sp_hasCell hLc hs) hgc rfl rfl rfl (Nat.le_of_ble_eq_true rfl)) ?_
      refine wa_if_ne 50 dX1_order_43 rfl (fun c43 => ?_) (fun c43 => ?_)
      ·
        obtain ⟨j, i1, hj, ej⟩ := z_yes n3 (fun z => c26 z)
        obtain ⟨j2, i2, hj2, ej2⟩ := z_yes n3 c43
        refine wa_iconst (0) dX1_order_50 (by decide) ?_
        refine wa_iconst (1) dX1_order_51 (by decide) ?_
        refine wc_isV (wr_S dX1_order_52 mX1_99 sp_refuse2N rfl rfl rfl (Nat.le_of_ble_eq_true rfl)) ?_
        refine wa_iload_n 3 dX1_order_55 rfl rfl ?_
        refine wa_iload_n 4 dX1_order_56 rfl rfl ?_
        refine wa_iload 5 dX1_order_57 rfl ?_
        refine wc_isx (wr_S dX1_order_59 mX1_106 (sp_linesT hal.1 hal.2) rfl rfl rfl (Nat.le_of_ble_eq_true rfl)) ?_
        rw [show z_orderX (z_cur S) due f s t = .inr (2, 0) from (if_neg (fun z => by rcases z with z | ⟨-, z⟩ <;> simp_all)).trans (if_pos hal)]
        have hfH : w_fr M (M.push (.inr (7, [.null, .null, .null, .null, .null, .int 0, .int 2, .int 0]))) (fun _ => False) := w_fr.rf.push
        have hH := h.keepE (hfH.mono (fun _ _ z => z.elim))
        have hgH := hH.2.1
        have hqH := w_push_self (M := M) (e := .inr (7, [.null, .null, .null, .null, .null, .int 0, .int 2, .int 0]))
        refine wx_catch [] [] _ rfl (fun z hz => by cases hz) rfl (by decide) q697 q717 88 rfl ?_
        refine wa_astore [(5, _), (0, _), (1, _), (2, _), (3, _), (4, _)] dX1_order_88 (Nat.le_of_ble_eq_true rfl) rfl ?_
        refine wa_aload_n 1 dX1_order_90 rfl rfl ?_
        refine wa_aload 0 dX1_order_91 rfl ?_
        refine wc_A (wr_V dX1_order_93 mX1_91 (sp_keep hH hqH) hgH rfl rfl rfl (Nat.le_of_ble_eq_true rfl)) (fun r93 M93 h93 => ?_)
        obtain ⟨e6, hq6, hs6, hf6⟩ := h93
        refine wa_athrow dX1_order_96 hq6 rfl (wx_out (fun z hz => Or.inl (by rcases List.mem_singleton.mp hz with rfl; rfl)) (Nat.le_of_ble_eq_true rfl) (Nat.le_of_ble_eq_true rfl) ⟨w_fr.trans (hfH.mono (fun _ _ z => z.elim)) hf6, ?_⟩)
        exact ⟨⟨_, rfl⟩, _, _, _, _, hs6⟩
      ·
        have i2 := z_not c43
        refine wa_iconst (1) dX1_order_46 (by decide) ?_
        refine wa_goto 51 dX1_order_47 rfl ?_
        refine wa_iconst (1) dX1_order_51 (by decide) ?_
        refine wc_isx (wr_S dX1_order_52 mX1_99 sp_refuse2T rfl rfl rfl (Nat.le_of_ble_eq_true rfl)) ?_
        rw [show z_orderX (z_cur S) due f s t = .inr (1, 0) from if_pos (Or.inr ⟨hal, i2⟩)]
        have hfH : w_fr M (M.push (.inr (7, [.null, .null, .null, .null, .null, .int 0, .int 1, .int 0]))) (fun _ => False) := w_fr.rf.push
        have hH := h.keepE (hfH.mono (fun _ _ z => z.elim))
        have hgH := hH.2.1
        have hqH := w_push_self (M := M) (e := .inr (7, [.null, .null, .null, .null, .null, .int 0, .int 1, .int 0]))
        refine wx_catch [] [] _ rfl (fun z hz => by cases hz) rfl (by decide) q697 q717 88 rfl ?_
        refine wa_astore [(5, _), (0, _), (1, _), (2, _), (3, _), (4, _)] dX1_order_88 (Nat.le_of_ble_eq_true rfl) rfl ?_
        refine wa_aload_n 1 dX1_order_90 rfl rfl ?_
        refine wa_aload 0 dX1_order_91 rfl ?_
        refine wc_A (wr_V dX1_order_93 mX1_91 (sp_keep hH hqH) hgH rfl rfl rfl (Nat.le_of_ble_eq_true rfl)) (fun r93 M93 h93 => ?_)
        obtain ⟨e6, hq6, hs6, hf6⟩ := h93
        refine wa_athrow dX1_order_96 hq6 rfl (wx_out (fun z hz => Or.inl (by rcases List.mem_singleton.mp hz with rfl; rfl)) (Nat.le_of_ble_eq_true rfl) (Nat.le_of_ble_eq_true rfl) ⟨w_fr.trans (hfH.mono (fun _ _ z => z.elim)) hf6, ?_⟩)
        exact ⟨⟨_, rfl⟩, _, _, _, _, hs6⟩
  ·
    refine w_start (by decide) (Nat.le_of_ble_eq_true rfl) (fun X => ?_)
    refine wa_locals [(0, _), (1, _), (2, _), (3, _), (4, _)] [0, 1, 2, 3, 4] rfl ?_
    refine wa_lo2 (fun h0 => ?_)
    refine wa_iload_n 3 dX1_order_0 rfl rfl ?_
    refine wa_iconst (-1) dX1_order_1 (by decide) ?_
    refine wa_icmp_ne 15 dX1_order_2 rfl (fun c2 => ?_) (fun c2 => ?_)
    ·
      refine wa_iconst (0) dX1_order_15 (by decide) ?_
      refine wa_istore [(5, _), (0, _), (1, _), (2, _), (3, _), (4, _)] dX1_order_16 (Nat.le_of_ble_eq_true rfl) rfl ?_
      refine wa_aload_n 1 dX1_order_18 rfl rfl ?_
      refine wa_getf dX1_order_19 gX1_14 hg rfl ?_
      refine wa_iload_n 3 dX1_order_22 rfl rfl ?_
      refine wc_isI (wr_V dX1_order_23 mX1_102 (sp_hasCell hLc hs) hgc rfl rfl rfl (Nat.le_of_ble_eq_true rfl)) ?_
      refine wa_if_eq 46 dX1_order_26 rfl (fun c26 => ?_) (fun c26 => ?_)
      ·
        have i1 := z_not c26
        refine wa_iconst (1) dX1_order_46 (by decide) ?_
        refine wa_goto 51 dX1_order_47 rfl ?_
        refine wa_iconst (1) dX1_order_51 (by decide) ?_
        refine wc_isx (wr_S dX1_order_52 mX1_99 sp_refuse2T rfl rfl rfl (Nat.le_of_ble_eq_true rfl)) ?_
        rw [show z_orderX (z_cur S) due f s t = .inr (1, 0) from if_pos (Or.inl i1)]
        have hfH : w_fr M (M.push (.inr (7, [.null, .null, .null, .null, .null, .int 0, .int 1, .int 0]))) (fun _ => False) := w_fr.rf.push
        have hH := h.keepE (hfH.mono (fun _ _ z => z.elim))
        have hgH := hH.2.1
        have hqH := w_push_self (M := M) (e := .inr (7, [.null, .null, .null, .null, .null, .int 0, .int 1, .int 0]))
        refine wx_catch [] [] _ rfl (fun z hz => by cases hz) rfl (by decide) q697 q717 88 rfl ?_
        refine wa_astore [(5, _), (0, _), (1, _), (2, _), (3, _), (4, _)] dX1_order_88 (Nat.le_of_ble_eq_true rfl) rfl ?_
        refine wa_aload_n 1 dX1_order_90 rfl rfl ?_
        refine wa_aload 0 dX1_order_91 rfl ?_
        refine wc_A (wr_V dX1_order_93 mX1_91 (sp_keep hH hqH) hgH rfl rfl rfl (Nat.le_of_ble_eq_true rfl)) (fun r93 M93 h93 => ?_)
        obtain ⟨e6, hq6, hs6, hf6⟩ := h93
        refine wa_athrow dX1_order_96 hq6 rfl (wx_out (fun z hz => Or.inl (by rcases List.mem_singleton.mp hz with rfl; rfl)) (Nat.le_of_ble_eq_true rfl) (Nat.le_of_ble_eq_true rfl) ⟨w_fr.trans (hfH.mono (fun _ _ z => z.elim)) hf6, ?_⟩)
        exact ⟨⟨_, rfl⟩, _, _, _, _, hs6⟩
      ·
        refine wa_iload 0 dX1_order_29 rfl ?_
        refine wa_if_eq 50 dX1_order_31 rfl (fun c31 => ?_) (fun c31 => absurd (by decide) c31)
        refine wa_iconst (0) dX1_order_50 (by decide) ?_
        refine wa_iconst (1) dX1_order_51 (by decide) ?_
        refine wc_isV (wr_S dX1_order_52 mX1_99 sp_refuse2N rfl rfl rfl (Nat.le_of_ble_eq_true rfl)) ?_
        obtain ⟨j, i1, hj, ej⟩ := z_yes n3 c26
        rw [show z_orderX (z_cur S) due f s t = z_orderC (z_cur S) due (z_linesL f s t) from (if_neg (fun z => by rcases z with z | ⟨z, -⟩; rw [i1] at z; cases z; exact hal z)).trans (if_neg hal)]
        refine wa_iload_n 3 dX1_order_55 rfl rfl ?_
        refine wa_iload_n 4 dX1_order_56 rfl rfl ?_
        refine wa_iload 5 dX1_order_57 rfl ?_
        refine wc_A (wr_S dX1_order_59 mX1_106 (sp_linesN hal) rfl rfl rfl (Nat.le_of_ble_eq_true rfl)) (fun r59 M59 h59 => ?_)
        obtain ⟨e59, hf59, g, hg59, hgl⟩ := h59
        subst e59
        have h59 := h.keepE (hf59.mono (fun _ _ z => z.elim))
        have hg5 := h59.2.1
        obtain ⟨kd, rl, ol, sg, ra, oa, ras, oas, hL⟩ := h59.2.2.1
        have hgc5 := hL.2.1
        have h05 : w_ad G 0 < M59.sz := Nat.lt_of_lt_of_le h0 hf59.1
        refine wa_astore [(6, _), (5, _), (0, _), (1, _), (2, _), (3, _), (4, _)] dX1_order_62 (Nat.le_of_ble_eq_true rfl) rfl ?_
        refine wa_aload_n 2 dX1_order_64 rfl rfl ?_
        refine wa_getf dX1_order_65 gX1_14 hg5 rfl ?_
        refine wc_A (wr_V dX1_order_68 mX1_80 (sp_C_copy hL hs) hgc5 rfl rfl rfl (Nat.le_of_ble_eq_true rfl)) (fun r68 M68 h68 => ?_)
        obtain ⟨e4, ⟨rl', ol', sg', ra', oa', ras', oas', hL4, how⟩, hf4⟩ := h68
        subst e4
        have hg4 := hL4.2.1
        have hop := sp_C_order (l := l) (s0 := M59.sz) (due := due) (la := M.sz) (ls := z_linesL f s t) hL4 hs (how) (fun q z => Or.inr z) hf4.1 (Or.inl (h.fresh h0 (Nat.le_refl _))) (fun q => by have := how.2.2.2.1; have := w_lt hg59; omega) (hf4.2 _ _ hg59 id) hgl hl3
        cases hres : z_orderC (z_cur S) due (z_linesL f s t) with
        | inl p =>
          obtain ⟨r, c'⟩ := p
          have hop2 : w_S l G tX2_order _ _ _ (w_rI (fun v N => v = r ∧ w_fr M68 N (fun q => M59.sz ≤ q) ∧ z_core G N (fun q => z_cm E x bl ba tx q ∨ M59.sz ≤ q) M59.sz c')) := hop.mono (fun o N z => by obtain ⟨z1, z2⟩ := z; rw [hres] at z2; exact ⟨r, z2.1, rfl, z1, z2.2⟩)
          refine wa_astore [(7, _), (6, _), (5, _), (0, _), (1, _), (2, _), (3, _), (4, _)] dX1_order_71 (Nat.le_of_ble_eq_true rfl) rfl ?_
          refine wa_aload_n 3 dX1_order_73 rfl rfl ?_
          refine wa_aload 0 dX1_order_74 rfl ?_
          refine wa_aload 0 dX1_order_76 rfl ?_
          refine wa_iload_n 4 dX1_order_78 rfl rfl ?_
          refine wa_aload 1 dX1_order_79 rfl ?_
          refine wc_I (wr_V dX1_order_81 mX1_110 hop2 hg4 rfl rfl rfl (Nat.le_of_ble_eq_true rfl)) (fun r81 M81 h81 => ?_)
          obtain ⟨e5, hf5, hc5⟩ := h81
          subst e5
          have hfN : w_fr M59 M81 (fun _ => False) := z_frN hf4 hf5
          have hN := h59.keepE (hfN.mono (fun _ _ z => z.elim))
          have hcN := h59.commit h05 hc5
          have hgN := hN.2.1
          refine wc_I (wr_V dX1_order_84 mX1_87 (sp_come hN hcN) hgN rfl rfl rfl (Nat.le_of_ble_eq_true rfl)) (fun r84 M84 h84 => ?_)
          obtain ⟨e6, hs6, hf6⟩ := h84
          subst e6
          refine wa_iret FieldType.int dX1_order_87 rfl rfl (Nat.le_of_ble_eq_true rfl) (Nat.le_of_ble_eq_true rfl) ?_
          refine ⟨w_fr.trans ((hf59.trans hfN).mono (fun _ _ z => z.elim)) hf6, ?_⟩
          exact ⟨rfl, hs6⟩
        | inr p =>
          obtain ⟨rs, dt⟩ := p
          have hop2 : w_S l G tX2_order _ _ _ (w_rX "RobotAisles$RefusedException" (fun q N => w_fr M68 N (fun q => M59.sz ≤ q) ∧ N.get q = some (.inr (7, [.null, .null, .null, .null, .null, .int 0, .int rs, .int dt])))) := hop.mono (fun o N z => by obtain ⟨z1, z2⟩ := z; rw [hres] at z2; obtain ⟨q, z3, z4⟩ := z2; exact ⟨q, z3, z1, z4⟩)
          refine wa_astore [(7, _), (6, _), (5, _), (0, _), (1, _), (2, _), (3, _), (4, _)] dX1_order_71 (Nat.le_of_ble_eq_true rfl) rfl ?_
          refine wa_aload_n 3 dX1_order_73 rfl rfl ?_
          refine wa_aload 0 dX1_order_74 rfl ?_
          refine wa_aload 0 dX1_order_76 rfl ?_
          refine wa_iload_n 4 dX1_order_78 rfl rfl ?_
          refine wa_aload 1 dX1_order_79 rfl ?_
          refine wc_X (wr_V dX1_order_81 mX1_110 hop2 hg4 rfl rfl rfl (Nat.le_of_ble_eq_true rfl)) (fun q81 M81 h81 => ?_)
          obtain ⟨hf5, hqH⟩ := h81
          have hfH : w_fr M M81 (fun _ => False) := hf59.trans (z_frN hf4 hf5)
          have hH := h.keepE (hfH.mono (fun _ _ z => z.elim))
          have hgH := hH.2.1
          refine wx_catch [] [] _ rfl (fun z hz => by cases hz) rfl (by decide) q697 q717 88 rfl ?_
          refine wa_astore [(5, _), (7, _), (6, _), (0, _), (1, _), (2, _), (3, _), (4, _)] dX1_order_88 (Nat.le_of_ble_eq_true rfl) rfl ?_
          refine wa_aload_n 3 dX1_order_90 rfl rfl ?_
          refine wa_aload 0 dX1_order_91 rfl ?_
          refine wc_A (wr_V dX1_order_93 mX1_91 (sp_keep hH hqH) hgH rfl rfl rfl (Nat.le_of_ble_eq_true rfl)) (fun r93 M93 h93 => ?_)
          obtain ⟨e6, hq6, hs6, hf6⟩ := h93
          refine wa_athrow dX1_order_96 hq6 rfl (wx_out (fun z hz => Or.inl (by rcases List.mem_singleton.mp hz with rfl; rfl)) (Nat.le_of_ble_eq_true rfl) (Nat.le_of_ble_eq_true rfl) ⟨w_fr.trans (hfH.mono (fun _ _ z => z.elim)) hf6, ?_⟩)
          exact ⟨⟨_, rfl⟩, _, _, _, _, hs6⟩
    ·
      refine wa_iload 4 dX1_order_5 rfl ?_
      refine wa_iconst (-1) dX1_order_7 (by decide) ?_
      refine wa_icmp_eq 15 dX1_order_8 rfl (fun c8 => ?_) (fun c8 => ?_)
      ·
        refine wa_iconst (0) dX1_order_15 (by decide) ?_
        refine wa_istore [(5, _), (0, _), (1, _), (2, _), (3, _), (4, _)] dX1_order_16 (Nat.le_of_ble_eq_true rfl) rfl ?_
        refine wa_aload_n 1 dX1_order_18 rfl rfl ?_
        refine wa_getf dX1_order_19 gX1_14 hg rfl ?_
        refine wa_iload_n 3 dX1_order_22 rfl rfl ?_
        refine wc_isI (wr_V dX1_order_23 mX1_102 (sp_hasCell hLc hs) hgc rfl rfl rfl (Nat.le_of_ble_eq_true rfl)) ?_
        refine wa_if_eq 46 dX1_order_26 rfl (fun c26 => ?_) (fun c26 => ?_)
        ·
          have i1 := z_not c26
          refine wa_iconst (1) dX1_order_46 (by decide) ?_
          refine wa_goto 51 dX1_order_47 rfl ?_
          refine wa_iconst (1) dX1_order_51 (by decide) ?_
          refine wc_isx (wr_S dX1_order_52 mX1_99 sp_refuse2T rfl rfl rfl (Nat.le_of_ble_eq_true rfl)) ?_
          rw [show z_orderX (z_cur S) due f s t = .inr (1, 0) from if_pos (Or.inl i1)]
          have hfH : w_fr M (M.push (.inr (7, [.null, .null, .null, .null, .null, .int 0, .int 1, .int 0]))) (fun _ => False) := w_fr.rf.push
          have hH := h.keepE (hfH.mono (fun _ _ z => z.elim))
          have hgH := hH.2.1
          have hqH := w_push_self (M := M) (e := .inr (7, [.null, .null, .null, .null, .null, .int 0, .int 1, .int 0]))
          refine wx_catch [] [] _ rfl (fun z hz => by cases hz) rfl (by decide) q697 q717 88 rfl ?_
          refine wa_astore [(5, _), (0, _), (1, _), (2, _), (3, _), (4, _)] dX1_order_88 (Nat.le_of_ble_eq_true rfl) rfl ?_
          refine wa_aload_n 1 dX1_order_90 rfl rfl ?_
          refine wa_aload 0 dX1_order_91 rfl ?_
          refine wc_A (wr_V dX1_order_93 mX1_91 (sp_keep hH hqH) hgH rfl rfl rfl (Nat.le_of_ble_eq_true rfl)) (fun r93 M93 h93 => ?_)
          obtain ⟨e6, hq6, hs6, hf6⟩ := h93
          refine wa_athrow dX1_order_96 hq6 rfl (wx_out (fun z hz => Or.inl (by rcases List.mem_singleton.mp hz with rfl; rfl)) (Nat.le_of_ble_eq_true rfl) (Nat.le_of_ble_eq_true rfl) ⟨w_fr.trans (hfH.mono (fun _ _ z => z.elim)) hf6, ?_⟩)
          exact ⟨⟨_, rfl⟩, _, _, _, _, hs6⟩
        ·
          refine wa_iload 0 dX1_order_29 rfl ?_
          refine wa_if_eq 50 dX1_order_31 rfl (fun c31 => ?_) (fun c31 => absurd (by decide) c31)
          refine wa_iconst (0) dX1_order_50 (by decide) ?_
          refine wa_iconst (1) dX1_order_51 (by decide) ?_
          refine wc_isV (wr_S dX1_order_52 mX1_99 sp_refuse2N rfl rfl rfl (Nat.le_of_ble_eq_true rfl)) ?_
          obtain ⟨j, i1, hj, ej⟩ := z_yes n3 c26
          rw [show z_orderX (z_cur S) due f s t = z_orderC (z_cur S) due (z_linesL f s t) from (if_neg (fun z => by rcases z with z | ⟨z, -⟩; rw [i1] at z; cases z; exact hal z)).trans (if_neg hal)]
          refine wa_iload_n 3 dX1_order_55 rfl rfl ?_
          refine wa_iload_n 4 dX1_order_56 rfl rfl ?_
          refine wa_iload 5 dX1_order_57 rfl ?_
          refine wc_A (wr_S dX1_order_59 mX1_106 (sp_linesN hal) rfl rfl rfl (Nat.le_of_ble_eq_true rfl)) (fun r59 M59 h59 => ?_)
          obtain ⟨e59, hf59, g, hg59, hgl⟩ := h59
          subst e59
          have h59 := h.keepE (hf59.mono (fun _ _ z => z.elim))
          have hg5 := h59.2.1
          obtain ⟨kd, rl, ol, sg, ra, oa, ras, oas, hL⟩ := h59.2.2.1
          have hgc5 := hL.2.1
          have h05 : w_ad G 0 < M59.sz := Nat.lt_of_lt_of_le h0 hf59.1
          refine wa_astore [(6, _), (5, _), (0, _), (1, _), (2, _), (3, _), (4, _)] dX1_order_62 (Nat.le_of_ble_eq_true rfl) rfl ?_
          refine wa_aload_n 2 dX1_order_64 rfl rfl ?_
          refine wa_getf dX1_order_65 gX1_14 hg5 rfl ?_
          refine wc_A (wr_V dX1_order_68 mX1_80 (sp_C_copy hL hs) hgc5 rfl rfl rfl (Nat.le_of_ble_eq_true rfl)) (fun r68 M68 h68 => ?_)
          obtain ⟨e4, ⟨rl', ol', sg', ra', oa', ras', oas', hL4, how⟩, hf4⟩ := h68
          subst e4
          have hg4 := hL4.2.1
          have hop := sp_C_order (l := l) (s0 := M59.sz) (due := due) (la := M.sz) (ls := z_linesL f s t) hL4 hs (how) (fun q z => Or.inr z) hf4.1 (Or.inl (h.fresh h0 (Nat.le_refl _))) (fun q => by have := how.2.2.2.1; have := w_lt hg59; omega) (hf4.2 _ _ hg59 id) hgl hl3
          cases hres : z_orderC (z_cur S) due (z_linesL f s t) with
          | inl p =>
            obtain ⟨r, c'⟩ := p
            have hop2 : w_S l G tX2_order _ _ _ (w_rI (fun v N => v = r ∧ w_fr M68 N (fun q => M59.sz ≤ q) ∧ z_core G N (fun q => z_cm E x bl ba tx q ∨ M59.sz ≤ q) M59.sz c')) := hop.mono (fun o N z => by obtain ⟨z1, z2⟩ := z; rw [hres] at z2; exact ⟨r, z2.1, rfl, z1, z2.2⟩)
            refine wa_astore [(7, _), (6, _), (5, _), (0, _), (1, _), (2, _), (3, _), (4, _)] dX1_order_71 (Nat.le_of_ble_eq_true rfl) rfl ?_
            refine wa_aload_n 3 dX1_order_73 rfl rfl ?_
            refine wa_aload 0 dX1_order_74 rfl ?_
            refine wa_aload 0 dX1_order_76 rfl ?_
            refine wa_iload_n 4 dX1_order_78 rfl rfl ?_
            refine wa_aload 1 dX1_order_79 rfl ?_
            refine wc_I (wr_V dX1_order_81 mX1_110 hop2 hg4 rfl rfl rfl (Nat.le_of_ble_eq_true rfl)) (fun r81 M81 h81 => ?_)
            obtain ⟨e5, hf5, hc5⟩ := h81
            subst e5
            have hfN : w_fr M59 M81 (fun _ => False) := z_frN hf4 hf5
            have hN := h59.keepE (hfN.mono (fun _ _ z => z.elim))
            have hcN := h59.commit h05 hc5
            have hgN := hN.2.1
            refine wc_I (wr_V dX1_order_84 mX1_87 (sp_come hN hcN) hgN rfl rfl rfl (Nat.le_of_ble_eq_true rfl)) (fun r84 M84 h84 => ?_)
            obtain ⟨e6, hs6, hf6⟩ := h84
            subst e6
            refine wa_iret FieldType.int dX1_order_87 rfl rfl (Nat.le_of_ble_eq_true rfl) (Nat.le_of_ble_eq_true rfl) ?_
            refine ⟨w_fr.trans ((hf59.trans hfN).mono (fun _ _ z => z.elim)) hf6, ?_⟩
            exact ⟨rfl, hs6⟩
          | inr p =>
            obtain ⟨rs, dt⟩ := p
            have hop2 : w_S l G tX2_order _ _ _ (w_rX "RobotAisles$RefusedException" (fun q N => w_fr M68 N (fun q => M59.sz ≤ q) ∧ N.get q = some (.inr (7, [.null, .null, .null, .null, .null, .int 0, .int rs, .int dt])))) := hop.mono (fun o N z => by obtain ⟨z1, z2⟩ := z; rw [hres] at z2; obtain ⟨q, z3, z4⟩ := z2; exact ⟨q, z3, z1, z4⟩)
            refine wa_astore [(7, _), (6, _), (5, _), (0, _), (1, _), (2, _), (3, _), (4, _)] dX1_order_71 (Nat.le_of_ble_eq_true rfl) rfl ?_
            refine wa_aload_n 3 dX1_order_73 rfl rfl ?_
            refine wa_aload 0 dX1_order_74 rfl ?_
            refine wa_aload 0 dX1_order_76 rfl ?_
            refine wa_iload_n 4 dX1_order_78 rfl rfl ?_
            refine wa_aload 1 dX1_order_79 rfl ?_
            refine wc_X (wr_V dX1_order_81 mX1_110 hop2 hg4 rfl rfl rfl (Nat.le_of_ble_eq_true rfl)) (fun q81 M81 h81 => ?_)
            obtain ⟨hf5, hqH⟩ := h81
            have hfH : w_fr M M81 (fun _ => False) := hf59.trans (z_frN hf4 hf5)
            have hH := h.keepE (hfH.mono (fun _ _ z => z.elim))
            have hgH := hH.2.1
            refine wx_catch [] [] _ rfl (fun z hz => by cases hz) rfl (by decide) q697 q717 88 rfl ?_
            refine wa_astore [(5, _), (7, _), (6, _), (0, _), (1, _), (2, _), (3, _), (4, _)] dX1_order_88 (Nat.le_of_ble_eq_true rfl) rfl ?_
            refine wa_aload_n 3 dX1_order_90 rfl rfl ?_
            refine wa_aload 0 dX1_order_91 rfl ?_
            refine wc_A (wr_V dX1_order_93 mX1_91 (sp_keep hH hqH) hgH rfl rfl rfl (Nat.le_of_ble_eq_true rfl)) (fun r93 M93 h93 => ?_)
            obtain ⟨e6, hq6, hs6, hf6⟩ := h93
            refine wa_athrow dX1_order_96 hq6 rfl (wx_out (fun z hz => Or.inl (by rcases List.mem_singleton.mp hz with rfl; rfl)) (Nat.le_of_ble_eq_true rfl) (Nat.le_of_ble_eq_true rfl) ⟨w_fr.trans (hfH.mono (fun _ _ z => z.elim)) hf6, ?_⟩)
            exact ⟨⟨_, rfl⟩, _, _, _, _, hs6⟩
      ·
        exact absurd ⟨c2, c8⟩ hal
def z_undo (S : z_S) (c : z_C) : z_S := (c, (z_past S).eraseIdx ((z_past S).length - 1), z_sav S, z_why S, z_det S, z_txt S, z_flt S)
def z_save (S : z_S) : z_S := (z_cur S, z_past S, some (z_cur S), z_why S, z_det S, z_txt S, z_flt S)
def z_rest (S : z_S) (c : z_C) : z_S := (c, [], some c, z_why S, z_det S, z_txt S, z_flt S)
def z_app (S : z_S) (v : Int32) : z_S := (z_cur S, z_past S, z_sav S, z_why S, z_det S, z_txt S ++ [v], z_flt S)
/-- a question's or a change's answer: the number and the state then, or the exception of a class -/
def z_anQ (G : w_G) (E : Nat → Prop) (x bl tx : Nat) (M : w_M) (S : z_S) (res : (Value × z_S) ⊕ String) : w_O → w_M → Prop := fun o N => w_fr M N (fun q => ¬ E q) ∧ match res with
  | .inl (v, S') => o = .inl (some v) ∧ z_sys G N E x bl tx S'
  | .inr e => (∃ q, o = .inr (e, q)) ∧ z_sys G N E x bl tx S
theorem z_anN {res : (Value × z_S) ⊕ String} {e : String} {N : w_M} {q : Nat} (h : z_sys G M E x bl tx S) (hr : res = .inr e) (hf : w_fr M N (fun _ => False)) : z_anQ G E x bl tx M S res (.inr (e, q)) N := by
  rw [hr]
  exact ⟨hf.mono (fun _ _ z => z.elim), ⟨_, rfl⟩, h.keepE (hf.mono (fun _ _ z => z.elim))⟩
theorem z_anY {res : (Value × z_S) ⊕ String} {v : Value} {S' : z_S} {N : w_M} (h : z_sys G N E x bl tx S') (hr : res = .inl (v, S')) (hf : w_fr M N (fun q => ¬ E q)) : z_anQ G E x bl tx M S res (.inl (some v)) N := by
  rw [hr]
  exact ⟨hf, rfl, h⟩
def z_undoX (S : z_S) : (Value × z_S) ⊕ String := match (z_past S)[(z_past S).length - 1]? with
  | none => .inr "java/lang/IllegalStateException"
  | some c => .inl (.int (nI ((z_past S).length - 1)), z_undo S c)
def z_restX (S : z_S) : (Value × z_S) ⊕ String := match z_sav S with
  | none => .inr "java/lang/IllegalStateException"
  | some c => .inl (.int (nI (z_robs c).length), z_rest S c)
def z_appX (S : z_S) (v : Int32) : (Value × z_S) ⊕ String := if (z_txt S).length < 60 then .inl (.int (nI ((z_txt S).length + 1)), z_app S v) else .inr "java/lang/IllegalStateException"
def z_whyX (S : z_S) (b : Int32) : (Value × z_S) ⊕ String := if 0 < z_why S then .inl (.int (if b = 0 then z_why S else z_det S), S) else .inr "java/util/NoSuchElementException"
/-- the snapshot taken -/
theorem z_sysL.snap {N : w_M} {cn : Nat} {c' : z_C} (h : z_sysL G M E x bl ba tx ca sv bas S) (hd : ∀ e, M.get (w_ad G 0) ≠ some e) (hf : w_fr M N (fun q => q = x)) (hx : N.get x = some (.inr (0, [.ref ca, .ref bl, .ref cn, .int (z_why S), .int (z_det S), .ref tx, .int (nI (z_txt S).length), .int (z_flt S)]))) (hc : z_core G M (z_cm E x bl ba tx) cn c') : z_sysL G N E x bl ba tx ca (some cn) bas (z_cur S, z_past S, some c', z_why S, z_det S, z_txt S, z_flt S) := by
  have hdx : ¬ w_ad G 0 = x := fun q => hd _ (by rw [q]; exact h.2.1)
  obtain ⟨⟨e1, e2, e3, e4, e5, e6⟩, h1, h2, h3, h4, h5, h6, h7, h8, f, h9, h10⟩ := h
  have hw : ∀ q, z_cm E x bl ba tx q → ¬ q = x := fun q z e => z (Or.inl e)
  have hbl : ¬ bl = x := w_neC h3.choose_spec.1 h1 (by decide)
  have htx : ¬ tx = x := (w_neA h1 h9).symm
  refine ⟨⟨fun q z => Nat.lt_of_lt_of_le (e1 q z) hf.1, e2, e3, e4, e5, e6⟩, hx, h2.keep hf hw hdx, h3.keep2 hf hbl (fun e he q => ?_), h4, h5, fun i y c z1 z2 => (h6 i y c z1 z2).keep hf hw hdx, ⟨c', rfl, hc.keep hf hw hdx⟩, h8, f, hf.2 _ _ h9 htx, h10⟩
  obtain ⟨md, q1, q2, q3⟩ := h3
  rcases q3 with ⟨q3, -⟩ | ⟨g, q3, -⟩
  · exact hdx (by rw [← q3]; exact q)
  · rw [q] at q3
    exact w_neA h1 q3 rfl
/-- a char put behind the text -/
theorem z_sysL.char {N : w_M} {v : Int32} {f : Nat → Int32} (h : z_sysL G M E x bl ba tx ca sv bas S) (hd : ∀ e, M.get (w_ad G 0) ≠ some e) (hlt : (z_txt S).length < 60) (hf : w_fr M N (fun q => q = x ∨ q = tx)) (hx : N.get x = some (.inr (0, [.ref ca, .ref bl, va_rf sv, .int (z_why S), .int (z_det S), .ref tx, .int (nI ((z_txt S).length + 1)), .int (z_flt S)]))) (ht : M.get tx = some (.inl (.char, 60, .inl f))) (ht2 : N.get tx = some (.inl (.char, 60, .inl (upd f (z_txt S).length v)))) : z_sysL G N E x bl ba tx ca sv bas (z_app S v) := by
  have hdx : ¬ w_ad G 0 = x := fun q => hd _ (by rw [q]; exact h.2.1)
  have hdt : ¬ w_ad G 0 = tx := fun q => hd _ (by rw [q]; exact ht)
  obtain ⟨⟨e1, e2, e3, e4, e5, e6⟩, h1, h2, h3, h4, h5, h6, h7, h8, g, h9, h10⟩ := h
  have hd2 : ¬ (w_ad G 0 = x ∨ w_ad G 0 = tx) := fun z => z.elim hdx hdt
  have hw : ∀ q, z_cm E x bl ba tx q → ¬ (q = x ∨ q = tx) := fun q z e => z (e.elim Or.inl (fun e => Or.inr (Or.inr (Or.inr (Or.inl e)))))
  have hbl : ¬ (bl = x ∨ bl = tx) := fun z => z.elim (w_neC h3.choose_spec.1 h1 (by decide)) (w_neA h3.choose_spec.1 ht)
  have eg : g = f := by
    have e := h9.symm.trans ht
    simp only [Option.some.injEq, Sum.inl.injEq, Prod.mk.injEq, true_and] at e
    exact e
  subst eg
  refine ⟨⟨fun q z => Nat.lt_of_lt_of_le (e1 q z) hf.1, e2, e3, e4, e5, e6⟩, ?_, h2.keep hf hw hd2, h3.keep2 hf hbl (fun e he q => ?_), h4, h5, fun i y c z1 z2 => (h6 i y c z1 z2).keep hf hw hd2, ?_, ?_, _, ht2, fun i y hi => ?_⟩
  · rw [show (z_txt (z_app S v)).length = (z_txt S).length + 1 from List.length_append]
    exact hx
  · obtain ⟨md, q1, q2, q3⟩ := h3
    rcases q3 with ⟨q3, -⟩ | ⟨g, q3, -⟩
    · exact hd2 (by rw [← q3]; exact q)
    · rcases q with q | q
      · rw [q] at q3
        exact w_neA h1 q3 rfl
      · rw [q] at q3
        exact w_neT ht q3 (by decide) rfl
  · cases sv with
    | none => exact h7
    | some y =>
      obtain ⟨c, z1, z2⟩ := h7
      exact ⟨c, z1, z2.keep hf hw hd2⟩
  · show (z_txt S ++ [v]).length ≤ 60
    rw [List.length_append]
    simp only [List.length_cons, List.length_nil]
    omega
  · have hi : (z_txt S ++ [v])[i]? = some y := hi
    by_cases e : i = (z_txt S).length
    · subst e
      rw [List.getElem?_append_right (Nat.le_refl _), Nat.sub_self] at hi
      cases hi
      exact if_pos rfl
    · have hlt2 : i < (z_txt S).length := by have := (List.getElem?_eq_some_iff.mp hi).1; rw [List.length_append] at this; simp only [List.length_cons, List.length_nil] at this; omega
      rw [List.getElem?_append_left hlt2] at hi
      rw [show upd g (z_txt S).length v i = g i from if_neg e]
      exact h10 i y hi
theorem sp_X1_undo (hS : z_sys G M E x bl tx S) : w_S l G tX1_undo (7, 1, 6) [.ref x] M (z_anQ G E x bl tx M S (z_undoX S)) := by
  have hS0 := hS
  obtain ⟨ba, ca, sv, bas, h⟩ := hS
  have hg := h.2.1
  have hal := h.2.2.2.1
  have hgl := hal.choose_spec.1
  have hl : bas.length = (z_past S).length := h.2.2.2.2.1
  have h8 := h.2.2.2.2.2.1
  by_cases h0 : (z_past S).length = 0
  · have hr : z_undoX S = .inr "java/lang/IllegalStateException" := by
      unfold z_undoX
      rw [List.getElem?_eq_none (by omega)]
    have hem := sp_isEmpty (l := l) hal
    rw [if_pos (by omega)] at hem
    refine w_start (by decide) (Nat.le_of_ble_eq_true rfl) (fun X => ?_)
    refine wa_locals [(0, _)] [0] rfl ?_
    refine wa_aload_n 0 dX1_undo_0 rfl rfl ?_
    refine wa_getf dX1_undo_1 gX1_21 hg rfl ?_
    refine wc_isI (wr_V dX1_undo_4 mX1_377 hem hgl rfl rfl rfl (Nat.le_of_ble_eq_true rfl)) ?_
    refine wa_if_ne 14 dX1_undo_7 rfl (fun c7 => ?_) (fun c7 => absurd c7 (by decide))
    refine wa_iconst (0) dX1_undo_14 (by decide) ?_
    refine wc_isx (wr_S dX1_undo_15 mX1_141 sp_requireStateT rfl rfl rfl (Nat.le_of_ble_eq_true rfl)) ?_
    exact wx_out (fun _ h => by cases h) (Nat.le_of_ble_eq_true rfl) (Nat.le_of_ble_eq_true rfl) (z_anN hS0 hr w_fr.rf.push)
  · obtain ⟨c, hc⟩ : ∃ c, (z_past S)[(z_past S).length - 1]? = some c := ⟨_, List.getElem?_eq_getElem (by omega)⟩
    obtain ⟨b, hb⟩ : ∃ b, bas[(z_past S).length - 1]? = some b := ⟨_, List.getElem?_eq_getElem (by omega)⟩
    have hcb := h.2.2.2.2.2.2.1 _ b c hb hc
    have hr : z_undoX S = .inl (.int (nI ((z_past S).length - 1)), z_undo S c) := by
      unfold z_undoX
      rw [hc]
    have hem := sp_isEmpty (l := l) hal
    rw [if_neg (by omega)] at hem
    have hpr : nI bas.length - 1 = nI ((z_past S).length - 1) := by
      rw [hl]
      obtain ⟨m, hm⟩ : ∃ m, (z_past S).length = m + 1 := ⟨(z_past S).length - 1, by omega⟩
      rw [hm]
      exact nI_pred m
    refine w_start (by decide) (Nat.le_of_ble_eq_true rfl) (fun X => ?_)
    refine wa_locals [(0, _)] [0] rfl ?_
    refine wa_aload_n 0 dX1_undo_0 rfl rfl ?_
    refine wa_getf dX1_undo_1 gX1_21 hg rfl ?_
    refine wc_isI (wr_V dX1_undo_4 mX1_377 hem hgl rfl rfl rfl (Nat.le_of_ble_eq_true rfl)) ?_
    refine wa_if_ne 14 dX1_undo_7 rfl (fun c7 => absurd (by decide) c7) (fun c7 => ?_)
    refine wa_iconst (1) dX1_undo_10 (by decide) ?_
    refine wa_goto 15 dX1_undo_11 rfl ?_
    refine wc_isV (wr_S dX1_undo_15 mX1_141 sp_requireStateN rfl rfl rfl (Nat.le_of_ble_eq_true rfl)) ?_
    refine wa_aload_n 0 dX1_undo_18 rfl rfl ?_
    refine wa_aload_n 0 dX1_undo_19 rfl rfl ?_
    refine wa_getf dX1_undo_20 gX1_21 hg rfl ?_
    refine wa_aload_n 0 dX1_undo_23 rfl rfl ?_
    refine wa_getf dX1_undo_24 gX1_21 hg rfl ?_
    refine wc_isI (wr_V dX1_undo_27 mX1_68 (sp_size hal) hgl rfl rfl rfl (Nat.le_of_ble_eq_true rfl)) ?_
    refine wa_iconst (1) dX1_undo_30 (by decide) ?_
    refine wa_isub dX1_undo_31 ?_
    rw [hpr]
    refine wa_lo (fun lo hd => ?_)
    refine wc_A (wr_V dX1_undo_32 mX1_72 (sp_removeE hal (fun y q => (z_basEl h y q).1) (fun y q => (z_basEl h y q).2) hb) hgl rfl rfl rfl (Nat.le_of_ble_eq_true rfl)) (fun r32 M32 h32 => ?_)
    obtain ⟨e32, hal1, hf1⟩ := h32
    subst e32
    have hN := h.list hd hf1 hal1 (Or.inl rfl) (ps := (z_past S).eraseIdx ((z_past S).length - 1)) (by rw [List.length_eraseIdx_of_lt (by omega), List.length_eraseIdx_of_lt (by omega), hl]) (by rw [List.length_eraseIdx_of_lt (by omega)]; omega) (fun i y c h1 h2 => by
      have hi : i < (z_past S).length - 1 := by have := (List.getElem?_eq_some_iff.mp h2).1; rw [List.length_eraseIdx_of_lt (by omega)] at this; exact this
      rw [List.getElem?_eraseIdx_of_lt hi] at h1 h2
      exact h.2.2.2.2.2.2.1 i y c h1 h2)
    have hcN := h.listK hd hf1 (Or.inl rfl) hcb
    have hfN := z_frB hf1 h.1.2.2.1 h.1.2.2.2.1
    have hg1 := hN.2.1
    obtain ⟨cfs, hcg, -⟩ := hcN.lt
    refine wa_castS dX1_undo_35 q128 hcg rfl ?_
    refine wa_lo (fun lo2 hd2 => ?_)
    refine wa_putf [_, _, _, _, _, _, _, _] dX1_undo_38 pX1_14 hg1 (Nat.le_of_ble_eq_true rfl) rfl rfl rfl ?_
    have hN3 := hN.cur hd2 w_fr_me (w_set_self hg1) hcN
    have hg3 := hN3.2.1
    have hal3 := hN3.2.2.2.1
    refine wa_aload_n 0 dX1_undo_41 rfl rfl ?_
    refine wa_getf dX1_undo_42 gX1_21 hg3 rfl ?_
    refine wc_isI (wr_V dX1_undo_45 mX1_68 (sp_size hal3) hal3.choose_spec.1 rfl rfl rfl (Nat.le_of_ble_eq_true rfl)) ?_
    refine wa_iret FieldType.int dX1_undo_48 rfl rfl (Nat.le_of_ble_eq_true rfl) (Nat.le_of_ble_eq_true rfl) ?_
    have hlen : (bas.eraseIdx ((z_past S).length - 1)).length = (z_past S).length - 1 := by rw [List.length_eraseIdx_of_lt (by omega), hl]
    rw [hlen]
    exact z_anY ⟨_, _, _, _, hN3⟩ hr (w_fr.trans hfN (z_frX w_fr_me hN.1.2.1))
theorem sp_X1_save (hS : z_sys G M E x bl tx S) (hs : z_small (z_cur S)) : w_S l G tX1_save (8, 36, 279) [.ref x] M (z_anQ G E x bl tx M S (.inl (.int (nI (z_robs (z_cur S)).length), z_save S))) := by
  have hS0 := hS
  obtain ⟨ba, ca, sv, bas, h⟩ := hS
  have hg := h.2.1
  obtain ⟨kd, rl, ol, sg, ra, oa, ras, oas, hL⟩ := h.2.2.1
  have hgc := hL.2.1
  refine w_start (by decide) (Nat.le_of_ble_eq_true rfl) (fun X => ?_)
  refine wa_locals [(0, _)] [0] rfl ?_
  refine wa_lo2 (fun h0 => ?_)
  refine wa_aload_n 0 dX1_save_0 rfl rfl ?_
  refine wa_aload_n 0 dX1_save_1 rfl rfl ?_
  refine wa_getf dX1_save_2 gX1_14 hg rfl ?_
  refine wc_A (wr_V dX1_save_5 mX1_80 (sp_C_copy hL hs) hgc rfl rfl rfl (Nat.le_of_ble_eq_true rfl)) (fun r5 M5 h5 => ?_)
  obtain ⟨e5, ⟨rl', ol', sg', ra', oa', ras', oas', hL4, how⟩, hf4⟩ := h5
  subst e5
  have hN := h.keepE (hf4.mono (fun _ _ z => z.elim))
  have hgN := hN.2.1
  have hcN := h.commit h0 ⟨_, _, _, _, _, _, _, _, hL4⟩
  refine wa_lo (fun lo hd => ?_)
  refine wa_putf [_, _, _, _, _, _, _, _] dX1_save_8 pX1_380 hgN (Nat.le_of_ble_eq_true rfl) rfl rfl rfl ?_
  have hN3 := hN.snap hd w_fr_me (w_set_self hgN) hcN
  have hg3 := hN3.2.1
  obtain ⟨kd3, rl3, ol3, sg3, ra3, oa3, ras3, oas3, hc3⟩ := hN3.2.2.1
  refine wa_aload_n 0 dX1_save_11 rfl rfl ?_
  refine wa_getf dX1_save_12 gX1_14 hg3 rfl ?_
  refine wa_getf dX1_save_15 gX1_227 hc3.2.1 rfl ?_
  refine wc_isI (wr_V dX1_save_18 mX1_68 (sp_size hc3.2.2.2.2.1) hc3.2.2.2.2.1.choose_spec.1 rfl rfl rfl (Nat.le_of_ble_eq_true rfl)) ?_
  refine wa_iret FieldType.int dX1_save_21 rfl rfl (Nat.le_of_ble_eq_true rfl) (Nat.le_of_ble_eq_true rfl) ?_
  rw [show ras3.length = (z_robs (z_cur S)).length from hc3.2.2.2.2.2.2.1]
  exact z_anY ⟨_, _, _, _, hN3⟩ rfl (w_fr.trans (hf4.mono (fun _ _ z => z.elim)) (z_frX w_fr_me hN.1.2.1))
theorem sp_X1_restore (hS : z_sys G M E x bl tx S) (hs : ∀ c, z_sav S = some c → z_small c) : w_S l G tX1_restore (8, 36, 279) [.ref x] M (z_anQ G E x bl tx M S (z_restX S)) := by
  have hS0 := hS
  obtain ⟨ba, ca, sv, bas, h⟩ := hS
  have hg := h.2.1
  have h7 := h.2.2.2.2.2.2.2.1
  cases sv with
  | none =>
    have hr : z_restX S = .inr "java/lang/IllegalStateException" := by unfold z_restX; rw [show z_sav S = none from h7]
    refine w_start (by decide) (Nat.le_of_ble_eq_true rfl) (fun X => ?_)
    refine wa_locals [(0, _)] [0] rfl ?_
    refine wa_aload_n 0 dX1_restore_0 rfl rfl ?_
    refine wa_getf dX1_restore_1 gX1_380 hg rfl ?_
    refine wa_ifnullN 11 dX1_restore_4 rfl ?_
    refine wa_iconst (0) dX1_restore_11 (by decide) ?_
    refine wc_isx (wr_S dX1_restore_12 mX1_141 sp_requireStateT rfl rfl rfl (Nat.le_of_ble_eq_true rfl)) ?_
    exact wx_out (fun _ h => by cases h) (Nat.le_of_ble_eq_true rfl) (Nat.le_of_ble_eq_true rfl) (z_anN hS0 hr w_fr.rf.push)
  | some y =>
    obtain ⟨c, hsc, hyc⟩ := h7
    have hr : z_restX S = .inl (.int (nI (z_robs c).length), z_rest S c) := by unfold z_restX; rw [hsc]
    obtain ⟨kd, rl, ol, sg, ra, oa, ras, oas, hL⟩ := hyc
    have hgc := hL.2.1
    refine w_start (by decide) (Nat.le_of_ble_eq_true rfl) (fun X => ?_)
    refine wa_locals [(0, _)] [0] rfl ?_
    refine wa_lo2 (fun h0 => ?_)
    refine wa_aload_n 0 dX1_restore_0 rfl rfl ?_
    refine wa_getf dX1_restore_1 gX1_380 hg rfl ?_
    refine wa_ifnull dX1_restore_4 ?_
    refine wa_iconst (1) dX1_restore_7 (by decide) ?_
    refine wa_goto 12 dX1_restore_8 rfl ?_
    refine wc_isV (wr_S dX1_restore_12 mX1_141 sp_requireStateN rfl rfl rfl (Nat.le_of_ble_eq_true rfl)) ?_
    refine wa_aload_n 0 dX1_restore_15 rfl rfl ?_
    refine wa_aload_n 0 dX1_restore_16 rfl rfl ?_
    refine wa_getf dX1_restore_17 gX1_380 hg rfl ?_
    refine wc_A (wr_V dX1_restore_20 mX1_80 (sp_C_copy hL (hs c hsc)) hgc rfl rfl rfl (Nat.le_of_ble_eq_true rfl)) (fun r20 M20 h20 => ?_)
    obtain ⟨e5, ⟨rl', ol', sg', ra', oa', ras', oas', hL4, how⟩, hf4⟩ := h20
    subst e5
    have hN := h.keepE (hf4.mono (fun _ _ z => z.elim))
    have hgN := hN.2.1
    have hcN := h.commit h0 ⟨_, _, _, _, _, _, _, _, hL4⟩
    refine wa_lo (fun lo hd => ?_)
    refine wa_putf [_, _, _, _, _, _, _, _] dX1_restore_23 pX1_14 hgN (Nat.le_of_ble_eq_true rfl) rfl rfl rfl ?_
    have hN3 := hN.cur hd w_fr_me (w_set_self hgN) hcN
    have hg3 := hN3.2.1
    refine wa_aload_n 0 dX1_restore_26 rfl rfl ?_
    refine wa_getf dX1_restore_27 gX1_21 hg3 rfl ?_
    refine wa_lo (fun lo3 hd3 => ?_)
    refine wc_V (wr_V dX1_restore_30 mX1_383 (sp_clear hN3.2.2.2.1) hN3.2.2.2.1.choose_spec.1 rfl rfl rfl (Nat.le_of_ble_eq_true rfl)) (fun M30 h30 => ?_)
    obtain ⟨hal5, hf5⟩ := h30
    have hN5 := hN3.list hd3 hf5 hal5 (Or.inl rfl) (ps := []) rfl (Nat.zero_le _) (fun i y c h1 _ => by cases h1)
    obtain ⟨kd5, rl5, ol5, sg5, ra5, oa5, ras5, oas5, hc5⟩ := hN5.2.2.1
    refine wa_aload_n 0 dX1_restore_33 rfl rfl ?_
    refine wa_getf dX1_restore_34 gX1_14 hN5.2.1 rfl ?_
    refine wa_getf dX1_restore_37 gX1_227 hc5.2.1 rfl ?_
    refine wc_isI (wr_V dX1_restore_40 mX1_68 (sp_size hc5.2.2.2.2.1) hc5.2.2.2.2.1.choose_spec.1 rfl rfl rfl (Nat.le_of_ble_eq_true rfl)) ?_
    refine wa_iret FieldType.int dX1_restore_43 rfl rfl (Nat.le_of_ble_eq_true rfl) (Nat.le_of_ble_eq_true rfl) ?_
    rw [show ras5.length = (z_robs c).length from hc5.2.2.2.2.2.2.1]
    have e : z_rest S c = (c, [], z_sav S, z_why S, z_det S, z_txt S, z_flt S) := by unfold z_rest; rw [hsc]
    have hN6 : z_sysL G M30 E x bl ba tx M.sz (some y) [] (z_rest S c) := by rw [e]; exact hN5
    exact z_anY ⟨_, _, _, _, hN6⟩ hr (w_fr.trans (hf4.mono (fun _ _ z => z.elim)) (w_fr.trans (z_frX w_fr_me hN.1.2.1) (z_frB hf5 hN.1.2.2.1 hN.1.2.2.2.1)))
theorem sp_X1_append (hS : z_sys G M E x bl tx S) {v : Int32} (hv : vp_nar .char v = v) : w_S l G tX1_append (7, 1, 6) [.ref x, .int v] M (z_anQ G E x bl tx M S (z_appX S v)) := by
  have hS0 := hS
  obtain ⟨ba, ca, sv, bas, h⟩ := hS
  have hg := h.2.1
  obtain ⟨-, -, -, -, -, -, -, -, h60, f, ht, hft⟩ := id h
  have hxt : x ≠ tx := w_neA hg ht
  have en : nI (z_txt S).length + 1 = nI ((z_txt S).length + 1) := nI_1 _
  refine w_start (by decide) (Nat.le_of_ble_eq_true rfl) (fun X => ?_)
  refine wa_locals [(0, _), (1, _)] [0, 1] rfl ?_
  refine wa_lo (fun lo hd => ?_)
  refine wa_aload_n 0 dX1_append_0 rfl rfl ?_
  refine wa_getf dX1_append_1 gX1_138 hg rfl ?_
  refine wa_bipush (60) dX1_append_4 (by decide) ?_
  refine wa_icmp_ge 13 dX1_append_6 rfl (fun c6 => ?_) (fun c6 => ?_)
  ·
    have hlt : ¬ (z_txt S).length < 60 := fun w => by have := (nI_leI (a := 60) (by decide) (by omega)).mp c6; omega
    have hr : z_appX S v = .inr "java/lang/IllegalStateException" := if_neg hlt
    refine wa_iconst (0) dX1_append_13 (by decide) ?_
    refine wc_isx (wr_S dX1_append_14 mX1_141 sp_requireStateT rfl rfl rfl (Nat.le_of_ble_eq_true rfl)) ?_
    exact wx_out (fun _ h => by cases h) (Nat.le_of_ble_eq_true rfl) (Nat.le_of_ble_eq_true rfl) (z_anN hS0 hr w_fr.rf.push)
  ·
    have hlt : (z_txt S).length < 60 := Classical.byContradiction fun w => c6 (nI_le (a := 60) (by omega) (by omega))
    have hr : z_appX S v = .inl (.int (nI ((z_txt S).length + 1)), z_app S v) := if_pos hlt
    refine wa_iconst (1) dX1_append_9 (by decide) ?_
    refine wa_goto 14 dX1_append_10 rfl ?_
    refine wc_isV (wr_S dX1_append_14 mX1_141 sp_requireStateN rfl rfl rfl (Nat.le_of_ble_eq_true rfl)) ?_
    refine wa_aload_n 0 dX1_append_17 rfl rfl ?_
    refine wa_getf dX1_append_18 gX1_25 hg rfl ?_
    refine wa_aload_n 0 dX1_append_21 rfl rfl ?_
    refine wa_getf dX1_append_22 gX1_138 hg rfl ?_
    refine wa_iload_n 1 dX1_append_25 rfl rfl ?_
    refine wa_cast dX1_append_26 ht (vp_in_nI hlt (by decide)) ?_
    rw [nI_clamp (by omega), hv]
    have hg2 := w_sne (e := .inl (.char, 60, .inl (upd f (z_txt S).length v))) hg hxt
    refine wa_aload_n 0 dX1_append_27 rfl rfl ?_
    refine wa_dup dX1_append_28 rfl ?_
    refine wa_getf dX1_append_29 gX1_138 hg2 rfl ?_
    refine wa_iconst (1) dX1_append_32 (by decide) ?_
    refine wa_iadd dX1_append_33 ?_
    rw [en]
    refine wa_putf [_, _, _, _, _, _, _, _] dX1_append_34 pX1_138 hg2 (Nat.le_of_ble_eq_true rfl) rfl rfl rfl ?_
    have hN := h.char hd hlt (w_fr.set (W := fun q => q = x ∨ q = tx) (w_fr.set (W := fun q => q = x ∨ q = tx) w_fr.rf (Or.inr rfl)) (Or.inl rfl)) (w_set_self hg2) ht (w_sne (w_set_self ht) hxt.symm)
    refine wa_aload_n 0 dX1_append_37 rfl rfl ?_
    refine wa_getf dX1_append_38 gX1_138 (w_set_self hg2) rfl ?_
    refine wa_iret FieldType.int dX1_append_41 rfl rfl (Nat.le_of_ble_eq_true rfl) (Nat.le_of_ble_eq_true rfl) ?_
    exact z_anY ⟨_, _, _, _, hN⟩ hr ((w_fr.set (W := fun q => q = x ∨ q = tx) (w_fr.set (W := fun q => q = x ∨ q = tx) w_fr.rf (Or.inr rfl)) (Or.inl rfl)).mono (fun q _ e => by rcases e with rfl | rfl <;> first | exact h.1.2.1 | exact h.1.2.2.2.2.1))
theorem sp_X1_reason (hS : z_sys G M E x bl tx S) {b : Int32} : w_S l G tX1_reason (7, 1, 6) [.ref x, .int b] M (z_anQ G E x bl tx M S (z_whyX S b)) := by
  have hS0 := hS
  obtain ⟨ba, ca, sv, bas, h⟩ := hS
  have hg := h.2.1
  refine w_start (by decide) (Nat.le_of_ble_eq_true rfl) (fun X => ?_)
  refine wa_locals [(0, _), (1, _)] [0, 1] rfl ?_
  refine wa_aload_n 0 dX1_reason_0 rfl rfl ?_
  refine wa_getf dX1_reason_1 gX1_60 hg rfl ?_
  refine wa_if_le 11 dX1_reason_4 rfl (fun c4 => ?_) (fun c4 => ?_)
  ·
    have hlt : ¬ 0 < z_why S := Int32.not_lt.mpr c4
    refine wa_iconst (0) dX1_reason_11 (by decide) ?_
    refine wc_isx (wr_S dX1_reason_12 mX1_169 sp_requireElementT rfl rfl rfl (Nat.le_of_ble_eq_true rfl)) ?_
    exact wx_out (fun _ h => by cases h) (Nat.le_of_ble_eq_true rfl) (Nat.le_of_ble_eq_true rfl) (z_anN hS0 (if_neg hlt) w_fr.rf.push)
  ·
    have hlt : 0 < z_why S := Int32.not_le.mp c4
    refine wa_iconst (1) dX1_reason_7 (by decide) ?_
    refine wa_goto 12 dX1_reason_8 rfl ?_
    refine wc_isV (wr_S dX1_reason_12 mX1_169 sp_requireElementN rfl rfl rfl (Nat.le_of_ble_eq_true rfl)) ?_
    refine wa_iload_n 1 dX1_reason_15 rfl rfl ?_
    refine wa_if_eq 26 dX1_reason_16 rfl (fun c16 => ?_) (fun c16 => ?_)
    ·
      refine wa_aload_n 0 dX1_reason_26 rfl rfl ?_
      refine wa_getf dX1_reason_27 gX1_60 hg rfl ?_
      refine wa_iret FieldType.int dX1_reason_30 rfl rfl (Nat.le_of_ble_eq_true rfl) (Nat.le_of_ble_eq_true rfl) ?_
      exact z_anY hS0 (by unfold z_whyX; rw [if_pos hlt, if_pos c16]) w_fr.rf
    ·
      refine wa_aload_n 0 dX1_reason_19 rfl rfl ?_
      refine wa_getf dX1_reason_20 gX1_64 hg rfl ?_
      refine wa_goto 30 dX1_reason_23 rfl ?_
      refine wa_iret FieldType.int dX1_reason_30 rfl rfl (Nat.le_of_ble_eq_true rfl) (Nat.le_of_ble_eq_true rfl) ?_
      exact z_anY hS0 (by unfold z_whyX; rw [if_pos hlt, if_neg c16]) w_fr.rf
theorem sp_X1_faultPosition (hS : z_sys G M E x bl tx S) : w_S l G tX1_faultPosition (1, 0, 0) [.ref x] M (w_is (.inl (some (.int (z_flt S)))) M) := by
  have hS0 := hS
  obtain ⟨ba, ca, sv, bas, h⟩ := hS
  have hg := h.2.1
  refine w_start (by decide) (Nat.le_of_ble_eq_true rfl) (fun X => ?_)
  refine wa_locals [(0, _)] [0] rfl ?_
  refine wa_aload_n 0 dX1_faultPosition_0 rfl rfl ?_
  refine wa_getf dX1_faultPosition_1 gX1_29 hg rfl ?_
  refine wa_iret FieldType.int dX1_faultPosition_4 rfl rfl (Nat.le_of_ble_eq_true rfl) (Nat.le_of_ble_eq_true rfl) ?_
  exact ⟨rfl, rfl⟩
/-- RobotAisles as it is made -/
def z_S0 : z_S := (z_new 1 2 (fun _ => 0), [], none, 0, 0, [], -1)
theorem sp_X1_init (hx : M.get x = some (.inr (0, [.null, .null, .null, .int 0, .int 0, .null, .int 0, .int 0]))) (hE : ∀ q, E q → q < M.sz) (hEx : ¬ E x) (hEad : ¬ E (w_ad G 0)) : w_S l G tX1_init (6, 7, 82) [.ref x] M (w_rV (fun N => w_fr M N (fun q => q = x) ∧ ∃ bl tx, z_sys G N E x bl tx z_S0)) := by
  have hxl := w_lt hx
  refine w_start (by decide) (Nat.le_of_ble_eq_true rfl) (fun X => ?_)
  refine wa_locals [(0, _)] [0] rfl ?_
  refine wa_lo2 (fun h0 => ?_)
  refine wa_lo (fun lo hd => ?_)
  refine wa_aload_n 0 dX1_init_0 rfl rfl ?_
  refine wa_objInit dX1_init_1 q125 rfl (Nat.le_of_ble_eq_true rfl) ?_
  refine wa_aload_n 0 dX1_init_4 rfl rfl ?_
  refine wa_new dX1_init_5 nX1_9 (Nat.le_of_ble_eq_true rfl) (Nat.le_of_ble_eq_true rfl) ?_
  refine wa_dup dX1_init_8 rfl ?_
  refine wa_iconst (1) dX1_init_9 (by decide) ?_
  refine wa_iconst (2) dX1_init_10 (by decide) ?_
  refine wa_iconst (2) dX1_init_11 (by decide) ?_
  refine wa_newi (2) dX1_init_12 q160 rfl (by decide) (Nat.le_of_ble_eq_true rfl) (Nat.le_of_ble_eq_true rfl) ?_
  refine wc_V (wr_I dX1_init_14 mX1_11 (sp_C_init (M := (M.push (.inr (1, [.int 0, .int 0, .null, .null, .null, .null, .long 0, .int 0]))).push (.inl (.int, 2, .inl (fun _ => 0)))) (a := M.sz) (kd := M.sz + 1) (rw := nI 1) (cw := nI 2) (Nat.lt_succ_of_lt (Nat.lt_succ_self _)) (w_push_old w_push_self)) rfl rfl rfl (Nat.le_of_ble_eq_true rfl)) (fun M14 h14 => ?_)
  obtain ⟨e1, e2, e3, e4, ⟨f, e5, e6⟩, e7⟩ := h14
  have hx14 := e7.2 _ _ (w_push_old (w_push_old hx)) (by omega)
  have hk14 := e7.2 _ _ (w_push_self (M := M.push (.inr (1, [.int 0, .int 0, .null, .null, .null, .null, .long 0, .int 0]))) (e := .inl (.int, 2, .inl (fun _ => 0)))) (by show ¬ M.sz + 1 = M.sz; omega)
  have hs14 : M14.sz = M.sz + 5 := e1
  have hfr14 : w_fr M M14 (fun _ => False) := z_frN (N := (M.push (.inr (1, [.int 0, .int 0, .null, .null, .null, .null, .long 0, .int 0]))).push (.inl (.int, 2, .inl (fun _ => 0)))) w_fr.rf.push.push (z_fr1 e7 (Nat.le_refl _))
  have hc14 : z_coreL G M14 (fun q => M.sz ≤ q) M.sz (M.sz + 1) (M.sz + 2) (M.sz + 3) (M.sz + 4) (w_ad G 0) (w_ad G 0) [] [] (z_new 1 2 (fun _ => 0)) := z_new_core (P := fun q => M.sz ≤ q) (s := M.sz) (rows := 1) (cols := 2) (fun q z => z) (Nat.le_succ _) e2 e3 e4 e5 e6 ⟨_, hk14, fun _ _ => rfl⟩ (by omega) (by omega) (by omega) (by omega) (by omega)
  refine wa_putf [_, _, _, _, _, _, _, _] dX1_init_17 pX1_14 hx14 (Nat.le_of_ble_eq_true rfl) rfl rfl rfl ?_
  have hx17 := w_set_self (e := .inr (0, [.ref M.sz, .null, .null, .int 0, .int 0, .null, .int 0, .int 0])) hx14
  refine wa_aload_n 0 dX1_init_20 rfl rfl ?_
  refine wa_new dX1_init_21 nX1_18 (Nat.le_of_ble_eq_true rfl) (Nat.le_of_ble_eq_true rfl) ?_
  refine wa_dup dX1_init_24 rfl ?_
  refine wc_isV (wr_I dX1_init_25 mX1_20 (sp_J2_init (v2 := .int 0) w_push_self) rfl rfl rfl (Nat.le_of_ble_eq_true rfl)) ?_
  rw [w_push_set]
  refine wa_putF [_, _, _, _, _, _, _, _] dX1_init_28 rfl pX1_21 (w_push_old hx17) (Nat.le_of_ble_eq_true rfl) rfl rfl rfl ?_
  rw [show ((M14.set x (.inr (0, [.ref M.sz, .null, .null, .int 0, .int 0, .null, .int 0, .int 0]))).sz) = M14.sz from rfl]
  have hx28 := w_set_self (e := .inr (0, [.ref M.sz, .ref M14.sz, .null, .int 0, .int 0, .null, .int 0, .int 0])) (w_push_old (e := .inr (11, [.int 0, .ref (w_ad G 0), .int 0])) hx17)
  refine wa_aload_n 0 dX1_init_31 rfl rfl ?_
  refine wa_bipush (60) dX1_init_32 (by decide) ?_
  refine wa_newc (60) dX1_init_34 q226 rfl (by decide) (Nat.le_of_ble_eq_true rfl) (Nat.le_of_ble_eq_true rfl) ?_
  refine wa_putF [_, _, _, _, _, _, _, _] dX1_init_36 rfl pX1_25 (w_push_old hx28) (Nat.le_of_ble_eq_true rfl) rfl rfl rfl ?_
  rw [show ((((M14.set x (.inr (0, [.ref M.sz, .null, .null, .int 0, .int 0, .null, .int 0, .int 0]))).push (.inr (11, [.int 0, .ref (w_ad G 0), .int 0]))).set x (.inr (0, [.ref M.sz, .ref M14.sz, .null, .int 0, .int 0, .null, .int 0, .int 0]))).sz) = M14.sz + 1 from rfl]
  refine wa_aload_n 0 dX1_init_39 rfl rfl ?_
  refine wa_iconst (-1) dX1_init_40 (by decide) ?_
  refine wa_putf [_, _, _, _, _, _, _, _] dX1_init_41 pX1_29 (w_set_self (w_push_old hx28)) (Nat.le_of_ble_eq_true rfl) rfl rfl rfl ?_
  rw [w_set_set]
  refine wa_vret dX1_init_44 rfl (Nat.le_of_ble_eq_true rfl) (Nat.le_of_ble_eq_true rfl) ?_
  have n1 : M14.sz ≠ x := by omega
  have n2 : M14.sz + 1 ≠ x := by omega
  have hfx : w_fr M14 ((((((M14.set x (.inr (0, [.ref M.sz, .null, .null, .int 0, .int 0, .null, .int 0, .int 0]))).push (.inr (11, [.int 0, .ref (w_ad G 0), .int 0]))).set x (.inr (0, [.ref M.sz, .ref M14.sz, .null, .int 0, .int 0, .null, .int 0, .int 0]))).push (.inl (.char, 60, .inl (fun _ => 0)))).set x (.inr (0, [.ref M.sz, .ref M14.sz, .null, .int 0, .int 0, .ref (M14.sz + 1), .int 0, .int (-1)])))) (fun q => q = x) := w_fr.set (W := fun q => q = x) (w_fr.push (w_fr.set (W := fun q => q = x) (w_fr.push w_fr_me) rfl)) rfl
  refine ⟨rfl, w_fr.trans (hfr14.mono (fun _ _ z => z.elim)) hfx, M14.sz, M14.sz + 1, w_ad G 0, M.sz, none, [], ⟨fun q z => by have := hE q z; show q < M14.sz + 2; omega, hEx, fun z => by have := hE _ z; omega, fun z => hEad z, fun z => by have := hE _ z; omega, hEad⟩, w_set_self (w_push_old hx28), ?_, ⟨0, w_sne (w_push_old (w_sne w_push_self n1)) n1, Nat.zero_le _, Or.inl ⟨rfl, rfl⟩⟩, rfl, Nat.zero_le _, fun i y c z => (by cases z), rfl, Nat.zero_le _, _, w_sne w_push_self n2, fun i v z => (by cases z)⟩
  have hc := (hc14.mono (P' := fun q => M.sz ≤ q ∧ q < M14.sz) (fun q z1 z2 => ⟨z2, z1⟩)).keep (W := fun q => q = x) hfx (fun q z e => by omega) (fun e => hd _ (by rw [e]; exact hx))
  refine ⟨_, _, _, _, _, _, _, _, hc.mono (fun q _ z => ?_)⟩
  rintro (w | w | w | w | w)
  · omega
  · omega
  · omega
  · omega
  · have := hE q w; omega
end XM
