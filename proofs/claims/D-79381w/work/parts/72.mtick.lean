/-! ===== the Model's ticks ===== -/
set_option maxRecDepth 100000
section MTk
variable {b : Nat} {M N : w_M} {m : Nat} {S : z_S} {th : Int32} {l : Launch} {G : w_G} {c : z_C} {f : Nat → Int32} {fs : List Value}
def z_endQ (M : w_M) (m : Nat) (p : z_C × Int32) : w_O → w_M → Prop := w_rI (fun v N => v = p.2 ∧ w_fr M N (fun q => q = m + 1) ∧ ∃ f', N.get (m + 1) = some (.inl (.int, 400, .inl f')) ∧ z_mr p.1 f')
theorem sp_mends (hm : M.get m = some (.inr (2, Value.ref (m + 1) :: fs))) (hf : M.get (m + 1) = some (.inl (.int, 400, .inl f))) (hr : z_mr c f) (hg : z_good b c) {k : Nat} {r : z_R} (hk : (z_robs c)[k]? = some r) : w_S l G tX3_ends (3, 0, 0) [.ref m, .int (nI k)] M (z_endQ M m (z_arriveC c k)) := by
  have hs := hg.1
  have hsz := hs.size
  have hR6 : (z_robs c).length ≤ 6 := hs.2.2.2.2.1
  have hO10 : (z_ords c).length ≤ 10 := hs.2.2.2.2.2.1
  have H : z_mh M m f := ⟨_, hm, hf⟩
  have hk6 : k < 6 := by have := (List.getElem?_eq_some_iff.mp hk).1; omega
  obtain ⟨hrc, -, -, hrh⟩ := hs.2.2.2.2.2.2.1 r (List.mem_of_getElem? hk)
  obtain ⟨q1, q2, q3, q4, q5, q6, q7⟩ := hr.rob hk
  cases ho : z_has r with
  | none =>
    have ea : z_arriveC c k = (c, 0) := by unfold z_arriveC; rw [hk]; simp only [ho]
    rw [ea]
    rw [ho] at q3
    refine w_start (by decide) (Nat.le_of_ble_eq_true rfl) (fun X => ?_)
    refine wa_locals [(0, _), (1, _)] [0, 1] rfl ?_
    refine wa_aload_n 0 dX3_ends_0 rfl rfl ?_
    refine wa_iload_n 1 dX3_ends_1 rfl rfl ?_
    refine wa_iconst (2) dX3_ends_2 (by decide) ?_
    refine wc_isI (wr_V dX3_ends_3 mX3_79 (sp_mof H hk6 (w := 2) (by decide)) hm rfl rfl rfl (Nat.le_of_ble_eq_true rfl)) ?_
    rw [q3]
    refine wa_istore_n [(2, _), (0, _), (1, _)] dX3_ends_6 rfl (Nat.le_of_ble_eq_true rfl) rfl ?_
    refine wa_iload_n 0 dX3_ends_7 rfl rfl ?_
    refine wa_if_ge 13 dX3_ends_8 rfl (fun c8 => absurd c8 (by decide)) (fun c8 => ?_)
    refine wa_iconst (0) dX3_ends_11 (by decide) ?_
    refine wa_iret FieldType.int dX3_ends_12 rfl rfl (Nat.le_of_ble_eq_true rfl) (Nat.le_of_ble_eq_true rfl) ?_
    exact ⟨_, rfl, rfl, w_fr.rf, f, hf, hr⟩
  | some i =>
    have hil := hrh i ho
    have hi10 : i < 10 := by omega
    obtain ⟨o, hi⟩ : ∃ o, (z_ords c)[i]? = some o := ⟨_, List.getElem?_eq_getElem hil⟩
    obtain ⟨p1, p2, p3, p4, p5, p6⟩ := hr.ord hi
    obtain ⟨hpk, hl3, -, hlq, -⟩ := hs.2.2.2.2.2.2.2 o (List.mem_of_getElem? hi)
    rw [ho] at q3
    by_cases hlt : z_picked o < (z_lines o).length
    ·
      obtain ⟨y, hy⟩ : ∃ y, (z_lines o)[z_picked o]? = some y := ⟨_, List.getElem?_eq_getElem hlt⟩
      have hyl := hlq y (List.mem_of_getElem? hy)
      have p6y : f (320 + 8 * i + (5 + z_picked o)) = nI y := by rw [← Nat.add_assoc]; exact p6 _ y hy
      have ea : z_arriveC c k = (z_setO c ((z_ords c).set i (z_stO o (z_picked o + if y = z_cell r then 1 else 0) (z_state o) (z_del o))), 0) := by
        unfold z_arriveC
        rw [hk]
        simp only [ho, hi, if_pos hlt, hy, Option.some.injEq]
      rw [ea]
      have key : ∀ (v : Int32) (d : Nat), v = nI (z_picked o + d) → z_mr (z_setO c ((z_ords c).set i (z_stO o (z_picked o + d) (z_state o) (z_del o)))) (upd f (320 + 8 * i + 2) v) := by
        intro v d hv
        refine z_mr_RO (rs := z_robs c) hr hs (fun j h1 h2 h3 => if_neg (by omega)) ((if_neg (by omega)).trans hr.1.2.2.2.1) (by rw [List.length_set]; exact (if_neg (by omega)).trans hr.1.2.2.2.2) (fun y r' hy => ?_) (fun y o' hy => ?_)
        · have := (List.getElem?_eq_some_iff.mp hy).1
          exact (hr.rob hy).to (hs.2.2.2.2.2.2.1 r' (List.mem_of_getElem? hy)).2.2.1 (fun j hj => if_neg (by omega))
        · rcases z_set_at hy with ⟨rfl, rfl, -⟩ | ⟨hn, hy⟩
          · exact ⟨(if_neg (by omega)).trans p1, (if_neg (by omega)).trans p2, (if_pos rfl).trans hv, (if_neg (by omega)).trans p4, (if_neg (by omega)).trans p5, fun j q hj => (if_neg (by omega)).trans (p6 j q hj)⟩
          · exact (hr.ord hy).to (hs.2.2.2.2.2.2.2 o' (List.mem_of_getElem? hy)).2.1 (fun j hj => if_neg (by omega))
      refine w_start (by decide) (Nat.le_of_ble_eq_true rfl) (fun X => ?_)
      refine wa_locals [(0, _), (1, _)] [0, 1] rfl ?_
      refine wa_aload_n 0 dX3_ends_0 rfl rfl ?_
      refine wa_iload_n 1 dX3_ends_1 rfl rfl ?_
      refine wa_iconst (2) dX3_ends_2 (by decide) ?_
      refine wc_isI (wr_V dX3_ends_3 mX3_79 (sp_mof H hk6 (w := 2) (by decide)) hm rfl rfl rfl (Nat.le_of_ble_eq_true rfl)) ?_
      rw [q3]
      rw [show z_enc (some i) = nI i from rfl]
      refine wa_istore_n [(2, _), (0, _), (1, _)] dX3_ends_6 rfl (Nat.le_of_ble_eq_true rfl) rfl ?_
      refine wa_iload_n 0 dX3_ends_7 rfl rfl ?_
      refine wa_if_ge 13 dX3_ends_8 rfl (fun c8 => ?_) (fun c8 => absurd (Int32.not_lt.mp (nI_pos (by omega))) c8)
      refine wa_aload_n 1 dX3_ends_13 rfl rfl ?_
      refine wa_iload_n 2 dX3_ends_14 rfl rfl ?_
      refine wa_iconst (0) dX3_ends_15 (by decide) ?_
      refine wc_isI (wr_V dX3_ends_16 mX3_79 (sp_mof H hk6 (w := 0) (by decide)) hm rfl rfl rfl (Nat.le_of_ble_eq_true rfl)) ?_
      rw [show f (104 + 36 * k + 0) = nI (z_cell r) from q1]
      refine wa_istore_n [(3, _), (2, _), (0, _), (1, _)] dX3_ends_19 rfl (Nat.le_of_ble_eq_true rfl) rfl ?_
      refine wa_aload_n 2 dX3_ends_20 rfl rfl ?_
      refine wa_iload_n 1 dX3_ends_21 rfl rfl ?_
      refine wa_iconst (2) dX3_ends_22 (by decide) ?_
      refine wc_isI (wr_V dX3_ends_23 mX3_109 (sp_mget H hi10 (w := 2) (by decide)) hm rfl rfl rfl (Nat.le_of_ble_eq_true rfl)) ?_
      rw [p3]
      refine wa_istore [(4, _), (3, _), (2, _), (0, _), (1, _)] dX3_ends_26 (Nat.le_of_ble_eq_true rfl) rfl ?_
      refine wa_iload 0 dX3_ends_28 rfl ?_
      refine wa_aload_n 3 dX3_ends_30 rfl rfl ?_
      refine wa_iload_n 2 dX3_ends_31 rfl rfl ?_
      refine wa_iconst (1) dX3_ends_32 (by decide) ?_
      refine wc_isI (wr_V dX3_ends_33 mX3_109 (sp_mget H hi10 (w := 1) (by decide)) hm rfl rfl rfl (Nat.le_of_ble_eq_true rfl)) ?_
      rw [p2]
      refine wa_icmp_ge 73 dX3_ends_36 rfl (fun c36 => absurd c36 (nI_lt_not hlt (by omega))) (fun c36 => ?_)
      refine wa_aload_n 3 dX3_ends_39 rfl rfl ?_
      refine wa_getf dX3_ends_40 gX3_9 hm rfl ?_
      refine wa_iload_n 2 dX3_ends_43 rfl rfl ?_
      refine wc_isI (wr_S dX3_ends_44 mX3_106 sp_mord rfl rfl rfl (Nat.le_of_ble_eq_true rfl)) ?_
      refine wa_iconst (2) dX3_ends_47 (by decide) ?_
      refine wa_iadd dX3_ends_48 ?_
      rw [show nI (320 + 8 * i) + 2 = nI (320 + 8 * i + 2) from nI_add _ 2]
      refine wa_dup2 dX3_ends_49 rfl rfl ?_
      refine wa_iald dX3_ends_50 hf (vp_in_nI (by omega) (by omega)) ?_
      rw [nI_clamp (by omega), p3]
      refine wa_aload_n 3 dX3_ends_51 rfl rfl ?_
      refine wa_iload_n 2 dX3_ends_52 rfl rfl ?_
      refine wa_iconst (5) dX3_ends_53 (by decide) ?_
      refine wa_iload 0 dX3_ends_54 rfl ?_
      refine wa_iadd dX3_ends_56 ?_
      rw [show (5 : Int32) + nI (z_picked o) = nI (5 + z_picked o) from nI_add 5 _]
      refine wc_isI (wr_V dX3_ends_57 mX3_109 (sp_mget H hi10 (w := 5 + z_picked o) (by omega)) hm rfl rfl rfl (Nat.le_of_ble_eq_true rfl)) ?_
      rw [p6y]
      refine wa_iload_n 1 dX3_ends_60 rfl rfl ?_
      refine wa_icmp_ne 68 dX3_ends_61 rfl (fun c61 => ?_) (fun c61 => ?_)
      ·
        refine wa_iconst (0) dX3_ends_68 (by decide) ?_
        refine wa_iadd dX3_ends_69 ?_
        refine wa_iast dX3_ends_70 hf (vp_in_nI (by omega) (by omega)) ?_
        rw [nI_clamp (by omega)]
        refine wa_iconst (0) dX3_ends_71 (by decide) ?_
        refine wa_iret FieldType.int dX3_ends_72 rfl rfl (Nat.le_of_ble_eq_true rfl) (Nat.le_of_ble_eq_true rfl) ?_
        have hne : ¬ y = z_cell r := fun z => c61 (congrArg nI z)
        rw [if_neg hne]
        exact ⟨_, rfl, rfl, w_fr_me, _, w_set_self hf, key _ 0 (Int32.add_zero _)⟩
      ·
        refine wa_iconst (1) dX3_ends_64 (by decide) ?_
        refine wa_goto 69 dX3_ends_65 rfl ?_
        refine wa_iadd dX3_ends_69 ?_
        refine wa_iast dX3_ends_70 hf (vp_in_nI (by omega) (by omega)) ?_
        rw [nI_clamp (by omega)]
        refine wa_iconst (0) dX3_ends_71 (by decide) ?_
        refine wa_iret FieldType.int dX3_ends_72 rfl rfl (Nat.le_of_ble_eq_true rfl) (Nat.le_of_ble_eq_true rfl) ?_
        have he : y = z_cell r := (nI_eq (by omega) (by omega)).mp c61
        rw [if_pos he]
        exact ⟨_, rfl, rfl, w_fr_me, _, w_set_self hf, key _ 1 (nI_1 _)⟩
    ·
      by_cases h3 : z_kinds c (z_cell r) = 3
      ·
        have ea : z_arriveC c k = (z_setR (z_setO c ((z_ords c).set i (z_stO o (z_picked o) 2 (z_now c)))) ((z_robs c).set k (z_hasR r none)), 1) := by
          unfold z_arriveC
          rw [hk]
          simp only [ho, hi, if_neg hlt, if_pos h3]
        rw [ea]
        have hu := hg.2.2.2.2.2.2.2.1
        have hmr : z_mr (z_setR (z_setO c ((z_ords c).set i (z_stO o (z_picked o) 2 (z_now c)))) ((z_robs c).set k (z_hasR r none))) (upd (upd (upd f (320 + 8 * i + 4) (z_now c)) (320 + 8 * i + 3) (-1)) (104 + 36 * k + 2) (-1)) := by
          have hU : ∀ j, j ≠ 104 + 36 * k + 2 → j ≠ 320 + 8 * i + 3 → j ≠ 320 + 8 * i + 4 → upd (upd (upd f (320 + 8 * i + 4) (z_now c)) (320 + 8 * i + 3) (-1)) (104 + 36 * k + 2) (-1) j = f j := fun j h1 h2 h3 => (if_neg h1).trans ((if_neg h2).trans (if_neg h3))
          refine z_mr_RO (rs := (z_robs c).set k (z_hasR r none)) (os := (z_ords c).set i (z_stO o (z_picked o) 2 (z_now c))) hr hs (fun j h1 h2 h3 => hU j (by omega) (by omega) (by omega)) (by rw [List.length_set]; exact (hU 3 (by omega) (by omega) (by omega)).trans hr.1.2.2.2.1) (by rw [List.length_set]; exact (hU 4 (by omega) (by omega) (by omega)).trans hr.1.2.2.2.2) (fun y r' hy => ?_) (fun y o' hy => ?_)
          · rcases z_set_at hy with ⟨rfl, rfl, -⟩ | ⟨hn, hy⟩
            · exact ⟨(hU _ (by omega) (by omega) (by omega)).trans q1, (hU _ (by omega) (by omega) (by omega)).trans q2, if_pos rfl, (hU _ (by omega) (by omega) (by omega)).trans q4, fun z => (hU _ (by omega) (by omega) (by omega)).trans (q5 z), (hU _ (by omega) (by omega) (by omega)).trans q6, fun j q hj => by
                have hjl := (List.getElem?_eq_some_iff.mp hj).1
                have hjl : j < (z_plan r).length := hjl
                have h30 := (hs.2.2.2.2.2.2.1 r (List.mem_of_getElem? hk)).2.2.1
                exact (hU _ (by omega) (by omega) (by omega)).trans (q7 j q hj)⟩
            · have hyl := (List.getElem?_eq_some_iff.mp hy).1
              exact (hr.rob hy).to (hs.2.2.2.2.2.2.1 r' (List.mem_of_getElem? hy)).2.2.1 (fun j hj => hU _ (by omega) (by omega) (by omega))
          · rcases z_set_at hy with ⟨rfl, rfl, -⟩ | ⟨hn, hy⟩
            · rw [z_with_drop (fun i1 j1 r1 r2 g1 g2 g3 g4 => hu i1 j1 y r1 r2 g1 g2 g3 g4) hk ho (fun z => by cases z)]
              exact ⟨(hU _ (by omega) (by omega) (by omega)).trans p1, (hU _ (by omega) (by omega) (by omega)).trans p2, (hU _ (by omega) (by omega) (by omega)).trans p3, (if_neg (by omega)).trans (if_pos rfl), (if_neg (by omega)).trans ((if_neg (by omega)).trans (if_pos rfl)), fun j q hj => (hU _ (by omega) (by omega) (by omega)).trans (p6 j q hj)⟩
            · rw [z_with_set hk (by rw [ho]; exact fun z => hn (Option.some.inj z).symm) (fun z => by cases z)]
              exact (hr.ord hy).to (hs.2.2.2.2.2.2.2 o' (List.mem_of_getElem? hy)).2.1 (fun j hj => hU _ (by omega) (by omega) (by omega))
        refine w_start (by decide) (Nat.le_of_ble_eq_true rfl) (fun X => ?_)
        refine wa_locals [(0, _), (1, _)] [0, 1] rfl ?_
        refine wa_aload_n 0 dX3_ends_0 rfl rfl ?_
        refine wa_iload_n 1 dX3_ends_1 rfl rfl ?_
        refine wa_iconst (2) dX3_ends_2 (by decide) ?_
        refine wc_isI (wr_V dX3_ends_3 mX3_79 (sp_mof H hk6 (w := 2) (by decide)) hm rfl rfl rfl (Nat.le_of_ble_eq_true rfl)) ?_
        rw [q3]
        rw [show z_enc (some i) = nI i from rfl]
        refine wa_istore_n [(2, _), (0, _), (1, _)] dX3_ends_6 rfl (Nat.le_of_ble_eq_true rfl) rfl ?_
        refine wa_iload_n 0 dX3_ends_7 rfl rfl ?_
        refine wa_if_ge 13 dX3_ends_8 rfl (fun c8 => ?_) (fun c8 => absurd (Int32.not_lt.mp (nI_pos (by omega))) c8)
        refine wa_aload_n 1 dX3_ends_13 rfl rfl ?_
        refine wa_iload_n 2 dX3_ends_14 rfl rfl ?_
        refine wa_iconst (0) dX3_ends_15 (by decide) ?_
        refine wc_isI (wr_V dX3_ends_16 mX3_79 (sp_mof H hk6 (w := 0) (by decide)) hm rfl rfl rfl (Nat.le_of_ble_eq_true rfl)) ?_
        rw [show f (104 + 36 * k + 0) = nI (z_cell r) from q1]
        refine wa_istore_n [(3, _), (2, _), (0, _), (1, _)] dX3_ends_19 rfl (Nat.le_of_ble_eq_true rfl) rfl ?_
        refine wa_aload_n 2 dX3_ends_20 rfl rfl ?_
        refine wa_iload_n 1 dX3_ends_21 rfl rfl ?_
        refine wa_iconst (2) dX3_ends_22 (by decide) ?_
        refine wc_isI (wr_V dX3_ends_23 mX3_109 (sp_mget H hi10 (w := 2) (by decide)) hm rfl rfl rfl (Nat.le_of_ble_eq_true rfl)) ?_
        rw [p3]
        refine wa_istore [(4, _), (3, _), (2, _), (0, _), (1, _)] dX3_ends_26 (Nat.le_of_ble_eq_true rfl) rfl ?_
        refine wa_iload 0 dX3_ends_28 rfl ?_
        refine wa_aload_n 3 dX3_ends_30 rfl rfl ?_
        refine wa_iload_n 2 dX3_ends_31 rfl rfl ?_
        refine wa_iconst (1) dX3_ends_32 (by decide) ?_
        refine wc_isI (wr_V dX3_ends_33 mX3_109 (sp_mget H hi10 (w := 1) (by decide)) hm rfl rfl rfl (Nat.le_of_ble_eq_true rfl)) ?_
        rw [p2]
        refine wa_icmp_ge 73 dX3_ends_36 rfl (fun c36 => ?_) (fun c36 => absurd (nI_le (by omega) (by omega)) c36)
        refine wa_aload_n 3 dX3_ends_73 rfl rfl ?_
        refine wa_getf dX3_ends_74 gX3_9 hm rfl ?_
        refine wa_bipush (8) dX3_ends_77 (by decide) ?_
        refine wa_iload_n 1 dX3_ends_79 rfl rfl ?_
        refine wa_iadd dX3_ends_80 ?_
        rw [show (8 : Int32) + nI (z_cell r) = nI (8 + z_cell r) from nI_add 8 _]
        refine wa_iald dX3_ends_81 hf (vp_in_nI (by omega) (by omega)) ?_
        rw [nI_clamp (by omega), hr.kind hrc]
        refine wa_iconst (3) dX3_ends_82 (by decide) ?_
        refine wa_icmp_eq 88 dX3_ends_83 rfl (fun c83 => ?_) (fun c83 => absurd h3 c83)
        refine wa_aload_n 3 dX3_ends_88 rfl rfl ?_
        refine wa_getf dX3_ends_89 gX3_9 hm rfl ?_
        refine wa_iload_n 2 dX3_ends_92 rfl rfl ?_
        refine wc_isI (wr_S dX3_ends_93 mX3_106 sp_mord rfl rfl rfl (Nat.le_of_ble_eq_true rfl)) ?_
        refine wa_iconst (4) dX3_ends_96 (by decide) ?_
        refine wa_iadd dX3_ends_97 ?_
        refine wa_aload_n 3 dX3_ends_98 rfl rfl ?_
        refine wa_getf dX3_ends_99 gX3_9 hm rfl ?_
        refine wa_iconst (2) dX3_ends_102 (by decide) ?_
        refine wa_iald dX3_ends_103 hf (vp_in_nI (n := 2) (by omega) (by omega)) ?_
        rw [hr.now, show nI (320 + 8 * i) + 4 = nI (320 + 8 * i + 4) from nI_add _ 4]
        refine wa_iast dX3_ends_104 hf (vp_in_nI (by omega) (by omega)) ?_
        rw [nI_clamp (by omega)]
        refine wa_aload_n 3 dX3_ends_105 rfl rfl ?_
        refine wa_getf dX3_ends_106 gX3_9 (w_sne hm (by omega)) rfl ?_
        refine wa_iload_n 2 dX3_ends_109 rfl rfl ?_
        refine wc_isI (wr_S dX3_ends_110 mX3_106 sp_mord rfl rfl rfl (Nat.le_of_ble_eq_true rfl)) ?_
        refine wa_iconst (3) dX3_ends_113 (by decide) ?_
        refine wa_iadd dX3_ends_114 ?_
        refine wa_iconst (-1) dX3_ends_115 (by decide) ?_
        rw [show nI (320 + 8 * i) + 3 = nI (320 + 8 * i + 3) from nI_add _ 3]
        refine wa_iast dX3_ends_116 (w_set_self hf) (vp_in_nI (by omega) (by omega)) ?_
        rw [nI_clamp (by omega)]
        refine wa_aload_n 3 dX3_ends_117 rfl rfl ?_
        refine wa_getf dX3_ends_118 gX3_9 (w_sne (w_sne hm (by omega)) (by omega)) rfl ?_
        refine wa_iload_n 4 dX3_ends_121 rfl rfl ?_
        refine wc_isI (wr_S dX3_ends_122 mX3_75 sp_mat rfl rfl rfl (Nat.le_of_ble_eq_true rfl)) ?_
        refine wa_iconst (2) dX3_ends_125 (by decide) ?_
        refine wa_iadd dX3_ends_126 ?_
        refine wa_iconst (-1) dX3_ends_127 (by decide) ?_
        rw [show nI (104 + 36 * k) + 2 = nI (104 + 36 * k + 2) from nI_add _ 2]
        refine wa_iast dX3_ends_128 (w_set_self (w_set_self hf)) (vp_in_nI (by omega) (by omega)) ?_
        rw [nI_clamp (by omega)]
        refine wa_iconst (1) dX3_ends_129 (by decide) ?_
        refine wa_iret FieldType.int dX3_ends_130 rfl rfl (Nat.le_of_ble_eq_true rfl) (Nat.le_of_ble_eq_true rfl) ?_
        exact ⟨_, rfl, rfl, w_fr_me.me.me, _, w_set_self (w_set_self (w_set_self hf)), hmr⟩
      ·
        have ea : z_arriveC c k = (c, 0) := by
          unfold z_arriveC
          rw [hk]
          simp only [ho, hi, if_neg hlt, if_neg h3]
        rw [ea]
        refine w_start (by decide) (Nat.le_of_ble_eq_true rfl) (fun X => ?_)
        refine wa_locals [(0, _), (1, _)] [0, 1] rfl ?_
        refine wa_aload_n 0 dX3_ends_0 rfl rfl ?_
        refine wa_iload_n 1 dX3_ends_1 rfl rfl ?_
        refine wa_iconst (2) dX3_ends_2 (by decide) ?_
        refine wc_isI (wr_V dX3_ends_3 mX3_79 (sp_mof H hk6 (w := 2) (by decide)) hm rfl rfl rfl (Nat.le_of_ble_eq_true rfl)) ?_
        rw [q3]
        rw [show z_enc (some i) = nI i from rfl]
        refine wa_istore_n [(2, _), (0, _), (1, _)] dX3_ends_6 rfl (Nat.le_of_ble_eq_true rfl) rfl ?_
        refine wa_iload_n 0 dX3_ends_7 rfl rfl ?_
        refine wa_if_ge 13 dX3_ends_8 rfl (fun c8 => ?_) (fun c8 => absurd (Int32.not_lt.mp (nI_pos (by omega))) c8)
        refine wa_aload_n 1 dX3_ends_13 rfl rfl ?_
        refine wa_iload_n 2 dX3_ends_14 rfl rfl ?_
        refine wa_iconst (0) dX3_ends_15 (by decide) ?_
        refine wc_isI (wr_V dX3_ends_16 mX3_79 (sp_mof H hk6 (w := 0) (by decide)) hm rfl rfl rfl (Nat.le_of_ble_eq_true rfl)) ?_
        rw [show f (104 + 36 * k + 0) = nI (z_cell r) from q1]
        refine wa_istore_n [(3, _), (2, _), (0, _), (1, _)] dX3_ends_19 rfl (Nat.le_of_ble_eq_true rfl) rfl ?_
        refine wa_aload_n 2 dX3_ends_20 rfl rfl ?_
        refine wa_iload_n 1 dX3_ends_21 rfl rfl ?_
        refine wa_iconst (2) dX3_ends_22 (by decide) ?_
        refine wc_isI (wr_V dX3_ends_23 mX3_109 (sp_mget H hi10 (w := 2) (by decide)) hm rfl rfl rfl (Nat.le_of_ble_eq_true rfl)) ?_
        rw [p3]
        refine wa_istore [(4, _), (3, _), (2, _), (0, _), (1, _)] dX3_ends_26 (Nat.le_of_ble_eq_true rfl) rfl ?_
        refine wa_iload 0 dX3_ends_28 rfl ?_
        refine wa_aload_n 3 dX3_ends_30 rfl rfl ?_
        refine wa_iload_n 2 dX3_ends_31 rfl rfl ?_
        refine wa_iconst (1) dX3_ends_32 (by decide) ?_
        refine wc_isI (wr_V dX3_ends_33 mX3_109 (sp_mget H hi10 (w := 1) (by decide)) hm rfl rfl rfl (Nat.le_of_ble_eq_true rfl)) ?_
        rw [p2]
        refine wa_icmp_ge 73 dX3_ends_36 rfl (fun c36 => ?_) (fun c36 => absurd (nI_le (by omega) (by omega)) c36)
        refine wa_aload_n 3 dX3_ends_73 rfl rfl ?_
        refine wa_getf dX3_ends_74 gX3_9 hm rfl ?_
        refine wa_bipush (8) dX3_ends_77 (by decide) ?_
        refine wa_iload_n 1 dX3_ends_79 rfl rfl ?_
        refine wa_iadd dX3_ends_80 ?_
        rw [show (8 : Int32) + nI (z_cell r) = nI (8 + z_cell r) from nI_add 8 _]
        refine wa_iald dX3_ends_81 hf (vp_in_nI (by omega) (by omega)) ?_
        rw [nI_clamp (by omega), hr.kind hrc]
        refine wa_iconst (3) dX3_ends_82 (by decide) ?_
        refine wa_icmp_eq 88 dX3_ends_83 rfl (fun c83 => absurd c83 h3) (fun c83 => ?_)
        refine wa_iconst (0) dX3_ends_86 (by decide) ?_
        refine wa_iret FieldType.int dX3_ends_87 rfl rfl (Nat.le_of_ble_eq_true rfl) (Nat.le_of_ble_eq_true rfl) ?_
        exact ⟨_, rfl, rfl, w_fr.rf, f, hf, hr⟩
theorem z_goTo_mem {c : z_C} {k : Nat} {x : z_R} (h : x ∈ z_goTo c k) : ∃ r ∈ z_robs c, x = r ∨ x = z_goC c r := by
  unfold z_goTo at h
  rcases List.mem_append.mp h with h | h
  · obtain ⟨r, hr, rfl⟩ := List.mem_map.mp h
    exact ⟨r, List.mem_of_mem_take hr, Or.inr rfl⟩
  · exact ⟨x, List.mem_of_mem_drop h, Or.inl rfl⟩
theorem z_goC_plan (c : z_C) (r : z_R) : (z_plan (z_goC c r)).length ≤ (z_plan r).length := by
  cases h : z_plan r with
  | nil =>
    rw [z_goC_nil h]
    split
    · rw [show z_plan (z_battR r (if z_batt r + z_sets c 0 < 99 then z_batt r + z_sets c 0 else 99)) = z_plan r from rfl, h]; exact Nat.le_refl _
    · rw [h]; exact Nat.le_refl _
  | cons q p => rw [z_goC_cons h]; exact Nat.le_succ _
theorem z_goTo_plan {c : z_C} (hs : z_small c) {k : Nat} {x : z_R} (h : x ∈ z_goTo c k) : (z_plan x).length ≤ 30 := by
  obtain ⟨r, hr, e⟩ := z_goTo_mem h
  have h30 := (hs.2.2.2.2.2.2.1 r hr).2.2.1
  rcases e with rfl | rfl
  · exact h30
  · exact Nat.le_trans (z_goC_plan c r) h30
theorem z_goTo_with (c : z_C) (k i : Nat) : z_withFrom 0 (z_goTo c k) i = z_withFrom 0 (z_robs c) i := by
  induction k with
  | zero => rw [z_goTo_0]
  | succ k ih =>
    cases hk : (z_robs c)[k]? with
    | none =>
      have hl := List.getElem?_eq_none_iff.mp hk
      have e : z_goTo c (k + 1) = z_goTo c k := by rw [z_goTo_end (by omega), z_goTo_end hl]
      rw [e, ih]
    | some r =>
      rw [← z_goTo_set hk, z_with_same (z_goTo_at hk) (z_goC_has c r), ih]
/-- one robot's numbers written in a tick -/
theorem z_mr_go {c : z_C} (hs : z_small c) {k : Nat} {r : z_R} {f f' : Nat → Int32} (hk : (z_robs c)[k]? = some r) (h : z_mr (z_setR (z_setN c (z_now c + 1)) (z_goTo c k)) f) (e : ∀ j, j < 104 + 36 * k ∨ 104 + 36 * k + 36 ≤ j → f' j = f j) (hR : z_mrR f' (104 + 36 * k) (z_goC c r)) : z_mr (z_setR (z_setN c (z_now c + 1)) (z_goTo c (k + 1))) f' := by
  have hkl := (List.getElem?_eq_some_iff.mp hk).1
  have hR6 : (z_robs c).length ≤ 6 := hs.2.2.2.2.1
  obtain ⟨⟨a1, a2, a3, a4, a5⟩, a6, a7, a8, a9, a10⟩ := h
  have hsz := hs.size
  have a4 : f 3 = nI (z_goTo c k).length := a4
  refine ⟨⟨(e 0 (by omega)).trans a1, (e 1 (by omega)).trans a2, (e 2 (by omega)).trans a3, ?_, (e 4 (by omega)).trans a5⟩, fun j hj => (e _ (by omega)).trans (a6 j hj), fun j hj => ?_, fun j hj => ?_, fun i x hi => ?_, fun i o hi => ?_⟩
  · show f' 3 = nI (z_goTo c (k + 1)).length
    rw [z_goTo_len, e 3 (by omega), a4, z_goTo_len]
  · have hj : j < z_size c := hj
    exact (e _ (by omega)).trans (a7 j hj)
  · have hj : j < z_size c := hj
    exact (e _ (by omega)).trans (a8 j hj)
  · have hi : (z_goTo c (k + 1))[i]? = some x := hi
    rw [← z_goTo_set hk] at hi
    rcases z_set_at hi with ⟨rfl, rfl, -⟩ | ⟨hn, hi⟩
    · exact hR
    · exact (a9 i x hi).to (z_goTo_plan hs (List.mem_of_getElem? hi)) (fun j hj => e _ (by omega))
  · have hl := (List.getElem?_eq_some_iff.mp hi).1
    have h2 := a10 i o hi
    have hw : z_with (z_setR (z_setN c (z_now c + 1)) (z_goTo c (k + 1))) i = z_with (z_setR (z_setN c (z_now c + 1)) (z_goTo c k)) i := (z_goTo_with c (k + 1) i).trans (z_goTo_with c k i).symm
    rw [hw]
    exact h2.to (hs.2.2.2.2.2.2.2 o (List.mem_of_getElem? hi)).2.1 (fun j hj => e _ (by omega))
theorem sp_mtick (hm : M.get m = some (.inr (2, Value.ref (m + 1) :: fs))) (hf : M.get (m + 1) = some (.inl (.int, 400, .inl f))) (hr : z_mr c f) (hg : z_good b c) (hb : b + 1 < 2 ^ 31) : w_S l G tX3_tick (4, 0, 0) [.ref m] M (z_endQ M m (z_tickC c)) := by
  have hs := hg.1
  have hsz := hs.size
  have hR6 : (z_robs c).length ≤ 6 := hs.2.2.2.2.1
  have hO10 : (z_ords c).length ≤ 10 := hs.2.2.2.2.2.1
  refine w_start (by decide) (Nat.le_of_ble_eq_true rfl) (fun X => ?_)
  refine wa_locals [(0, _)] [0] rfl ?_
  have L2 : ∀ (n k : Nat) (N : w_M) (f1 : Nat → Int32) (s : z_C × Int32), k + n = (z_robs c).length → w_fr M N (fun q => q = m + 1) → N.get (m + 1) = some (.inl (.int, 400, .inl f1)) → z_mr s.1 f1 → z_good (b + 1) s.1 → (z_robs s.1).length = (z_robs c).length → z_ends (z_ended c) n k s = z_tickC c → w_A l G tX3_tick (4, 0, 0) X 0 0 N 279 [(3, .int (nI k)), (2, .int s.2), (1, .int (nI (z_mask (z_ended c) (z_robs c).length))), (0, .ref m)] [] (z_endQ M m (z_tickC c)) := by
    intro n
    induction n with
    | zero =>
      intro k N f1 s hn hfr hfN hr1 hg1 hl he
      have hk : k = (z_robs c).length := by omega
      subst hk
      have hgN := hfr.2 _ _ hm (by omega)
      have he : s = z_tickC c := he
      refine wa_iload_n 0 dX3_tick_279 rfl rfl ?_
      refine wa_aload_n 3 dX3_tick_280 rfl rfl ?_
      refine wa_getf dX3_tick_281 gX3_9 hgN rfl ?_
      refine wa_iconst (3) dX3_tick_284 (by decide) ?_
      refine wa_iald dX3_tick_285 hfN (vp_in_nI (n := 3) (by omega) (by omega)) ?_
      rw [hr1.rn, hl]
      refine wa_icmp_ge 316 dX3_tick_286 rfl (fun c286 => ?_) (fun c286 => absurd (nI_le (by omega) (by omega)) c286)
      refine wa_iload_n 1 dX3_tick_316 rfl rfl ?_
      refine wa_iret FieldType.int dX3_tick_317 rfl rfl (Nat.le_of_ble_eq_true rfl) (Nat.le_of_ble_eq_true rfl) ?_
      rw [← he]
      exact ⟨_, rfl, rfl, hfr, f1, hfN, hr1⟩
    | succ n ih =>
      intro k N f1 s hn hfr hfN hr1 hg1 hl he
      have hgN := hfr.2 _ _ hm (by omega)
      obtain ⟨r, hk⟩ : ∃ r, (z_robs s.1)[k]? = some r := ⟨_, List.getElem?_eq_getElem (by omega)⟩
      have hbit := z_mask_is (z_ended c) (r := k) hR6 (by omega)
      rw [z_ends] at he
      by_cases hek : z_ended c k = true
      ·
        rw [if_pos hek] at he
        refine wa_iload_n 0 dX3_tick_279 rfl rfl ?_
        refine wa_aload_n 3 dX3_tick_280 rfl rfl ?_
        refine wa_getf dX3_tick_281 gX3_9 hgN rfl ?_
        refine wa_iconst (3) dX3_tick_284 (by decide) ?_
        refine wa_iald dX3_tick_285 hfN (vp_in_nI (n := 3) (by omega) (by omega)) ?_
        rw [hr1.rn, hl]
        refine wa_icmp_ge 316 dX3_tick_286 rfl (fun c286 => absurd c286 (nI_lt_not (by omega) (by omega))) (fun c286 => ?_)
        refine wa_iload_n 1 dX3_tick_289 rfl rfl ?_
        refine wa_iload_n 2 dX3_tick_290 rfl rfl ?_
        refine wa_iload_n 0 dX3_tick_291 rfl rfl ?_
        refine wa_ishr dX3_tick_292 ?_
        refine wa_iconst (1) dX3_tick_293 (by decide) ?_
        refine wa_iand dX3_tick_294 ?_
        refine wa_iconst (1) dX3_tick_295 (by decide) ?_
        refine wa_icmp_ne 307 dX3_tick_296 rfl (fun c296 => absurd (hbit.mpr hek) c296) (fun c296 => ?_)
        refine wa_aload_n 3 dX3_tick_299 rfl rfl ?_
        refine wa_iload_n 0 dX3_tick_300 rfl rfl ?_
        refine wc_I (wr_V dX3_tick_301 mX3_156 (sp_mends hgN hfN hr1 hg1 hk) hgN rfl rfl rfl (Nat.le_of_ble_eq_true rfl)) (fun r301 M301 h301 => ?_)
        obtain ⟨g1, g2, f2, g3, g4⟩ := h301
        subst g1
        refine wa_goto 308 dX3_tick_304 rfl ?_
        refine wa_iadd dX3_tick_308 ?_
        refine wa_istore_n [(2, _), (3, _), (1, _), (0, _)] dX3_tick_309 rfl (Nat.le_of_ble_eq_true rfl) rfl ?_
        refine wa_iinc 1 [(3, _), (2, _), (1, _), (0, _)] dX3_tick_310 rfl (w_inc k) (Nat.le_of_ble_eq_true rfl) rfl ?_
        refine wa_goto 279 dX3_tick_313 rfl ?_
        refine wa_locals [(3, _), (2, _), (1, _), (0, _)] [0, 1, 2, 3] rfl ?_
        exact ih (k + 1) _ f2 ((z_arriveC s.1 k).1, s.2 + (z_arriveC s.1 k).2) (by omega) (hfr.trans g2) g3 g4 (hg1.arrive hb k) ((z_arrive_len _ _).trans hl) he
      ·
        rw [if_neg hek] at he
        refine wa_iload_n 0 dX3_tick_279 rfl rfl ?_
        refine wa_aload_n 3 dX3_tick_280 rfl rfl ?_
        refine wa_getf dX3_tick_281 gX3_9 hgN rfl ?_
        refine wa_iconst (3) dX3_tick_284 (by decide) ?_
        refine wa_iald dX3_tick_285 hfN (vp_in_nI (n := 3) (by omega) (by omega)) ?_
        rw [hr1.rn, hl]
        refine wa_icmp_ge 316 dX3_tick_286 rfl (fun c286 => absurd c286 (nI_lt_not (by omega) (by omega))) (fun c286 => ?_)
        refine wa_iload_n 1 dX3_tick_289 rfl rfl ?_
        refine wa_iload_n 2 dX3_tick_290 rfl rfl ?_
        refine wa_iload_n 0 dX3_tick_291 rfl rfl ?_
        refine wa_ishr dX3_tick_292 ?_
        refine wa_iconst (1) dX3_tick_293 (by decide) ?_
        refine wa_iand dX3_tick_294 ?_
        refine wa_iconst (1) dX3_tick_295 (by decide) ?_
        refine wa_icmp_ne 307 dX3_tick_296 rfl (fun c296 => ?_) (fun c296 => absurd (hbit.mp c296) hek)
        refine wa_iconst (0) dX3_tick_307 (by decide) ?_
        refine wa_iadd dX3_tick_308 ?_
        refine wa_istore_n [(2, _), (3, _), (1, _), (0, _)] dX3_tick_309 rfl (Nat.le_of_ble_eq_true rfl) rfl ?_
        refine wa_iinc 1 [(3, _), (2, _), (1, _), (0, _)] dX3_tick_310 rfl (w_inc k) (Nat.le_of_ble_eq_true rfl) rfl ?_
        refine wa_goto 279 dX3_tick_313 rfl ?_
        refine wa_locals [(3, _), (2, _), (1, _), (0, _)] [0, 1, 2, 3] rfl ?_
        rw [Int32.add_zero]
        exact ih (k + 1) N f1 s (by omega) hfr hfN hr1 hg1 hl he
  have L1 : ∀ (n k : Nat) (N : w_M) (f1 : Nat → Int32), k + n = (z_robs c).length → w_fr M N (fun q => q = m + 1) → N.get (m + 1) = some (.inl (.int, 400, .inl f1)) → z_mr (z_setR (z_setN c (z_now c + 1)) (z_goTo c k)) f1 → w_A l G tX3_tick (4, 0, 0) X 0 0 N 14 [(2, .int (nI k)), (1, .int (nI (z_mask (z_ended c) k))), (0, .ref m)] [] (z_endQ M m (z_tickC c)) := by
    intro n
    induction n with
    | zero =>
      intro k N f1 hn hfr hfN hr1
      have hk : k = (z_robs c).length := by omega
      subst hk
      have hgN := hfr.2 _ _ hm (by omega)
      have h3 : f1 (Int32.toNatClampNeg 3) = nI (z_robs c).length := hr1.rn.trans (congrArg nI (z_goTo_len c _))
      have e1 : (z_setR (z_setN c (z_now c + 1)) (z_goTo c (z_robs c).length)) = z_tick1 c := by unfold z_tick1; rw [z_goTo_end (Nat.le_refl _)]
      rw [e1] at hr1
      refine wa_iload_n 0 dX3_tick_14 rfl rfl ?_
      refine wa_aload_n 2 dX3_tick_15 rfl rfl ?_
      refine wa_getf dX3_tick_16 gX3_9 hgN rfl ?_
      refine wa_iconst (3) dX3_tick_19 (by decide) ?_
      refine wa_iald dX3_tick_20 hfN (vp_in_nI (n := 3) (by omega) (by omega)) ?_
      rw [h3]
      refine wa_icmp_ge 275 dX3_tick_21 rfl (fun c21 => ?_) (fun c21 => absurd (nI_le (by omega) (by omega)) c21)
      refine wa_iconst (0) dX3_tick_275 (by decide) ?_
      refine wa_istore_n [(2, _), (1, _), (0, _)] dX3_tick_276 rfl (Nat.le_of_ble_eq_true rfl) rfl ?_
      refine wa_iconst (0) dX3_tick_277 (by decide) ?_
      refine wa_istore_n [(3, _), (2, _), (1, _), (0, _)] dX3_tick_278 rfl (Nat.le_of_ble_eq_true rfl) rfl ?_
      refine wa_locals [(3, _), (2, _), (1, _), (0, _)] [0, 1, 2, 3] rfl ?_
      exact L2 _ 0 N f1 (z_tick1 c, 0) (Nat.zero_add _) hfr hfN hr1 hg.tick1 (List.length_map _) rfl
    | succ n ih =>
      intro k N f1 hn hfr hfN hr1
      have hgN := hfr.2 _ _ hm (by omega)
      have h3 : f1 (Int32.toNatClampNeg 3) = nI (z_robs c).length := hr1.rn.trans (congrArg nI (z_goTo_len c _))
      have hkl : k < (z_robs c).length := by omega
      obtain ⟨r, hk⟩ : ∃ r, (z_robs c)[k]? = some r := ⟨_, List.getElem?_eq_getElem hkl⟩
      obtain ⟨hrc, hrp, hp30, hrh⟩ := hs.2.2.2.2.2.2.1 r (List.mem_of_getElem? hk)
      obtain ⟨q1, q2, q3, q4, q5, q6, q7⟩ := hr1.rob (z_goTo_at hk)
      cases hp : z_plan r with
      | nil =>
        rw [hp] at q4
        have hek : z_ended c k = false := by unfold z_ended; rw [hk]; simp only [hp]; rfl
        have hma := z_mask_add (z_ended c) (n := k) (by omega)
        rw [if_neg (by rw [hek]; exact fun z => by cases z), Int32.or_zero] at hma
        have hgo := z_goC_nil (c := c) hp
        have q4 : f1 (104 + 36 * k + 3) = 0 := q4
        have hst : ∀ v, v = z_batt (z_goC c r) → z_cell (z_goC c r) = z_cell r ∧ z_has (z_goC c r) = z_has r ∧ z_steps (z_goC c r) = z_steps r ∧ z_plan (z_goC c r) = [] → z_mr (z_setR (z_setN c (z_now c + 1)) (z_goTo c (k + 1))) (upd f1 (104 + 36 * k + 1) v) := by
          intro v hv hz
          refine z_mr_go hs hk hr1 (fun j hj => if_neg (by omega)) ?_
          obtain ⟨z1, z2, z3, z4⟩ := hz
          exact ⟨(if_neg (by omega)).trans (by rw [z1]; exact q1), (if_pos rfl).trans hv, (if_neg (by omega)).trans (by rw [z2]; exact q3), (if_neg (by omega)).trans (by rw [z4]; exact q4), fun z => absurd z4 z, (if_neg (by omega)).trans (by rw [z3]; exact q6), fun j y hj => by rw [z4] at hj; cases hj⟩
        have hkd := hr1.kind (k := z_cell r) hrc
        by_cases h2 : z_kinds c (z_cell r) = 2
        ·
          rw [if_pos h2] at hgo
          refine wa_iload_n 0 dX3_tick_14 rfl rfl ?_
          refine wa_aload_n 2 dX3_tick_15 rfl rfl ?_
          refine wa_getf dX3_tick_16 gX3_9 hgN rfl ?_
          refine wa_iconst (3) dX3_tick_19 (by decide) ?_
          refine wa_iald dX3_tick_20 hfN (vp_in_nI (n := 3) (by omega) (by omega)) ?_
          rw [h3]
          refine wa_icmp_ge 275 dX3_tick_21 rfl (fun c21 => absurd c21 (nI_lt_not (by omega) (by omega))) (fun c21 => ?_)
          refine wa_iload_n 0 dX3_tick_24 rfl rfl ?_
          refine wc_isI (wr_S dX3_tick_25 mX3_75 sp_mat rfl rfl rfl (Nat.le_of_ble_eq_true rfl)) ?_
          refine wa_istore_n [(3, _), (2, _), (1, _), (0, _)] dX3_tick_28 rfl (Nat.le_of_ble_eq_true rfl) rfl ?_
          refine wa_aload_n 3 dX3_tick_29 rfl rfl ?_
          refine wa_getf dX3_tick_30 gX3_9 hgN rfl ?_
          refine wa_iload_n 0 dX3_tick_33 rfl rfl ?_
          refine wa_iconst (3) dX3_tick_34 (by decide) ?_
          refine wa_iadd dX3_tick_35 ?_
          rw [show nI (104 + 36 * k) + 3 = nI ((104 + 36 * k) + 3) from nI_add _ 3]
          refine wa_iald dX3_tick_36 hfN (vp_in_nI (by omega) (by omega)) ?_
          rw [nI_clamp (by omega)]
          rw [q4]
          refine wa_if_ne 114 dX3_tick_37 rfl (fun c37 => absurd rfl c37) (fun c37 => ?_)
          refine wa_aload_n 3 dX3_tick_40 rfl rfl ?_
          refine wa_getf dX3_tick_41 gX3_9 hgN rfl ?_
          refine wa_bipush (8) dX3_tick_44 (by decide) ?_
          refine wa_aload_n 3 dX3_tick_46 rfl rfl ?_
          refine wa_getf dX3_tick_47 gX3_9 hgN rfl ?_
          refine wa_iload_n 0 dX3_tick_50 rfl rfl ?_
          refine wa_iconst (0) dX3_tick_51 (by decide) ?_
          refine wa_iadd dX3_tick_52 ?_
          rw [show nI (104 + 36 * k) + 0 = nI (104 + 36 * k) from Int32.add_zero _]
          refine wa_iald dX3_tick_53 hfN (vp_in_nI (by omega) (by omega)) ?_
          rw [nI_clamp (by omega)]
          rw [q1]
          refine wa_iadd dX3_tick_54 ?_
          rw [show (8 : Int32) + nI (z_cell r) = nI (8 + z_cell r) from nI_add 8 _]
          refine wa_iald dX3_tick_55 hfN (vp_in_nI (by omega) (by omega)) ?_
          rw [nI_clamp (by omega)]
          rw [hkd]
          refine wa_iconst (2) dX3_tick_56 (by decide) ?_
          refine wa_icmp_ne 64 dX3_tick_57 rfl (fun c57 => absurd h2 c57) (fun c57 => ?_)
          refine wa_iconst (1) dX3_tick_60 (by decide) ?_
          refine wa_goto 65 dX3_tick_61 rfl ?_
          refine wa_istore [(4, _), (3, _), (2, _), (1, _), (0, _)] dX3_tick_65 (Nat.le_of_ble_eq_true rfl) rfl ?_
          refine wa_aload_n 4 dX3_tick_67 rfl rfl ?_
          refine wa_getf dX3_tick_68 gX3_9 hgN rfl ?_
          refine wa_iload_n 1 dX3_tick_71 rfl rfl ?_
          refine wa_iconst (1) dX3_tick_72 (by decide) ?_
          refine wa_iadd dX3_tick_73 ?_
          rw [show nI (104 + 36 * k) + 1 = nI ((104 + 36 * k) + 1) from nI_add _ 1]
          refine wa_iload 0 dX3_tick_74 rfl ?_
          refine wa_if_eq 102 dX3_tick_76 rfl (fun c76 => absurd c76 (by decide)) (fun c76 => ?_)
          refine wa_bipush (99) dX3_tick_79 (by decide) ?_
          refine wa_aload_n 4 dX3_tick_81 rfl rfl ?_
          refine wa_getf dX3_tick_82 gX3_9 hgN rfl ?_
          refine wa_iload_n 1 dX3_tick_85 rfl rfl ?_
          refine wa_iconst (1) dX3_tick_86 (by decide) ?_
          refine wa_iadd dX3_tick_87 ?_
          rw [show nI (104 + 36 * k) + 1 = nI ((104 + 36 * k) + 1) from nI_add _ 1]
          refine wa_iald dX3_tick_88 hfN (vp_in_nI (by omega) (by omega)) ?_
          rw [nI_clamp (by omega)]
          rw [q2]
          refine wa_aload_n 4 dX3_tick_89 rfl rfl ?_
          refine wa_getf dX3_tick_90 gX3_9 hgN rfl ?_
          refine wa_iconst (5) dX3_tick_93 (by decide) ?_
          refine wa_iald dX3_tick_94 hfN (vp_in_nI (n := 5) (by omega) (by omega)) ?_
          rw [show f1 (Int32.toNatClampNeg 5) = z_sets c 0 from hr1.2.1 0 (by decide)]
          refine wa_iadd dX3_tick_95 ?_
          refine wa_mmin dX3_tick_96 q2140 rfl (Nat.le_of_ble_eq_true rfl) (Nat.le_of_ble_eq_true rfl) (Nat.le_of_ble_eq_true rfl) ?_
          refine wa_goto 110 dX3_tick_99 rfl ?_
          refine wa_iast dX3_tick_110 hfN (vp_in_nI (by omega) (by omega)) ?_
          rw [nI_clamp (by omega)]
          refine wa_goto 269 dX3_tick_111 rfl ?_
          refine wa_iinc 2 [(2, _), (4, _), (3, _), (1, _), (0, _)] dX3_tick_269 rfl (w_inc k) (Nat.le_of_ble_eq_true rfl) rfl ?_
          refine wa_goto 14 dX3_tick_272 rfl ?_
          refine wa_locals [(2, _), (1, _), (0, _)] [0, 3, 4] rfl ?_
          rw [hma]
          exact ih (k + 1) _ _ (by omega) hfr.me (w_set_self hfN) (hst _ (by rw [hgo]; rfl) (by rw [hgo]; exact ⟨rfl, rfl, rfl, hp⟩))
        ·
          rw [if_neg h2] at hgo
          refine wa_iload_n 0 dX3_tick_14 rfl rfl ?_
          refine wa_aload_n 2 dX3_tick_15 rfl rfl ?_
          refine wa_getf dX3_tick_16 gX3_9 hgN rfl ?_
          refine wa_iconst (3) dX3_tick_19 (by decide) ?_
          refine wa_iald dX3_tick_20 hfN (vp_in_nI (n := 3) (by omega) (by omega)) ?_
          rw [h3]
          refine wa_icmp_ge 275 dX3_tick_21 rfl (fun c21 => absurd c21 (nI_lt_not (by omega) (by omega))) (fun c21 => ?_)
          refine wa_iload_n 0 dX3_tick_24 rfl rfl ?_
          refine wc_isI (wr_S dX3_tick_25 mX3_75 sp_mat rfl rfl rfl (Nat.le_of_ble_eq_true rfl)) ?_
          refine wa_istore_n [(3, _), (2, _), (1, _), (0, _)] dX3_tick_28 rfl (Nat.le_of_ble_eq_true rfl) rfl ?_
          refine wa_aload_n 3 dX3_tick_29 rfl rfl ?_
          refine wa_getf dX3_tick_30 gX3_9 hgN rfl ?_
          refine wa_iload_n 0 dX3_tick_33 rfl rfl ?_
          refine wa_iconst (3) dX3_tick_34 (by decide) ?_
          refine wa_iadd dX3_tick_35 ?_
          rw [show nI (104 + 36 * k) + 3 = nI ((104 + 36 * k) + 3) from nI_add _ 3]
          refine wa_iald dX3_tick_36 hfN (vp_in_nI (by omega) (by omega)) ?_
          rw [nI_clamp (by omega)]
          rw [q4]
          refine wa_if_ne 114 dX3_tick_37 rfl (fun c37 => absurd rfl c37) (fun c37 => ?_)
          refine wa_aload_n 3 dX3_tick_40 rfl rfl ?_
          refine wa_getf dX3_tick_41 gX3_9 hgN rfl ?_
          refine wa_bipush (8) dX3_tick_44 (by decide) ?_
          refine wa_aload_n 3 dX3_tick_46 rfl rfl ?_
          refine wa_getf dX3_tick_47 gX3_9 hgN rfl ?_
          refine wa_iload_n 0 dX3_tick_50 rfl rfl ?_
          refine wa_iconst (0) dX3_tick_51 (by decide) ?_
          refine wa_iadd dX3_tick_52 ?_
          rw [show nI (104 + 36 * k) + 0 = nI (104 + 36 * k) from Int32.add_zero _]
          refine wa_iald dX3_tick_53 hfN (vp_in_nI (by omega) (by omega)) ?_
          rw [nI_clamp (by omega)]
          rw [q1]
          refine wa_iadd dX3_tick_54 ?_
          rw [show (8 : Int32) + nI (z_cell r) = nI (8 + z_cell r) from nI_add 8 _]
          refine wa_iald dX3_tick_55 hfN (vp_in_nI (by omega) (by omega)) ?_
          rw [nI_clamp (by omega)]
          rw [hkd]
          refine wa_iconst (2) dX3_tick_56 (by decide) ?_
          refine wa_icmp_ne 64 dX3_tick_57 rfl (fun c57 => ?_) (fun c57 => absurd c57 h2)
          refine wa_iconst (0) dX3_tick_64 (by decide) ?_
          refine wa_istore [(4, _), (3, _), (2, _), (1, _), (0, _)] dX3_tick_65 (Nat.le_of_ble_eq_true rfl) rfl ?_
          refine wa_aload_n 4 dX3_tick_67 rfl rfl ?_
          refine wa_getf dX3_tick_68 gX3_9 hgN rfl ?_
          refine wa_iload_n 1 dX3_tick_71 rfl rfl ?_
          refine wa_iconst (1) dX3_tick_72 (by decide) ?_
          refine wa_iadd dX3_tick_73 ?_
          rw [show nI (104 + 36 * k) + 1 = nI ((104 + 36 * k) + 1) from nI_add _ 1]
          refine wa_iload 0 dX3_tick_74 rfl ?_
          refine wa_if_eq 102 dX3_tick_76 rfl (fun c76 => ?_) (fun c76 => absurd (by decide) c76)
          refine wa_aload_n 4 dX3_tick_102 rfl rfl ?_
          refine wa_getf dX3_tick_103 gX3_9 hgN rfl ?_
          refine wa_iload_n 1 dX3_tick_106 rfl rfl ?_
          refine wa_iconst (1) dX3_tick_107 (by decide) ?_
          refine wa_iadd dX3_tick_108 ?_
          rw [show nI (104 + 36 * k) + 1 = nI ((104 + 36 * k) + 1) from nI_add _ 1]
          refine wa_iald dX3_tick_109 hfN (vp_in_nI (by omega) (by omega)) ?_
          rw [nI_clamp (by omega)]
          rw [q2]
          refine wa_iast dX3_tick_110 hfN (vp_in_nI (by omega) (by omega)) ?_
          rw [nI_clamp (by omega)]
          refine wa_goto 269 dX3_tick_111 rfl ?_
          refine wa_iinc 2 [(2, _), (4, _), (3, _), (1, _), (0, _)] dX3_tick_269 rfl (w_inc k) (Nat.le_of_ble_eq_true rfl) rfl ?_
          refine wa_goto 14 dX3_tick_272 rfl ?_
          refine wa_locals [(2, _), (1, _), (0, _)] [0, 3, 4] rfl ?_
          rw [hma]
          exact ih (k + 1) _ _ (by omega) hfr.me (w_set_self hfN) (hst _ (by rw [hgo]) (by rw [hgo]; exact ⟨rfl, rfl, rfl, hp⟩))
      | cons q p =>
        have hpn : z_plan r ≠ [] := by rw [hp]; exact fun z => by cases z
        have q7h : f1 (104 + 36 * k + 6) = nI q := q7 0 q (by rw [hp]; rfl)
        have hqs : q < z_size c := hrp q (by rw [hp]; exact List.mem_cons_self ..)
        have hpl : p.length + 1 ≤ 30 := by rw [hp] at hp30; exact hp30
        by_cases hq : q = z_cell r
        ·
          by_cases hpe : p = []
          ·
            refine wa_iload_n 0 dX3_tick_14 rfl rfl ?_
            refine wa_aload_n 2 dX3_tick_15 rfl rfl ?_
            refine wa_getf dX3_tick_16 gX3_9 hgN rfl ?_
            refine wa_iconst (3) dX3_tick_19 (by decide) ?_
            refine wa_iald dX3_tick_20 hfN (vp_in_nI (n := 3) (by omega) (by omega)) ?_
            rw [h3]
            refine wa_icmp_ge 275 dX3_tick_21 rfl (fun c21 => absurd c21 (nI_lt_not (by omega) (by omega))) (fun c21 => ?_)
            refine wa_iload_n 0 dX3_tick_24 rfl rfl ?_
            refine wc_isI (wr_S dX3_tick_25 mX3_75 sp_mat rfl rfl rfl (Nat.le_of_ble_eq_true rfl)) ?_
            refine wa_istore_n [(3, _), (2, _), (1, _), (0, _)] dX3_tick_28 rfl (Nat.le_of_ble_eq_true rfl) rfl ?_
            refine wa_aload_n 3 dX3_tick_29 rfl rfl ?_
            refine wa_getf dX3_tick_30 gX3_9 hgN rfl ?_
            refine wa_iload_n 0 dX3_tick_33 rfl rfl ?_
            refine wa_iconst (3) dX3_tick_34 (by decide) ?_
            refine wa_iadd dX3_tick_35 ?_
            rw [show nI (104 + 36 * k) + 3 = nI ((104 + 36 * k) + 3) from nI_add _ 3]
            refine wa_iald dX3_tick_36 hfN (vp_in_nI (by omega) (by omega)) ?_
            rw [nI_clamp (by omega)]
            rw [q4, hp]
            rw [show (q :: p).length = p.length + 1 from rfl]
            refine wa_if_ne 114 dX3_tick_37 rfl (fun c37 => ?_) (fun c37 => absurd c37 (nI_ne0 (by omega) (by omega)))
            refine wa_aload_n 3 dX3_tick_114 rfl rfl ?_
            refine wa_getf dX3_tick_115 gX3_9 hgN rfl ?_
            refine wa_iload_n 0 dX3_tick_118 rfl rfl ?_
            refine wa_bipush (6) dX3_tick_119 (by decide) ?_
            refine wa_iadd dX3_tick_121 ?_
            rw [show nI (104 + 36 * k) + 6 = nI ((104 + 36 * k) + 6) from nI_add _ 6]
            refine wa_iald dX3_tick_122 hfN (vp_in_nI (by omega) (by omega)) ?_
            rw [nI_clamp (by omega)]
            rw [q7h]
            refine wa_aload_n 3 dX3_tick_123 rfl rfl ?_
            refine wa_getf dX3_tick_124 gX3_9 hgN rfl ?_
            refine wa_iload_n 0 dX3_tick_127 rfl rfl ?_
            refine wa_iconst (0) dX3_tick_128 (by decide) ?_
            refine wa_iadd dX3_tick_129 ?_
            rw [show nI (104 + 36 * k) + 0 = nI (104 + 36 * k) from Int32.add_zero _]
            refine wa_iald dX3_tick_130 hfN (vp_in_nI (by omega) (by omega)) ?_
            rw [nI_clamp (by omega)]
            rw [q1]
            refine wa_icmp_eq 138 dX3_tick_131 rfl (fun c131 => ?_) (fun c131 => absurd (congrArg nI hq) c131)
            refine wa_iconst (0) dX3_tick_138 (by decide) ?_
            refine wa_istore [(4, _), (3, _), (2, _), (1, _), (0, _)] dX3_tick_139 (Nat.le_of_ble_eq_true rfl) rfl ?_
            refine wa_aload_n 4 dX3_tick_141 rfl rfl ?_
            refine wa_getf dX3_tick_142 gX3_9 hgN rfl ?_
            refine wa_iload_n 1 dX3_tick_145 rfl rfl ?_
            refine wa_iconst (1) dX3_tick_146 (by decide) ?_
            refine wa_iadd dX3_tick_147 ?_
            rw [show nI (104 + 36 * k) + 1 = nI ((104 + 36 * k) + 1) from nI_add _ 1]
            refine wa_dup2 dX3_tick_148 rfl rfl ?_
            refine wa_iald dX3_tick_149 hfN (vp_in_nI (by omega) (by omega)) ?_
            rw [nI_clamp (by omega)]
            rw [q2]
            refine wa_iload 0 dX3_tick_150 rfl ?_
            refine wa_if_eq 166 dX3_tick_152 rfl (fun c152 => ?_) (fun c152 => absurd (by decide) c152)
            refine wa_iconst (0) dX3_tick_166 (by decide) ?_
            refine wa_isub dX3_tick_167 ?_
            refine wa_iast dX3_tick_168 hfN (vp_in_nI (by omega) (by omega)) ?_
            rw [nI_clamp (by omega)]
            refine wa_aload_n 4 dX3_tick_169 rfl rfl ?_
            refine wa_getf dX3_tick_170 gX3_9 (w_sne hgN (by omega)) rfl ?_
            refine wa_iload_n 1 dX3_tick_173 rfl rfl ?_
            refine wa_iconst (5) dX3_tick_174 (by decide) ?_
            refine wa_iadd dX3_tick_175 ?_
            rw [show nI (104 + 36 * k) + 5 = nI ((104 + 36 * k) + 5) from nI_add _ 5]
            refine wa_dup2 dX3_tick_176 rfl rfl ?_
            refine wa_iald dX3_tick_177 (w_set_self hfN) (vp_in_nI (by omega) (by omega)) ?_
            rw [nI_clamp (by omega)]
            rw [show (upd f1 (104 + 36 * k + 1) (z_batt r - 0)) (104 + 36 * k + 5) = z_steps r from (if_neg (by omega)).trans q6]
            refine wa_iload 0 dX3_tick_178 rfl ?_
            refine wa_if_eq 187 dX3_tick_180 rfl (fun c180 => ?_) (fun c180 => absurd (by decide) c180)
            refine wa_iconst (0) dX3_tick_187 (by decide) ?_
            refine wa_iadd dX3_tick_188 ?_
            refine wa_iast dX3_tick_189 (w_set_self hfN) (vp_in_nI (by omega) (by omega)) ?_
            rw [nI_clamp (by omega)]
            refine wa_aload_n 4 dX3_tick_190 rfl rfl ?_
            refine wa_getf dX3_tick_191 gX3_9 (w_sne (w_sne hgN (by omega)) (by omega)) rfl ?_
            refine wa_iload_n 1 dX3_tick_194 rfl rfl ?_
            refine wa_iconst (0) dX3_tick_195 (by decide) ?_
            refine wa_iadd dX3_tick_196 ?_
            rw [show nI (104 + 36 * k) + 0 = nI (104 + 36 * k) from Int32.add_zero _]
            refine wa_aload_n 4 dX3_tick_197 rfl rfl ?_
            refine wa_getf dX3_tick_198 gX3_9 (w_sne (w_sne hgN (by omega)) (by omega)) rfl ?_
            refine wa_iload_n 1 dX3_tick_201 rfl rfl ?_
            refine wa_bipush (6) dX3_tick_202 (by decide) ?_
            refine wa_iadd dX3_tick_204 ?_
            rw [show nI (104 + 36 * k) + 6 = nI ((104 + 36 * k) + 6) from nI_add _ 6]
            refine wa_iald dX3_tick_205 (w_set_self (w_set_self hfN)) (vp_in_nI (by omega) (by omega)) ?_
            rw [nI_clamp (by omega)]
            rw [show (upd (upd f1 (104 + 36 * k + 1) (z_batt r - 0)) (104 + 36 * k + 5) (z_steps r + 0)) (104 + 36 * k + 6) = nI q from (if_neg (by omega)).trans ((if_neg (by omega)).trans q7h)]
            refine wa_iast dX3_tick_206 (w_set_self (w_set_self hfN)) (vp_in_nI (by omega) (by omega)) ?_
            rw [nI_clamp (by omega)]
            refine wa_aload_n 4 dX3_tick_207 rfl rfl ?_
            refine wa_getf dX3_tick_208 gX3_9 (w_sne (w_sne (w_sne hgN (by omega)) (by omega)) (by omega)) rfl ?_
            refine wa_iload_n 1 dX3_tick_211 rfl rfl ?_
            refine wa_iconst (3) dX3_tick_212 (by decide) ?_
            refine wa_iadd dX3_tick_213 ?_
            rw [show nI (104 + 36 * k) + 3 = nI ((104 + 36 * k) + 3) from nI_add _ 3]
            refine wa_dup2 dX3_tick_214 rfl rfl ?_
            refine wa_iald dX3_tick_215 (w_set_self (w_set_self (w_set_self hfN))) (vp_in_nI (by omega) (by omega)) ?_
            rw [nI_clamp (by omega)]
            rw [show (upd (upd (upd f1 (104 + 36 * k + 1) (z_batt r - 0)) (104 + 36 * k + 5) (z_steps r + 0)) (104 + 36 * k) (nI q)) (104 + 36 * k + 3) = nI (p.length + 1) from (if_neg (by omega)).trans ((if_neg (by omega)).trans ((if_neg (by omega)).trans (q4.trans (by rw [hp]; rfl))))]
            refine wa_iconst (1) dX3_tick_216 (by decide) ?_
            refine wa_isub dX3_tick_217 ?_
            rw [show nI (p.length + 1) - 1 = nI p.length from pk_sub (a := p.length + 1) (b := 1) (by omega)]
            refine wa_iast dX3_tick_218 (w_set_self (w_set_self (w_set_self hfN))) (vp_in_nI (by omega) (by omega)) ?_
            rw [nI_clamp (by omega)]
            refine wa_aload_n 4 dX3_tick_219 rfl rfl ?_
            refine wa_getf dX3_tick_220 gX3_9 (w_sne (w_sne (w_sne (w_sne hgN (by omega)) (by omega)) (by omega)) (by omega)) rfl ?_
            refine wa_iload_n 1 dX3_tick_223 rfl rfl ?_
            refine wa_bipush (6) dX3_tick_224 (by decide) ?_
            refine wa_iadd dX3_tick_226 ?_
            rw [show nI (104 + 36 * k) + 6 = nI ((104 + 36 * k) + 6) from nI_add _ 6]
            refine wa_iconst (1) dX3_tick_227 (by decide) ?_
            refine wa_iadd dX3_tick_228 ?_
            rw [show nI (104 + 36 * k + 6) + 1 = nI (104 + 36 * k + 7) from nI_add _ 1]
            refine wa_aload_n 4 dX3_tick_229 rfl rfl ?_
            refine wa_getf dX3_tick_230 gX3_9 (w_sne (w_sne (w_sne (w_sne hgN (by omega)) (by omega)) (by omega)) (by omega)) rfl ?_
            refine wa_iload_n 1 dX3_tick_233 rfl rfl ?_
            refine wa_bipush (6) dX3_tick_234 (by decide) ?_
            refine wa_iadd dX3_tick_236 ?_
            rw [show nI (104 + 36 * k) + 6 = nI ((104 + 36 * k) + 6) from nI_add _ 6]
            refine wa_aload_n 4 dX3_tick_237 rfl rfl ?_
            refine wa_getf dX3_tick_238 gX3_9 (w_sne (w_sne (w_sne (w_sne hgN (by omega)) (by omega)) (by omega)) (by omega)) rfl ?_
            refine wa_iload_n 1 dX3_tick_241 rfl rfl ?_
            refine wa_iconst (3) dX3_tick_242 (by decide) ?_
            refine wa_iadd dX3_tick_243 ?_
            rw [show nI (104 + 36 * k) + 3 = nI ((104 + 36 * k) + 3) from nI_add _ 3]
            refine wa_iald dX3_tick_244 (w_set_self (w_set_self (w_set_self (w_set_self hfN)))) (vp_in_nI (by omega) (by omega)) ?_
            rw [nI_clamp (by omega)]
            rw [show (upd (upd (upd (upd f1 (104 + 36 * k + 1) (z_batt r - 0)) (104 + 36 * k + 5) (z_steps r + 0)) (104 + 36 * k) (nI q)) (104 + 36 * k + 3) (nI p.length)) (104 + 36 * k + 3) = nI p.length from if_pos rfl]
            refine wa_copyi (104 + 36 * k + 7) (104 + 36 * k + 6) p.length dX3_tick_245 q2037 (w_set_self (w_set_self (w_set_self (w_set_self hfN)))) (w_set_self (w_set_self (w_set_self (w_set_self hfN)))) rfl rfl rfl (by omega) (by omega) (by decide) (by decide) rfl (Nat.le_of_ble_eq_true rfl) ?_
            refine wa_iload_n 3 dX3_tick_248 rfl rfl ?_
            refine wa_aload_n 4 dX3_tick_249 rfl rfl ?_
            refine wa_getf dX3_tick_250 gX3_9 (w_sne (w_sne (w_sne (w_sne (w_sne hgN (by omega)) (by omega)) (by omega)) (by omega)) (by omega)) rfl ?_
            refine wa_iload_n 1 dX3_tick_253 rfl rfl ?_
            refine wa_iconst (3) dX3_tick_254 (by decide) ?_
            refine wa_iadd dX3_tick_255 ?_
            rw [show nI (104 + 36 * k) + 3 = nI ((104 + 36 * k) + 3) from nI_add _ 3]
            refine wa_iald dX3_tick_256 (w_set_self (w_set_self (w_set_self (w_set_self (w_set_self hfN))))) (vp_in_nI (by omega) (by omega)) ?_
            rw [nI_clamp (by omega)]
            rw [show va_cpy (upd (upd (upd (upd f1 (104 + 36 * k + 1) (z_batt r - 0)) (104 + 36 * k + 5) (z_steps r + 0)) (104 + 36 * k) (nI q)) (104 + 36 * k + 3) (nI p.length)) (upd (upd (upd (upd f1 (104 + 36 * k + 1) (z_batt r - 0)) (104 + 36 * k + 5) (z_steps r + 0)) (104 + 36 * k) (nI q)) (104 + 36 * k + 3) (nI p.length)) (104 + 36 * k + 7) (104 + 36 * k + 6) p.length (104 + 36 * k + 3) = nI p.length from (if_neg (by omega)).trans (if_pos rfl)]
            refine wa_if_ne 266 dX3_tick_257 rfl (fun c257 => absurd (congrArg nI (show p.length = 0 by rw [hpe]; rfl)) c257) (fun c257 => ?_)
            refine wa_iconst (1) dX3_tick_260 (by decide) ?_
            refine wa_iload_n 2 dX3_tick_261 rfl rfl ?_
            refine wa_ishl dX3_tick_262 ?_
            refine wa_goto 267 dX3_tick_263 rfl ?_
            refine wa_ior dX3_tick_267 ?_
            refine wa_istore_n [(1, _), (4, _), (3, _), (2, _), (0, _)] dX3_tick_268 rfl (Nat.le_of_ble_eq_true rfl) rfl ?_
            refine wa_iinc 3 [(2, _), (1, _), (4, _), (3, _), (0, _)] dX3_tick_269 rfl (w_inc k) (Nat.le_of_ble_eq_true rfl) rfl ?_
            refine wa_goto 14 dX3_tick_272 rfl ?_
            refine wa_locals [(2, _), (1, _), (0, _)] [0, 1, 4] rfl ?_
            have hgo := z_goC_cons (c := c) hp
            rw [if_pos hq, if_pos hq] at hgo
            have hmk : z_mr (z_setR (z_setN c (z_now c + 1)) (z_goTo c (k + 1))) (va_cpy (upd (upd (upd (upd f1 (104 + 36 * k + 1) (z_batt r - 0)) (104 + 36 * k + 5) (z_steps r + 0)) (104 + 36 * k) (nI q)) (104 + 36 * k + 3) (nI p.length)) (upd (upd (upd (upd f1 (104 + 36 * k + 1) (z_batt r - 0)) (104 + 36 * k + 5) (z_steps r + 0)) (104 + 36 * k) (nI q)) (104 + 36 * k + 3) (nI p.length)) (104 + 36 * k + 7) (104 + 36 * k + 6) p.length) := by
              refine z_mr_go hs hk hr1 (fun j hj => (if_neg (by omega)).trans ((if_neg (by omega)).trans ((if_neg (by omega)).trans ((if_neg (by omega)).trans (if_neg (by omega)))))) ?_
              rw [hgo]
              exact ⟨(if_neg (by omega)).trans ((if_neg (by omega)).trans (if_pos rfl)), (if_neg (by omega)).trans ((if_neg (by omega)).trans ((if_neg (by omega)).trans ((if_neg (by omega)).trans ((if_pos rfl).trans (Int32.sub_zero _))))), (if_neg (by omega)).trans ((if_neg (by omega)).trans ((if_neg (by omega)).trans ((if_neg (by omega)).trans ((if_neg (by omega)).trans q3)))), (if_neg (by omega)).trans (if_pos rfl), fun z => (if_neg (by omega)).trans ((if_neg (by omega)).trans ((if_neg (by omega)).trans ((if_neg (by omega)).trans ((if_neg (by omega)).trans (q5 hpn))))), (if_neg (by omega)).trans ((if_neg (by omega)).trans ((if_neg (by omega)).trans ((if_pos rfl).trans (Int32.add_zero _)))), fun j y hj => by
                have hjl := (List.getElem?_eq_some_iff.mp hj).1
                have hjl : j < p.length := hjl
                have e7 := q7 (j + 1) y (by rw [hp]; exact hj)
                refine (if_pos (by omega)).trans ((if_neg (by omega)).trans ((if_neg (by omega)).trans ((if_neg (by omega)).trans ((if_neg (by omega)).trans ?_))))
                rw [show 104 + 36 * k + 7 + (104 + 36 * k + 6 + j - (104 + 36 * k + 6)) = 104 + 36 * k + 6 + (j + 1) by omega]
                exact e7⟩
            have hek : z_ended c k = true := by unfold z_ended; rw [hk]; simp only [hp]; subst hpe; rfl
            have hma := z_mask_add (z_ended c) (n := k) (by omega)
            rw [if_pos hek] at hma
            rw [hma]
            exact ih (k + 1) _ _ (by omega) hfr.me.me.me.me.me (w_set_self (w_set_self (w_set_self (w_set_self (w_set_self hfN))))) hmk
          ·
            have hpl0 : ¬ p.length = 0 := fun z => hpe (List.eq_nil_of_length_eq_zero z)
            refine wa_iload_n 0 dX3_tick_14 rfl rfl ?_
            refine wa_aload_n 2 dX3_tick_15 rfl rfl ?_
            refine wa_getf dX3_tick_16 gX3_9 hgN rfl ?_
            refine wa_iconst (3) dX3_tick_19 (by decide) ?_
            refine wa_iald dX3_tick_20 hfN (vp_in_nI (n := 3) (by omega) (by omega)) ?_
            rw [h3]
            refine wa_icmp_ge 275 dX3_tick_21 rfl (fun c21 => absurd c21 (nI_lt_not (by omega) (by omega))) (fun c21 => ?_)
            refine wa_iload_n 0 dX3_tick_24 rfl rfl ?_
            refine wc_isI (wr_S dX3_tick_25 mX3_75 sp_mat rfl rfl rfl (Nat.le_of_ble_eq_true rfl)) ?_
            refine wa_istore_n [(3, _), (2, _), (1, _), (0, _)] dX3_tick_28 rfl (Nat.le_of_ble_eq_true rfl) rfl ?_
            refine wa_aload_n 3 dX3_tick_29 rfl rfl ?_
            refine wa_getf dX3_tick_30 gX3_9 hgN rfl ?_
            refine wa_iload_n 0 dX3_tick_33 rfl rfl ?_
            refine wa_iconst (3) dX3_tick_34 (by decide) ?_
            refine wa_iadd dX3_tick_35 ?_
            rw [show nI (104 + 36 * k) + 3 = nI ((104 + 36 * k) + 3) from nI_add _ 3]
            refine wa_iald dX3_tick_36 hfN (vp_in_nI (by omega) (by omega)) ?_
            rw [nI_clamp (by omega)]
            rw [q4, hp]
            rw [show (q :: p).length = p.length + 1 from rfl]
            refine wa_if_ne 114 dX3_tick_37 rfl (fun c37 => ?_) (fun c37 => absurd c37 (nI_ne0 (by omega) (by omega)))
            refine wa_aload_n 3 dX3_tick_114 rfl rfl ?_
            refine wa_getf dX3_tick_115 gX3_9 hgN rfl ?_
            refine wa_iload_n 0 dX3_tick_118 rfl rfl ?_
            refine wa_bipush (6) dX3_tick_119 (by decide) ?_
            refine wa_iadd dX3_tick_121 ?_
            rw [show nI (104 + 36 * k) + 6 = nI ((104 + 36 * k) + 6) from nI_add _ 6]
            refine wa_iald dX3_tick_122 hfN (vp_in_nI (by omega) (by omega)) ?_
            rw [nI_clamp (by omega)]
            rw [q7h]
            refine wa_aload_n 3 dX3_tick_123 rfl rfl ?_
            refine wa_getf dX3_tick_124 gX3_9 hgN rfl ?_
            refine wa_iload_n 0 dX3_tick_127 rfl rfl ?_
            refine wa_iconst (0) dX3_tick_128 (by decide) ?_
            refine wa_iadd dX3_tick_129 ?_
            rw [show nI (104 + 36 * k) + 0 = nI (104 + 36 * k) from Int32.add_zero _]
            refine wa_iald dX3_tick_130 hfN (vp_in_nI (by omega) (by omega)) ?_
            rw [nI_clamp (by omega)]
            rw [q1]
            refine wa_icmp_eq 138 dX3_tick_131 rfl (fun c131 => ?_) (fun c131 => absurd (congrArg nI hq) c131)
            refine wa_iconst (0) dX3_tick_138 (by decide) ?_
            refine wa_istore [(4, _), (3, _), (2, _), (1, _), (0, _)] dX3_tick_139 (Nat.le_of_ble_eq_true rfl) rfl ?_
            refine wa_aload_n 4 dX3_tick_141 rfl rfl ?_
            refine wa_getf dX3_tick_142 gX3_9 hgN rfl ?_
            refine wa_iload_n 1 dX3_tick_145 rfl rfl ?_
            refine wa_iconst (1) dX3_tick_146 (by decide) ?_
            refine wa_iadd dX3_tick_147 ?_
            rw [show nI (104 + 36 * k) + 1 = nI ((104 + 36 * k) + 1) from nI_add _ 1]
            refine wa_dup2 dX3_tick_148 rfl rfl ?_
            refine wa_iald dX3_tick_149 hfN (vp_in_nI (by omega) (by omega)) ?_
            rw [nI_clamp (by omega)]
            rw [q2]
            refine wa_iload 0 dX3_tick_150 rfl ?_
            refine wa_if_eq 166 dX3_tick_152 rfl (fun c152 => ?_) (fun c152 => absurd (by decide) c152)
            refine wa_iconst (0) dX3_tick_166 (by decide) ?_
            refine wa_isub dX3_tick_167 ?_
            refine wa_iast dX3_tick_168 hfN (vp_in_nI (by omega) (by omega)) ?_
            rw [nI_clamp (by omega)]
            refine wa_aload_n 4 dX3_tick_169 rfl rfl ?_
            refine wa_getf dX3_tick_170 gX3_9 (w_sne hgN (by omega)) rfl ?_
            refine wa_iload_n 1 dX3_tick_173 rfl rfl ?_
            refine wa_iconst (5) dX3_tick_174 (by decide) ?_
            refine wa_iadd dX3_tick_175 ?_
            rw [show nI (104 + 36 * k) + 5 = nI ((104 + 36 * k) + 5) from nI_add _ 5]
            refine wa_dup2 dX3_tick_176 rfl rfl ?_
            refine wa_iald dX3_tick_177 (w_set_self hfN) (vp_in_nI (by omega) (by omega)) ?_
            rw [nI_clamp (by omega)]
            rw [show (upd f1 (104 + 36 * k + 1) (z_batt r - 0)) (104 + 36 * k + 5) = z_steps r from (if_neg (by omega)).trans q6]
            refine wa_iload 0 dX3_tick_178 rfl ?_
            refine wa_if_eq 187 dX3_tick_180 rfl (fun c180 => ?_) (fun c180 => absurd (by decide) c180)
            refine wa_iconst (0) dX3_tick_187 (by decide) ?_
            refine wa_iadd dX3_tick_188 ?_
            refine wa_iast dX3_tick_189 (w_set_self hfN) (vp_in_nI (by omega) (by omega)) ?_
            rw [nI_clamp (by omega)]
            refine wa_aload_n 4 dX3_tick_190 rfl rfl ?_
            refine wa_getf dX3_tick_191 gX3_9 (w_sne (w_sne hgN (by omega)) (by omega)) rfl ?_
            refine wa_iload_n 1 dX3_tick_194 rfl rfl ?_
            refine wa_iconst (0) dX3_tick_195 (by decide) ?_
            refine wa_iadd dX3_tick_196 ?_
            rw [show nI (104 + 36 * k) + 0 = nI (104 + 36 * k) from Int32.add_zero _]
            refine wa_aload_n 4 dX3_tick_197 rfl rfl ?_
            refine wa_getf dX3_tick_198 gX3_9 (w_sne (w_sne hgN (by omega)) (by omega)) rfl ?_
            refine wa_iload_n 1 dX3_tick_201 rfl rfl ?_
            refine wa_bipush (6) dX3_tick_202 (by decide) ?_
            refine wa_iadd dX3_tick_204 ?_
            rw [show nI (104 + 36 * k) + 6 = nI ((104 + 36 * k) + 6) from nI_add _ 6]
            refine wa_iald dX3_tick_205 (w_set_self (w_set_self hfN)) (vp_in_nI (by omega) (by omega)) ?_
            rw [nI_clamp (by omega)]
            rw [show (upd (upd f1 (104 + 36 * k + 1) (z_batt r - 0)) (104 + 36 * k + 5) (z_steps r + 0)) (104 + 36 * k + 6) = nI q from (if_neg (by omega)).trans ((if_neg (by omega)).trans q7h)]
            refine wa_iast dX3_tick_206 (w_set_self (w_set_self hfN)) (vp_in_nI (by omega) (by omega)) ?_
            rw [nI_clamp (by omega)]
            refine wa_aload_n 4 dX3_tick_207 rfl rfl ?_
            refine wa_getf dX3_tick_208 gX3_9 (w_sne (w_sne (w_sne hgN (by omega)) (by omega)) (by omega)) rfl ?_
            refine wa_iload_n 1 dX3_tick_211 rfl rfl ?_
            refine wa_iconst (3) dX3_tick_212 (by decide) ?_
            refine wa_iadd dX3_tick_213 ?_
            rw [show nI (104 + 36 * k) + 3 = nI ((104 + 36 * k) + 3) from nI_add _ 3]
            refine wa_dup2 dX3_tick_214 rfl rfl ?_
            refine wa_iald dX3_tick_215 (w_set_self (w_set_self (w_set_self hfN))) (vp_in_nI (by omega) (by omega)) ?_
            rw [nI_clamp (by omega)]
            rw [show (upd (upd (upd f1 (104 + 36 * k + 1) (z_batt r - 0)) (104 + 36 * k + 5) (z_steps r + 0)) (104 + 36 * k) (nI q)) (104 + 36 * k + 3) = nI (p.length + 1) from (if_neg (by omega)).trans ((if_neg (by omega)).trans ((if_neg (by omega)).trans (q4.trans (by rw [hp]; rfl))))]
            refine wa_iconst (1) dX3_tick_216 (by decide) ?_
            refine wa_isub dX3_tick_217 ?_
            rw [show nI (p.length + 1) - 1 = nI p.length from pk_sub (a := p.length + 1) (b := 1) (by omega)]
            refine wa_iast dX3_tick_218 (w_set_self (w_set_self (w_set_self hfN))) (vp_in_nI (by omega) (by omega)) ?_
            rw [nI_clamp (by omega)]
            refine wa_aload_n 4 dX3_tick_219 rfl rfl ?_
            refine wa_getf dX3_tick_220 gX3_9 (w_sne (w_sne (w_sne (w_sne hgN (by omega)) (by omega)) (by omega)) (by omega)) rfl ?_
            refine wa_iload_n 1 dX3_tick_223 rfl rfl ?_
            refine wa_bipush (6) dX3_tick_224 (by decide) ?_
            refine wa_iadd dX3_tick_226 ?_
            rw [show nI (104 + 36 * k) + 6 = nI ((104 + 36 * k) + 6) from nI_add _ 6]
            refine wa_iconst (1) dX3_tick_227 (by decide) ?_
            refine wa_iadd dX3_tick_228 ?_
            rw [show nI (104 + 36 * k + 6) + 1 = nI (104 + 36 * k + 7) from nI_add _ 1]
            refine wa_aload_n 4 dX3_tick_229 rfl rfl ?_
            refine wa_getf dX3_tick_230 gX3_9 (w_sne (w_sne (w_sne (w_sne hgN (by omega)) (by omega)) (by omega)) (by omega)) rfl ?_
            refine wa_iload_n 1 dX3_tick_233 rfl rfl ?_
            refine wa_bipush (6) dX3_tick_234 (by decide) ?_
            refine wa_iadd dX3_tick_236 ?_
            rw [show nI (104 + 36 * k) + 6 = nI ((104 + 36 * k) + 6) from nI_add _ 6]
            refine wa_aload_n 4 dX3_tick_237 rfl rfl ?_
            refine wa_getf dX3_tick_238 gX3_9 (w_sne (w_sne (w_sne (w_sne hgN (by omega)) (by omega)) (by omega)) (by omega)) rfl ?_
            refine wa_iload_n 1 dX3_tick_241 rfl rfl ?_
            refine wa_iconst (3) dX3_tick_242 (by decide) ?_
            refine wa_iadd dX3_tick_243 ?_
            rw [show nI (104 + 36 * k) + 3 = nI ((104 + 36 * k) + 3) from nI_add _ 3]
            refine wa_iald dX3_tick_244 (w_set_self (w_set_self (w_set_self (w_set_self hfN)))) (vp_in_nI (by omega) (by omega)) ?_
            rw [nI_clamp (by omega)]
            rw [show (upd (upd (upd (upd f1 (104 + 36 * k + 1) (z_batt r - 0)) (104 + 36 * k + 5) (z_steps r + 0)) (104 + 36 * k) (nI q)) (104 + 36 * k + 3) (nI p.length)) (104 + 36 * k + 3) = nI p.length from if_pos rfl]
            refine wa_copyi (104 + 36 * k + 7) (104 + 36 * k + 6) p.length dX3_tick_245 q2037 (w_set_self (w_set_self (w_set_self (w_set_self hfN)))) (w_set_self (w_set_self (w_set_self (w_set_self hfN)))) rfl rfl rfl (by omega) (by omega) (by decide) (by decide) rfl (Nat.le_of_ble_eq_true rfl) ?_
            refine wa_iload_n 3 dX3_tick_248 rfl rfl ?_
            refine wa_aload_n 4 dX3_tick_249 rfl rfl ?_
            refine wa_getf dX3_tick_250 gX3_9 (w_sne (w_sne (w_sne (w_sne (w_sne hgN (by omega)) (by omega)) (by omega)) (by omega)) (by omega)) rfl ?_
            refine wa_iload_n 1 dX3_tick_253 rfl rfl ?_
            refine wa_iconst (3) dX3_tick_254 (by decide) ?_
            refine wa_iadd dX3_tick_255 ?_
            rw [show nI (104 + 36 * k) + 3 = nI ((104 + 36 * k) + 3) from nI_add _ 3]
            refine wa_iald dX3_tick_256 (w_set_self (w_set_self (w_set_self (w_set_self (w_set_self hfN))))) (vp_in_nI (by omega) (by omega)) ?_
            rw [nI_clamp (by omega)]
            rw [show va_cpy (upd (upd (upd (upd f1 (104 + 36 * k + 1) (z_batt r - 0)) (104 + 36 * k + 5) (z_steps r + 0)) (104 + 36 * k) (nI q)) (104 + 36 * k + 3) (nI p.length)) (upd (upd (upd (upd f1 (104 + 36 * k + 1) (z_batt r - 0)) (104 + 36 * k + 5) (z_steps r + 0)) (104 + 36 * k) (nI q)) (104 + 36 * k + 3) (nI p.length)) (104 + 36 * k + 7) (104 + 36 * k + 6) p.length (104 + 36 * k + 3) = nI p.length from (if_neg (by omega)).trans (if_pos rfl)]
            refine wa_if_ne 266 dX3_tick_257 rfl (fun c257 => ?_) (fun c257 => absurd ((nI_eq (b := 0) (by omega) (by decide)).mp c257) hpl0)
            refine wa_iconst (0) dX3_tick_266 (by decide) ?_
            refine wa_ior dX3_tick_267 ?_
            refine wa_istore_n [(1, _), (4, _), (3, _), (2, _), (0, _)] dX3_tick_268 rfl (Nat.le_of_ble_eq_true rfl) rfl ?_
            refine wa_iinc 3 [(2, _), (1, _), (4, _), (3, _), (0, _)] dX3_tick_269 rfl (w_inc k) (Nat.le_of_ble_eq_true rfl) rfl ?_
            refine wa_goto 14 dX3_tick_272 rfl ?_
            refine wa_locals [(2, _), (1, _), (0, _)] [0, 1, 4] rfl ?_
            have hgo := z_goC_cons (c := c) hp
            rw [if_pos hq, if_pos hq] at hgo
            have hmk : z_mr (z_setR (z_setN c (z_now c + 1)) (z_goTo c (k + 1))) (va_cpy (upd (upd (upd (upd f1 (104 + 36 * k + 1) (z_batt r - 0)) (104 + 36 * k + 5) (z_steps r + 0)) (104 + 36 * k) (nI q)) (104 + 36 * k + 3) (nI p.length)) (upd (upd (upd (upd f1 (104 + 36 * k + 1) (z_batt r - 0)) (104 + 36 * k + 5) (z_steps r + 0)) (104 + 36 * k) (nI q)) (104 + 36 * k + 3) (nI p.length)) (104 + 36 * k + 7) (104 + 36 * k + 6) p.length) := by
              refine z_mr_go hs hk hr1 (fun j hj => (if_neg (by omega)).trans ((if_neg (by omega)).trans ((if_neg (by omega)).trans ((if_neg (by omega)).trans (if_neg (by omega)))))) ?_
              rw [hgo]
              exact ⟨(if_neg (by omega)).trans ((if_neg (by omega)).trans (if_pos rfl)), (if_neg (by omega)).trans ((if_neg (by omega)).trans ((if_neg (by omega)).trans ((if_neg (by omega)).trans ((if_pos rfl).trans (Int32.sub_zero _))))), (if_neg (by omega)).trans ((if_neg (by omega)).trans ((if_neg (by omega)).trans ((if_neg (by omega)).trans ((if_neg (by omega)).trans q3)))), (if_neg (by omega)).trans (if_pos rfl), fun z => (if_neg (by omega)).trans ((if_neg (by omega)).trans ((if_neg (by omega)).trans ((if_neg (by omega)).trans ((if_neg (by omega)).trans (q5 hpn))))), (if_neg (by omega)).trans ((if_neg (by omega)).trans ((if_neg (by omega)).trans ((if_pos rfl).trans (Int32.add_zero _)))), fun j y hj => by
                have hjl := (List.getElem?_eq_some_iff.mp hj).1
                have hjl : j < p.length := hjl
                have e7 := q7 (j + 1) y (by rw [hp]; exact hj)
                refine (if_pos (by omega)).trans ((if_neg (by omega)).trans ((if_neg (by omega)).trans ((if_neg (by omega)).trans ((if_neg (by omega)).trans ?_))))
                rw [show 104 + 36 * k + 7 + (104 + 36 * k + 6 + j - (104 + 36 * k + 6)) = 104 + 36 * k + 6 + (j + 1) by omega]
                exact e7⟩
            have hek : z_ended c k = false := by unfold z_ended; rw [hk]; simp only [hp]; exact decide_eq_false (fun z => hpe (List.eq_nil_of_length_eq_zero (by simpa using z)))
            have hma := z_mask_add (z_ended c) (n := k) (by omega)
            rw [if_neg (by rw [hek]; exact fun z => by cases z)] at hma
            rw [hma]
            exact ih (k + 1) _ _ (by omega) hfr.me.me.me.me.me (w_set_self (w_set_self (w_set_self (w_set_self (w_set_self hfN))))) hmk
        ·
          by_cases hpe : p = []
          ·
            refine wa_iload_n 0 dX3_tick_14 rfl rfl ?_
            refine wa_aload_n 2 dX3_tick_15 rfl rfl ?_
            refine wa_getf dX3_tick_16 gX3_9 hgN rfl ?_
            refine wa_iconst (3) dX3_tick_19 (by decide) ?_
            refine wa_iald dX3_tick_20 hfN (vp_in_nI (n := 3) (by omega) (by omega)) ?_
            rw [h3]
            refine wa_icmp_ge 275 dX3_tick_21 rfl (fun c21 => absurd c21 (nI_lt_not (by omega) (by omega))) (fun c21 => ?_)
            refine wa_iload_n 0 dX3_tick_24 rfl rfl ?_
            refine wc_isI (wr_S dX3_tick_25 mX3_75 sp_mat rfl rfl rfl (Nat.le_of_ble_eq_true rfl)) ?_
            refine wa_istore_n [(3, _), (2, _), (1, _), (0, _)] dX3_tick_28 rfl (Nat.le_of_ble_eq_true rfl) rfl ?_
            refine wa_aload_n 3 dX3_tick_29 rfl rfl ?_
            refine wa_getf dX3_tick_30 gX3_9 hgN rfl ?_
            refine wa_iload_n 0 dX3_tick_33 rfl rfl ?_
            refine wa_iconst (3) dX3_tick_34 (by decide) ?_
            refine wa_iadd dX3_tick_35 ?_
            rw [show nI (104 + 36 * k) + 3 = nI ((104 + 36 * k) + 3) from nI_add _ 3]
            refine wa_iald dX3_tick_36 hfN (vp_in_nI (by omega) (by omega)) ?_
            rw [nI_clamp (by omega)]
            rw [q4, hp]
            rw [show (q :: p).length = p.length + 1 from rfl]
            refine wa_if_ne 114 dX3_tick_37 rfl (fun c37 => ?_) (fun c37 => absurd c37 (nI_ne0 (by omega) (by omega)))
            refine wa_aload_n 3 dX3_tick_114 rfl rfl ?_
            refine wa_getf dX3_tick_115 gX3_9 hgN rfl ?_
            refine wa_iload_n 0 dX3_tick_118 rfl rfl ?_
            refine wa_bipush (6) dX3_tick_119 (by decide) ?_
            refine wa_iadd dX3_tick_121 ?_
            rw [show nI (104 + 36 * k) + 6 = nI ((104 + 36 * k) + 6) from nI_add _ 6]
            refine wa_iald dX3_tick_122 hfN (vp_in_nI (by omega) (by omega)) ?_
            rw [nI_clamp (by omega)]
            rw [q7h]
            refine wa_aload_n 3 dX3_tick_123 rfl rfl ?_
            refine wa_getf dX3_tick_124 gX3_9 hgN rfl ?_
            refine wa_iload_n 0 dX3_tick_127 rfl rfl ?_
            refine wa_iconst (0) dX3_tick_128 (by decide) ?_
            refine wa_iadd dX3_tick_129 ?_
            rw [show nI (104 + 36 * k) + 0 = nI (104 + 36 * k) from Int32.add_zero _]
            refine wa_iald dX3_tick_130 hfN (vp_in_nI (by omega) (by omega)) ?_
            rw [nI_clamp (by omega)]
            rw [q1]
            refine wa_icmp_eq 138 dX3_tick_131 rfl (fun c131 => absurd ((nI_eq (by omega) (by omega)).mp c131) hq) (fun c131 => ?_)
            refine wa_iconst (1) dX3_tick_134 (by decide) ?_
            refine wa_goto 139 dX3_tick_135 rfl ?_
            refine wa_istore [(4, _), (3, _), (2, _), (1, _), (0, _)] dX3_tick_139 (Nat.le_of_ble_eq_true rfl) rfl ?_
            refine wa_aload_n 4 dX3_tick_141 rfl rfl ?_
            refine wa_getf dX3_tick_142 gX3_9 hgN rfl ?_
            refine wa_iload_n 1 dX3_tick_145 rfl rfl ?_
            refine wa_iconst (1) dX3_tick_146 (by decide) ?_
            refine wa_iadd dX3_tick_147 ?_
            rw [show nI (104 + 36 * k) + 1 = nI ((104 + 36 * k) + 1) from nI_add _ 1]
            refine wa_dup2 dX3_tick_148 rfl rfl ?_
            refine wa_iald dX3_tick_149 hfN (vp_in_nI (by omega) (by omega)) ?_
            rw [nI_clamp (by omega)]
            rw [q2]
            refine wa_iload 0 dX3_tick_150 rfl ?_
            refine wa_if_eq 166 dX3_tick_152 rfl (fun c152 => absurd c152 (by decide)) (fun c152 => ?_)
            refine wa_aload_n 4 dX3_tick_155 rfl rfl ?_
            refine wa_getf dX3_tick_156 gX3_9 hgN rfl ?_
            refine wa_iload_n 1 dX3_tick_159 rfl rfl ?_
            refine wa_iconst (4) dX3_tick_160 (by decide) ?_
            refine wa_iadd dX3_tick_161 ?_
            rw [show nI (104 + 36 * k) + 4 = nI ((104 + 36 * k) + 4) from nI_add _ 4]
            refine wa_iald dX3_tick_162 hfN (vp_in_nI (by omega) (by omega)) ?_
            rw [nI_clamp (by omega)]
            rw [show f1 (104 + 36 * k + 4) = z_cost r from q5 hpn]
            refine wa_goto 167 dX3_tick_163 rfl ?_
            refine wa_isub dX3_tick_167 ?_
            refine wa_iast dX3_tick_168 hfN (vp_in_nI (by omega) (by omega)) ?_
            rw [nI_clamp (by omega)]
            refine wa_aload_n 4 dX3_tick_169 rfl rfl ?_
            refine wa_getf dX3_tick_170 gX3_9 (w_sne hgN (by omega)) rfl ?_
            refine wa_iload_n 1 dX3_tick_173 rfl rfl ?_
            refine wa_iconst (5) dX3_tick_174 (by decide) ?_
            refine wa_iadd dX3_tick_175 ?_
            rw [show nI (104 + 36 * k) + 5 = nI ((104 + 36 * k) + 5) from nI_add _ 5]
            refine wa_dup2 dX3_tick_176 rfl rfl ?_
            refine wa_iald dX3_tick_177 (w_set_self hfN) (vp_in_nI (by omega) (by omega)) ?_
            rw [nI_clamp (by omega)]
            rw [show (upd f1 (104 + 36 * k + 1) (z_batt r - z_cost r)) (104 + 36 * k + 5) = z_steps r from (if_neg (by omega)).trans q6]
            refine wa_iload 0 dX3_tick_178 rfl ?_
            refine wa_if_eq 187 dX3_tick_180 rfl (fun c180 => absurd c180 (by decide)) (fun c180 => ?_)
            refine wa_iconst (1) dX3_tick_183 (by decide) ?_
            refine wa_goto 188 dX3_tick_184 rfl ?_
            refine wa_iadd dX3_tick_188 ?_
            refine wa_iast dX3_tick_189 (w_set_self hfN) (vp_in_nI (by omega) (by omega)) ?_
            rw [nI_clamp (by omega)]
            refine wa_aload_n 4 dX3_tick_190 rfl rfl ?_
            refine wa_getf dX3_tick_191 gX3_9 (w_sne (w_sne hgN (by omega)) (by omega)) rfl ?_
            refine wa_iload_n 1 dX3_tick_194 rfl rfl ?_
            refine wa_iconst (0) dX3_tick_195 (by decide) ?_
            refine wa_iadd dX3_tick_196 ?_
            rw [show nI (104 + 36 * k) + 0 = nI (104 + 36 * k) from Int32.add_zero _]
            refine wa_aload_n 4 dX3_tick_197 rfl rfl ?_
            refine wa_getf dX3_tick_198 gX3_9 (w_sne (w_sne hgN (by omega)) (by omega)) rfl ?_
            refine wa_iload_n 1 dX3_tick_201 rfl rfl ?_
            refine wa_bipush (6) dX3_tick_202 (by decide) ?_
            refine wa_iadd dX3_tick_204 ?_
            rw [show nI (104 + 36 * k) + 6 = nI ((104 + 36 * k) + 6) from nI_add _ 6]
            refine wa_iald dX3_tick_205 (w_set_self (w_set_self hfN)) (vp_in_nI (by omega) (by omega)) ?_
            rw [nI_clamp (by omega)]
            rw [show (upd (upd f1 (104 + 36 * k + 1) (z_batt r - z_cost r)) (104 + 36 * k + 5) (z_steps r + 1)) (104 + 36 * k + 6) = nI q from (if_neg (by omega)).trans ((if_neg (by omega)).trans q7h)]
            refine wa_iast dX3_tick_206 (w_set_self (w_set_self hfN)) (vp_in_nI (by omega) (by omega)) ?_
            rw [nI_clamp (by omega)]
            refine wa_aload_n 4 dX3_tick_207 rfl rfl ?_
            refine wa_getf dX3_tick_208 gX3_9 (w_sne (w_sne (w_sne hgN (by omega)) (by omega)) (by omega)) rfl ?_
            refine wa_iload_n 1 dX3_tick_211 rfl rfl ?_
            refine wa_iconst (3) dX3_tick_212 (by decide) ?_
            refine wa_iadd dX3_tick_213 ?_
            rw [show nI (104 + 36 * k) + 3 = nI ((104 + 36 * k) + 3) from nI_add _ 3]
            refine wa_dup2 dX3_tick_214 rfl rfl ?_
            refine wa_iald dX3_tick_215 (w_set_self (w_set_self (w_set_self hfN))) (vp_in_nI (by omega) (by omega)) ?_
            rw [nI_clamp (by omega)]
            rw [show (upd (upd (upd f1 (104 + 36 * k + 1) (z_batt r - z_cost r)) (104 + 36 * k + 5) (z_steps r + 1)) (104 + 36 * k) (nI q)) (104 + 36 * k + 3) = nI (p.length + 1) from (if_neg (by omega)).trans ((if_neg (by omega)).trans ((if_neg (by omega)).trans (q4.trans (by rw [hp]; rfl))))]
            refine wa_iconst (1) dX3_tick_216 (by decide) ?_
            refine wa_isub dX3_tick_217 ?_
            rw [show nI (p.length + 1) - 1 = nI p.length from pk_sub (a := p.length + 1) (b := 1) (by omega)]
            refine wa_iast dX3_tick_218 (w_set_self (w_set_self (w_set_self hfN))) (vp_in_nI (by omega) (by omega)) ?_
            rw [nI_clamp (by omega)]
            refine wa_aload_n 4 dX3_tick_219 rfl rfl ?_
            refine wa_getf dX3_tick_220 gX3_9 (w_sne (w_sne (w_sne (w_sne hgN (by omega)) (by omega)) (by omega)) (by omega)) rfl ?_
            refine wa_iload_n 1 dX3_tick_223 rfl rfl ?_
            refine wa_bipush (6) dX3_tick_224 (by decide) ?_
            refine wa_iadd dX3_tick_226 ?_
            rw [show nI (104 + 36 * k) + 6 = nI ((104 + 36 * k) + 6) from nI_add _ 6]
            refine wa_iconst (1) dX3_tick_227 (by decide) ?_
            refine wa_iadd dX3_tick_228 ?_
            rw [show nI (104 + 36 * k + 6) + 1 = nI (104 + 36 * k + 7) from nI_add _ 1]
            refine wa_aload_n 4 dX3_tick_229 rfl rfl ?_
            refine wa_getf dX3_tick_230 gX3_9 (w_sne (w_sne (w_sne (w_sne hgN (by omega)) (by omega)) (by omega)) (by omega)) rfl ?_
            refine wa_iload_n 1 dX3_tick_233 rfl rfl ?_
            refine wa_bipush (6) dX3_tick_234 (by decide) ?_
            refine wa_iadd dX3_tick_236 ?_
            rw [show nI (104 + 36 * k) + 6 = nI ((104 + 36 * k) + 6) from nI_add _ 6]
            refine wa_aload_n 4 dX3_tick_237 rfl rfl ?_
            refine wa_getf dX3_tick_238 gX3_9 (w_sne (w_sne (w_sne (w_sne hgN (by omega)) (by omega)) (by omega)) (by omega)) rfl ?_
            refine wa_iload_n 1 dX3_tick_241 rfl rfl ?_
            refine wa_iconst (3) dX3_tick_242 (by decide) ?_
            refine wa_iadd dX3_tick_243 ?_
            rw [show nI (104 + 36 * k) + 3 = nI ((104 + 36 * k) + 3) from nI_add _ 3]
            refine wa_iald dX3_tick_244 (w_set_self (w_set_self (w_set_self (w_set_self hfN)))) (vp_in_nI (by omega) (by omega)) ?_
            rw [nI_clamp (by omega)]
            rw [show (upd (upd (upd (upd f1 (104 + 36 * k + 1) (z_batt r - z_cost r)) (104 + 36 * k + 5) (z_steps r + 1)) (104 + 36 * k) (nI q)) (104 + 36 * k + 3) (nI p.length)) (104 + 36 * k + 3) = nI p.length from if_pos rfl]
            refine wa_copyi (104 + 36 * k + 7) (104 + 36 * k + 6) p.length dX3_tick_245 q2037 (w_set_self (w_set_self (w_set_self (w_set_self hfN)))) (w_set_self (w_set_self (w_set_self (w_set_self hfN)))) rfl rfl rfl (by omega) (by omega) (by decide) (by decide) rfl (Nat.le_of_ble_eq_true rfl) ?_
            refine wa_iload_n 3 dX3_tick_248 rfl rfl ?_
            refine wa_aload_n 4 dX3_tick_249 rfl rfl ?_
            refine wa_getf dX3_tick_250 gX3_9 (w_sne (w_sne (w_sne (w_sne (w_sne hgN (by omega)) (by omega)) (by omega)) (by omega)) (by omega)) rfl ?_
            refine wa_iload_n 1 dX3_tick_253 rfl rfl ?_
            refine wa_iconst (3) dX3_tick_254 (by decide) ?_
            refine wa_iadd dX3_tick_255 ?_
            rw [show nI (104 + 36 * k) + 3 = nI ((104 + 36 * k) + 3) from nI_add _ 3]
            refine wa_iald dX3_tick_256 (w_set_self (w_set_self (w_set_self (w_set_self (w_set_self hfN))))) (vp_in_nI (by omega) (by omega)) ?_
            rw [nI_clamp (by omega)]
            rw [show va_cpy (upd (upd (upd (upd f1 (104 + 36 * k + 1) (z_batt r - z_cost r)) (104 + 36 * k + 5) (z_steps r + 1)) (104 + 36 * k) (nI q)) (104 + 36 * k + 3) (nI p.length)) (upd (upd (upd (upd f1 (104 + 36 * k + 1) (z_batt r - z_cost r)) (104 + 36 * k + 5) (z_steps r + 1)) (104 + 36 * k) (nI q)) (104 + 36 * k + 3) (nI p.length)) (104 + 36 * k + 7) (104 + 36 * k + 6) p.length (104 + 36 * k + 3) = nI p.length from (if_neg (by omega)).trans (if_pos rfl)]
            refine wa_if_ne 266 dX3_tick_257 rfl (fun c257 => absurd (congrArg nI (show p.length = 0 by rw [hpe]; rfl)) c257) (fun c257 => ?_)
            refine wa_iconst (1) dX3_tick_260 (by decide) ?_
            refine wa_iload_n 2 dX3_tick_261 rfl rfl ?_
            refine wa_ishl dX3_tick_262 ?_
            refine wa_goto 267 dX3_tick_263 rfl ?_
            refine wa_ior dX3_tick_267 ?_
            refine wa_istore_n [(1, _), (4, _), (3, _), (2, _), (0, _)] dX3_tick_268 rfl (Nat.le_of_ble_eq_true rfl) rfl ?_
            refine wa_iinc 3 [(2, _), (1, _), (4, _), (3, _), (0, _)] dX3_tick_269 rfl (w_inc k) (Nat.le_of_ble_eq_true rfl) rfl ?_
            refine wa_goto 14 dX3_tick_272 rfl ?_
            refine wa_locals [(2, _), (1, _), (0, _)] [0, 1, 4] rfl ?_
            have hgo := z_goC_cons (c := c) hp
            rw [if_neg hq, if_neg hq] at hgo
            have hmk : z_mr (z_setR (z_setN c (z_now c + 1)) (z_goTo c (k + 1))) (va_cpy (upd (upd (upd (upd f1 (104 + 36 * k + 1) (z_batt r - z_cost r)) (104 + 36 * k + 5) (z_steps r + 1)) (104 + 36 * k) (nI q)) (104 + 36 * k + 3) (nI p.length)) (upd (upd (upd (upd f1 (104 + 36 * k + 1) (z_batt r - z_cost r)) (104 + 36 * k + 5) (z_steps r + 1)) (104 + 36 * k) (nI q)) (104 + 36 * k + 3) (nI p.length)) (104 + 36 * k + 7) (104 + 36 * k + 6) p.length) := by
              refine z_mr_go hs hk hr1 (fun j hj => (if_neg (by omega)).trans ((if_neg (by omega)).trans ((if_neg (by omega)).trans ((if_neg (by omega)).trans (if_neg (by omega)))))) ?_
              rw [hgo]
              exact ⟨(if_neg (by omega)).trans ((if_neg (by omega)).trans (if_pos rfl)), (if_neg (by omega)).trans ((if_neg (by omega)).trans ((if_neg (by omega)).trans ((if_neg (by omega)).trans ((if_pos rfl).trans rfl)))), (if_neg (by omega)).trans ((if_neg (by omega)).trans ((if_neg (by omega)).trans ((if_neg (by omega)).trans ((if_neg (by omega)).trans q3)))), (if_neg (by omega)).trans (if_pos rfl), fun z => (if_neg (by omega)).trans ((if_neg (by omega)).trans ((if_neg (by omega)).trans ((if_neg (by omega)).trans ((if_neg (by omega)).trans (q5 hpn))))), (if_neg (by omega)).trans ((if_neg (by omega)).trans ((if_neg (by omega)).trans ((if_pos rfl).trans rfl))), fun j y hj => by
                have hjl := (List.getElem?_eq_some_iff.mp hj).1
                have hjl : j < p.length := hjl
                have e7 := q7 (j + 1) y (by rw [hp]; exact hj)
                refine (if_pos (by omega)).trans ((if_neg (by omega)).trans ((if_neg (by omega)).trans ((if_neg (by omega)).trans ((if_neg (by omega)).trans ?_))))
                rw [show 104 + 36 * k + 7 + (104 + 36 * k + 6 + j - (104 + 36 * k + 6)) = 104 + 36 * k + 6 + (j + 1) by omega]
                exact e7⟩
            have hek : z_ended c k = true := by unfold z_ended; rw [hk]; simp only [hp]; subst hpe; rfl
            have hma := z_mask_add (z_ended c) (n := k) (by omega)
            rw [if_pos hek] at hma
            rw [hma]
            exact ih (k + 1) _ _ (by omega) hfr.me.me.me.me.me (w_set_self (w_set_self (w_set_self (w_set_self (w_set_self hfN))))) hmk
          ·
            have hpl0 : ¬ p.length = 0 := fun z => hpe (List.eq_nil_of_length_eq_zero z)
            refine wa_iload_n 0 dX3_tick_14 rfl rfl ?_
            refine wa_aload_n 2 dX3_tick_15 rfl rfl ?_
            refine wa_getf dX3_tick_16 gX3_9 hgN rfl ?_
            refine wa_iconst (3) dX3_tick_19 (by decide) ?_
            refine wa_iald dX3_tick_20 hfN (vp_in_nI (n := 3) (by omega) (by omega)) ?_
            rw [h3]
            refine wa_icmp_ge 275 dX3_tick_21 rfl (fun c21 => absurd c21 (nI_lt_not (by omega) (by omega))) (fun c21 => ?_)
            refine wa_iload_n 0 dX3_tick_24 rfl rfl ?_
            refine wc_isI (wr_S dX3_tick_25 mX3_75 sp_mat rfl rfl rfl (Nat.le_of_ble_eq_true rfl)) ?_
            refine wa_istore_n [(3, _), (2, _), (1, _), (0, _)] dX3_tick_28 rfl (Nat.le_of_ble_eq_true rfl) rfl ?_
            refine wa_aload_n 3 dX3_tick_29 rfl rfl ?_
            refine wa_getf dX3_tick_30 gX3_9 hgN rfl ?_
            refine wa_iload_n 0 dX3_tick_33 rfl rfl ?_
            refine wa_iconst (3) dX3_tick_34 (by decide) ?_
            refine wa_iadd dX3_tick_35 ?_
            rw [show nI (104 + 36 * k) + 3 = nI ((104 + 36 * k) + 3) from nI_add _ 3]
            refine wa_iald dX3_tick_36 hfN (vp_in_nI (by omega) (by omega)) ?_
            rw [nI_clamp (by omega)]
            rw [q4, hp]
            rw [show (q :: p).length = p.length + 1 from rfl]
            refine wa_if_ne 114 dX3_tick_37 rfl (fun c37 => ?_) (fun c37 => absurd c37 (nI_ne0 (by omega) (by omega)))
            refine wa_aload_n 3 dX3_tick_114 rfl rfl ?_
            refine wa_getf dX3_tick_115 gX3_9 hgN rfl ?_
            refine wa_iload_n 0 dX3_tick_118 rfl rfl ?_
            refine wa_bipush (6) dX3_tick_119 (by decide) ?_
            refine wa_iadd dX3_tick_121 ?_
            rw [show nI (104 + 36 * k) + 6 = nI ((104 + 36 * k) + 6) from nI_add _ 6]
            refine wa_iald dX3_tick_122 hfN (vp_in_nI (by omega) (by omega)) ?_
            rw [nI_clamp (by omega)]
            rw [q7h]
            refine wa_aload_n 3 dX3_tick_123 rfl rfl ?_
            refine wa_getf dX3_tick_124 gX3_9 hgN rfl ?_
            refine wa_iload_n 0 dX3_tick_127 rfl rfl ?_
            refine wa_iconst (0) dX3_tick_128 (by decide) ?_
            refine wa_iadd dX3_tick_129 ?_
            rw [show nI (104 + 36 * k) + 0 = nI (104 + 36 * k) from Int32.add_zero _]
            refine wa_iald dX3_tick_130 hfN (vp_in_nI (by omega) (by omega)) ?_
            rw [nI_clamp (by omega)]
            rw [q1]
            refine wa_icmp_eq 138 dX3_tick_131 rfl (fun c131 => absurd ((nI_eq (by omega) (by omega)).mp c131) hq) (fun c131 => ?_)
            refine wa_iconst (1) dX3_tick_134 (by decide) ?_
            refine wa_goto 139 dX3_tick_135 rfl ?_
            refine wa_istore [(4, _), (3, _), (2, _), (1, _), (0, _)] dX3_tick_139 (Nat.le_of_ble_eq_true rfl) rfl ?_
            refine wa_aload_n 4 dX3_tick_141 rfl rfl ?_
            refine wa_getf dX3_tick_142 gX3_9 hgN rfl ?_
            refine wa_iload_n 1 dX3_tick_145 rfl rfl ?_
            refine wa_iconst (1) dX3_tick_146 (by decide) ?_
            refine wa_iadd dX3_tick_147 ?_
            rw [show nI (104 + 36 * k) + 1 = nI ((104 + 36 * k) + 1) from nI_add _ 1]
            refine wa_dup2 dX3_tick_148 rfl rfl ?_
            refine wa_iald dX3_tick_149 hfN (vp_in_nI (by omega) (by omega)) ?_
            rw [nI_clamp (by omega)]
            rw [q2]
            refine wa_iload 0 dX3_tick_150 rfl ?_
            refine wa_if_eq 166 dX3_tick_152 rfl (fun c152 => absurd c152 (by decide)) (fun c152 => ?_)
            refine wa_aload_n 4 dX3_tick_155 rfl rfl ?_
            refine wa_getf dX3_tick_156 gX3_9 hgN rfl ?_
            refine wa_iload_n 1 dX3_tick_159 rfl rfl ?_
            refine wa_iconst (4) dX3_tick_160 (by decide) ?_
            refine wa_iadd dX3_tick_161 ?_
            rw [show nI (104 + 36 * k) + 4 = nI ((104 + 36 * k) + 4) from nI_add _ 4]
            refine wa_iald dX3_tick_162 hfN (vp_in_nI (by omega) (by omega)) ?_
            rw [nI_clamp (by omega)]
            rw [show f1 (104 + 36 * k + 4) = z_cost r from q5 hpn]
            refine wa_goto 167 dX3_tick_163 rfl ?_
            refine wa_isub dX3_tick_167 ?_
            refine wa_iast dX3_tick_168 hfN (vp_in_nI (by omega) (by omega)) ?_
            rw [nI_clamp (by omega)]
            refine wa_aload_n 4 dX3_tick_169 rfl rfl ?_
            refine wa_getf dX3_tick_170 gX3_9 (w_sne hgN (by omega)) rfl ?_
            refine wa_iload_n 1 dX3_tick_173 rfl rfl ?_
            refine wa_iconst (5) dX3_tick_174 (by decide) ?_
            refine wa_iadd dX3_tick_175 ?_
            rw [show nI (104 + 36 * k) + 5 = nI ((104 + 36 * k) + 5) from nI_add _ 5]
            refine wa_dup2 dX3_tick_176 rfl rfl ?_
            refine wa_iald dX3_tick_177 (w_set_self hfN) (vp_in_nI (by omega) (by omega)) ?_
            rw [nI_clamp (by omega)]
            rw [show (upd f1 (104 + 36 * k + 1) (z_batt r - z_cost r)) (104 + 36 * k + 5) = z_steps r from (if_neg (by omega)).trans q6]
            refine wa_iload 0 dX3_tick_178 rfl ?_
            refine wa_if_eq 187 dX3_tick_180 rfl (fun c180 => absurd c180 (by decide)) (fun c180 => ?_)
            refine wa_iconst (1) dX3_tick_183 (by decide) ?_
            refine wa_goto 188 dX3_tick_184 rfl ?_
            refine wa_iadd dX3_tick_188 ?_
            refine wa_iast dX3_tick_189 (w_set_self hfN) (vp_in_nI (by omega) (by omega)) ?_
            rw [nI_clamp (by omega)]
            refine wa_aload_n 4 dX3_tick_190 rfl rfl ?_
            refine wa_getf dX3_tick_191 gX3_9 (w_sne (w_sne hgN (by omega)) (by omega)) rfl ?_
            refine wa_iload_n 1 dX3_tick_194 rfl rfl ?_
            refine wa_iconst (0) dX3_tick_195 (by decide) ?_
            refine wa_iadd dX3_tick_196 ?_
            rw [show nI (104 + 36 * k) + 0 = nI (104 + 36 * k) from Int32.add_zero _]
            refine wa_aload_n 4 dX3_tick_197 rfl rfl ?_
            refine wa_getf dX3_tick_198 gX3_9 (w_sne (w_sne hgN (by omega)) (by omega)) rfl ?_
            refine wa_iload_n 1 dX3_tick_201 rfl rfl ?_
            refine wa_bipush (6) dX3_tick_202 (by decide) ?_
            refine wa_iadd dX3_tick_204 ?_
            rw [show nI (104 + 36 * k) + 6 = nI ((104 + 36 * k) + 6) from nI_add _ 6]
            refine wa_iald dX3_tick_205 (w_set_self (w_set_self hfN)) (vp_in_nI (by omega) (by omega)) ?_
            rw [nI_clamp (by omega)]
            rw [show (upd (upd f1 (104 + 36 * k + 1) (z_batt r - z_cost r)) (104 + 36 * k + 5) (z_steps r + 1)) (104 + 36 * k + 6) = nI q from (if_neg (by omega)).trans ((if_neg (by omega)).trans q7h)]
            refine wa_iast dX3_tick_206 (w_set_self (w_set_self hfN)) (vp_in_nI (by omega) (by omega)) ?_
            rw [nI_clamp (by omega)]
            refine wa_aload_n 4 dX3_tick_207 rfl rfl ?_
            refine wa_getf dX3_tick_208 gX3_9 (w_sne (w_sne (w_sne hgN (by omega)) (by omega)) (by omega)) rfl ?_
            refine wa_iload_n 1 dX3_tick_211 rfl rfl ?_
            refine wa_iconst (3) dX3_tick_212 (by decide) ?_
            refine wa_iadd dX3_tick_213 ?_
            rw [show nI (104 + 36 * k) + 3 = nI ((104 + 36 * k) + 3) from nI_add _ 3]
            refine wa_dup2 dX3_tick_214 rfl rfl ?_
            refine wa_iald dX3_tick_215 (w_set_self (w_set_self (w_set_self hfN))) (vp_in_nI (by omega) (by omega)) ?_
            rw [nI_clamp (by omega)]
            rw [show (upd (upd (upd f1 (104 + 36 * k + 1) (z_batt r - z_cost r)) (104 + 36 * k + 5) (z_steps r + 1)) (104 + 36 * k) (nI q)) (104 + 36 * k + 3) = nI (p.length + 1) from (if_neg (by omega)).trans ((if_neg (by omega)).trans ((if_neg (by omega)).trans (q4.trans (by rw [hp]; rfl))))]
            refine wa_iconst (1) dX3_tick_216 (by decide) ?_
            refine wa_isub dX3_tick_217 ?_
            rw [show nI (p.length + 1) - 1 = nI p.length from pk_sub (a := p.length + 1) (b := 1) (by omega)]
            refine wa_iast dX3_tick_218 (w_set_self (w_set_self (w_set_self hfN))) (vp_in_nI (by omega) (by omega)) ?_
            rw [nI_clamp (by omega)]
            refine wa_aload_n 4 dX3_tick_219 rfl rfl ?_
            refine wa_getf dX3_tick_220 gX3_9 (w_sne (w_sne (w_sne (w_sne hgN (by omega)) (by omega)) (by omega)) (by omega)) rfl ?_
            refine wa_iload_n 1 dX3_tick_223 rfl rfl ?_
            refine wa_bipush (6) dX3_tick_224 (by decide) ?_
            refine wa_iadd dX3_tick_226 ?_
            rw [show nI (104 + 36 * k) + 6 = nI ((104 + 36 * k) + 6) from nI_add _ 6]
            refine wa_iconst (1) dX3_tick_227 (by decide) ?_
            refine wa_iadd dX3_tick_228 ?_
            rw [show nI (104 + 36 * k + 6) + 1 = nI (104 + 36 * k + 7) from nI_add _ 1]
            refine wa_aload_n 4 dX3_tick_229 rfl rfl ?_
            refine wa_getf dX3_tick_230 gX3_9 (w_sne (w_sne (w_sne (w_sne hgN (by omega)) (by omega)) (by omega)) (by omega)) rfl ?_
            refine wa_iload_n 1 dX3_tick_233 rfl rfl ?_
            refine wa_bipush (6) dX3_tick_234 (by decide) ?_
            refine wa_iadd dX3_tick_236 ?_
            rw [show nI (104 + 36 * k) + 6 = nI ((104 + 36 * k) + 6) from nI_add _ 6]
            refine wa_aload_n 4 dX3_tick_237 rfl rfl ?_
            refine wa_getf dX3_tick_238 gX3_9 (w_sne (w_sne (w_sne (w_sne hgN (by omega)) (by omega)) (by omega)) (by omega)) rfl ?_
            refine wa_iload_n 1 dX3_tick_241 rfl rfl ?_
            refine wa_iconst (3) dX3_tick_242 (by decide) ?_
            refine wa_iadd dX3_tick_243 ?_
            rw [show nI (104 + 36 * k) + 3 = nI ((104 + 36 * k) + 3) from nI_add _ 3]
            refine wa_iald dX3_tick_244 (w_set_self (w_set_self (w_set_self (w_set_self hfN)))) (vp_in_nI (by omega) (by omega)) ?_
            rw [nI_clamp (by omega)]
            rw [show (upd (upd (upd (upd f1 (104 + 36 * k + 1) (z_batt r - z_cost r)) (104 + 36 * k + 5) (z_steps r + 1)) (104 + 36 * k) (nI q)) (104 + 36 * k + 3) (nI p.length)) (104 + 36 * k + 3) = nI p.length from if_pos rfl]
            refine wa_copyi (104 + 36 * k + 7) (104 + 36 * k + 6) p.length dX3_tick_245 q2037 (w_set_self (w_set_self (w_set_self (w_set_self hfN)))) (w_set_self (w_set_self (w_set_self (w_set_self hfN)))) rfl rfl rfl (by omega) (by omega) (by decide) (by decide) rfl (Nat.le_of_ble_eq_true rfl) ?_
            refine wa_iload_n 3 dX3_tick_248 rfl rfl ?_
            refine wa_aload_n 4 dX3_tick_249 rfl rfl ?_
            refine wa_getf dX3_tick_250 gX3_9 (w_sne (w_sne (w_sne (w_sne (w_sne hgN (by omega)) (by omega)) (by omega)) (by omega)) (by omega)) rfl ?_
            refine wa_iload_n 1 dX3_tick_253 rfl rfl ?_
            refine wa_iconst (3) dX3_tick_254 (by decide) ?_
            refine wa_iadd dX3_tick_255 ?_
            rw [show nI (104 + 36 * k) + 3 = nI ((104 + 36 * k) + 3) from nI_add _ 3]
            refine wa_iald dX3_tick_256 (w_set_self (w_set_self (w_set_self (w_set_self (w_set_self hfN))))) (vp_in_nI (by omega) (by omega)) ?_
            rw [nI_clamp (by omega)]
            rw [show va_cpy (upd (upd (upd (upd f1 (104 + 36 * k + 1) (z_batt r - z_cost r)) (104 + 36 * k + 5) (z_steps r + 1)) (104 + 36 * k) (nI q)) (104 + 36 * k + 3) (nI p.length)) (upd (upd (upd (upd f1 (104 + 36 * k + 1) (z_batt r - z_cost r)) (104 + 36 * k + 5) (z_steps r + 1)) (104 + 36 * k) (nI q)) (104 + 36 * k + 3) (nI p.length)) (104 + 36 * k + 7) (104 + 36 * k + 6) p.length (104 + 36 * k + 3) = nI p.length from (if_neg (by omega)).trans (if_pos rfl)]
            refine wa_if_ne 266 dX3_tick_257 rfl (fun c257 => ?_) (fun c257 => absurd ((nI_eq (b := 0) (by omega) (by decide)).mp c257) hpl0)
            refine wa_iconst (0) dX3_tick_266 (by decide) ?_
            refine wa_ior dX3_tick_267 ?_
            refine wa_istore_n [(1, _), (4, _), (3, _), (2, _), (0, _)] dX3_tick_268 rfl (Nat.le_of_ble_eq_true rfl) rfl ?_
            refine wa_iinc 3 [(2, _), (1, _), (4, _), (3, _), (0, _)] dX3_tick_269 rfl (w_inc k) (Nat.le_of_ble_eq_true rfl) rfl ?_
            refine wa_goto 14 dX3_tick_272 rfl ?_
            refine wa_locals [(2, _), (1, _), (0, _)] [0, 1, 4] rfl ?_
            have hgo := z_goC_cons (c := c) hp
            rw [if_neg hq, if_neg hq] at hgo
            have hmk : z_mr (z_setR (z_setN c (z_now c + 1)) (z_goTo c (k + 1))) (va_cpy (upd (upd (upd (upd f1 (104 + 36 * k + 1) (z_batt r - z_cost r)) (104 + 36 * k + 5) (z_steps r + 1)) (104 + 36 * k) (nI q)) (104 + 36 * k + 3) (nI p.length)) (upd (upd (upd (upd f1 (104 + 36 * k + 1) (z_batt r - z_cost r)) (104 + 36 * k + 5) (z_steps r + 1)) (104 + 36 * k) (nI q)) (104 + 36 * k + 3) (nI p.length)) (104 + 36 * k + 7) (104 + 36 * k + 6) p.length) := by
              refine z_mr_go hs hk hr1 (fun j hj => (if_neg (by omega)).trans ((if_neg (by omega)).trans ((if_neg (by omega)).trans ((if_neg (by omega)).trans (if_neg (by omega)))))) ?_
              rw [hgo]
              exact ⟨(if_neg (by omega)).trans ((if_neg (by omega)).trans (if_pos rfl)), (if_neg (by omega)).trans ((if_neg (by omega)).trans ((if_neg (by omega)).trans ((if_neg (by omega)).trans ((if_pos rfl).trans rfl)))), (if_neg (by omega)).trans ((if_neg (by omega)).trans ((if_neg (by omega)).trans ((if_neg (by omega)).trans ((if_neg (by omega)).trans q3)))), (if_neg (by omega)).trans (if_pos rfl), fun z => (if_neg (by omega)).trans ((if_neg (by omega)).trans ((if_neg (by omega)).trans ((if_neg (by omega)).trans ((if_neg (by omega)).trans (q5 hpn))))), (if_neg (by omega)).trans ((if_neg (by omega)).trans ((if_neg (by omega)).trans ((if_pos rfl).trans rfl))), fun j y hj => by
                have hjl := (List.getElem?_eq_some_iff.mp hj).1
                have hjl : j < p.length := hjl
                have e7 := q7 (j + 1) y (by rw [hp]; exact hj)
                refine (if_pos (by omega)).trans ((if_neg (by omega)).trans ((if_neg (by omega)).trans ((if_neg (by omega)).trans ((if_neg (by omega)).trans ?_))))
                rw [show 104 + 36 * k + 7 + (104 + 36 * k + 6 + j - (104 + 36 * k + 6)) = 104 + 36 * k + 6 + (j + 1) by omega]
                exact e7⟩
            have hek : z_ended c k = false := by unfold z_ended; rw [hk]; simp only [hp]; exact decide_eq_false (fun z => hpe (List.eq_nil_of_length_eq_zero (by simpa using z)))
            have hma := z_mask_add (z_ended c) (n := k) (by omega)
            rw [if_neg (by rw [hek]; exact fun z => by cases z)] at hma
            rw [hma]
            exact ih (k + 1) _ _ (by omega) hfr.me.me.me.me.me (w_set_self (w_set_self (w_set_self (w_set_self (w_set_self hfN))))) hmk
  refine wa_aload_n 0 dX3_tick_0 rfl rfl ?_
  refine wa_getf dX3_tick_1 gX3_9 hm rfl ?_
  refine wa_iconst (2) dX3_tick_4 (by decide) ?_
  refine wa_dup2 dX3_tick_5 rfl rfl ?_
  refine wa_iald dX3_tick_6 hf (vp_in_nI (n := 2) (by omega) (by omega)) ?_
  rw [hr.now]
  refine wa_iconst (1) dX3_tick_7 (by decide) ?_
  refine wa_iadd dX3_tick_8 ?_
  refine wa_iast dX3_tick_9 hf (vp_in_nI (n := 2) (by omega) (by omega)) ?_
  rw [show Int32.toNatClampNeg 2 = 2 from rfl]
  refine wa_iconst (0) dX3_tick_10 (by decide) ?_
  refine wa_istore_n [(1, _), (0, _)] dX3_tick_11 rfl (Nat.le_of_ble_eq_true rfl) rfl ?_
  refine wa_iconst (0) dX3_tick_12 (by decide) ?_
  refine wa_istore_n [(2, _), (1, _), (0, _)] dX3_tick_13 rfl (Nat.le_of_ble_eq_true rfl) rfl ?_
  refine wa_locals [(2, _), (1, _), (0, _)] [0, 1, 2] rfl ?_
  refine L1 _ 0 _ _ (Nat.zero_add _) w_fr_me (w_set_self hf) ?_
  have e0 : (z_setR (z_setN c (z_now c + 1)) (z_goTo c 0)) = z_setN c (z_now c + 1) := by rw [z_goTo_0]; rfl
  rw [e0]
  obtain ⟨⟨a1, a2, a3, a4, a5⟩, a6, a7, a8, a9, a10⟩ := hr
  exact ⟨⟨(if_neg (by decide)).trans a1, (if_neg (by decide)).trans a2, if_pos rfl, (if_neg (by decide)).trans a4, (if_neg (by decide)).trans a5⟩, fun j hj => (if_neg (by omega)).trans (a6 j hj), fun j hj => (if_neg (by omega)).trans (a7 j hj), fun j hj => (if_neg (by omega)).trans (a8 j hj), fun i r hi => (a9 i r hi).to (hs.2.2.2.2.2.2.1 r (List.mem_of_getElem? hi)).2.2.1 (fun j hj => if_neg (by omega)), fun i o hi => (a10 i o hi).to (hs.2.2.2.2.2.2.2 o (List.mem_of_getElem? hi)).2.1 (fun j hj => if_neg (by omega))⟩
theorem sp_mpass (h : z_mod b M m S th) {x : Int32} (hb : b + 99 < 2 ^ 31) : w_S l G tX3_pass (6, 0, 0) [.ref m, .int x] M (z_mO (b + 99) M m S (z_passC (z_cur S) x)) := by
  obtain ⟨is, rr, rc, f, sv, pf, ip, h⟩ := h
  obtain ⟨hm, hf, -⟩ := id h
  have H := h.mh
  have hr := h.mr
  have hg := h.gd
  have hs := hg.1
  have hh := hg.2.2.2.2.2.2.2
  have hsz := hs.size
  have hR6 : (z_robs (z_cur S)).length ≤ 6 := hs.2.2.2.2.1
  have hO10 : (z_ords (z_cur S)).length ≤ 10 := hs.2.2.2.2.2.1
  have h0 := h.thr 0
  have H0 := h0.mh
  have hm0 := h0.1
  have hf0 := h0.2.1
  by_cases hx : 1 ≤ x ∧ x ≤ 99
  ·
    obtain ⟨xn, hxn, rfl⟩ := nI_of (Int32.not_lt.mpr (Int32.le_trans (by decide) hx.1))
    have hx99 : xn ≤ 99 := (nI_leI (b := 99) hxn (by decide)).mp hx.2
    have ea : z_passC (z_cur S) (nI xn) = .inl ((z_ticks xn (z_cur S) 0).2, (z_ticks xn (z_cur S) 0).1) := by unfold z_passC; rw [if_pos hx, nI_clamp hxn]
    rw [ea]
    refine w_start (by decide) (Nat.le_of_ble_eq_true rfl) (fun X => ?_)
    refine wa_locals [(0, _), (1, _)] [0, 1] rfl ?_
    refine wa_aload_n 0 dX3_pass_0 rfl rfl ?_
    refine wa_iconst (0) dX3_pass_1 (by decide) ?_
    refine wa_putf [_, _, _, _, _, _, _, _, _, _, _, _, _, _, _, _, _, _, _, _] dX3_pass_2 pX3_49 hm (Nat.le_of_ble_eq_true rfl) rfl rfl rfl ?_
    refine wa_iload_n 1 dX3_pass_5 rfl rfl ?_
    refine wa_iconst (1) dX3_pass_6 (by decide) ?_
    refine wa_bipush (99) dX3_pass_7 (by decide) ?_
    refine wc_isI (wr_S dX3_pass_9 mX3_71 (sp_mminY hx) rfl rfl rfl (Nat.le_of_ble_eq_true rfl)) ?_
    refine wa_if_ne 22 dX3_pass_12 rfl (fun c12 => ?_) (fun c12 => absurd c12 (by decide))
    refine wa_aload_n 0 dX3_pass_22 rfl rfl ?_
    refine wc_V (wr_V dX3_pass_23 mX3_100 (sp_mchange h0) hm0 rfl rfl rfl (Nat.le_of_ble_eq_true rfl)) (fun M23 h23 => ?_)
    obtain ⟨k0, pf2, k2⟩ := id h23
    have k1 := z_frE (m := m) k0 (fun q e => e.elim (fun e => by rw [e]; exact z_mEm) (fun e => by rw [e]; exact ⟨by omega, by omega⟩))
    have km := k2.1
    have kf := k2.2.1
    refine wa_iconst (0) dX3_pass_26 (by decide) ?_
    refine wa_istore_n [(2, _), (0, _), (1, _)] dX3_pass_27 rfl (Nat.le_of_ble_eq_true rfl) rfl ?_
    refine wa_iconst (0) dX3_pass_28 (by decide) ?_
    refine wa_istore_n [(3, _), (2, _), (0, _), (1, _)] dX3_pass_29 rfl (Nat.le_of_ble_eq_true rfl) rfl ?_
    refine wa_locals [(3, _), (2, _), (0, _), (1, _)] [0, 1, 2, 3] rfl ?_
    have LP : ∀ (n k b' : Nat) (N : w_M) (f1 : Nat → Int32) (c : z_C) (d : Int32), k + n = xn → b' ≤ b + k → w_fr M23 N (fun q => q = m + 1) → N.get (m + 1) = some (.inl (.int, 400, .inl f1)) → z_mr c f1 → z_good b' c → z_ticks n c d = z_ticks xn (z_cur S) 0 → w_A l G tX3_pass (6, 0, 0) X 0 0 N 30 [(3, .int (nI k)), (2, .int d), (0, .ref m), (1, .int (nI xn))] [] (z_mO (b + 99) M m S (.inl ((z_ticks xn (z_cur S) 0).2, (z_ticks xn (z_cur S) 0).1))) := by
      intro n
      induction n with
      | zero =>
        intro k b' N f1 c d hn hbb hfr hfN hr1 hg1 he
        have hk : k = xn := by omega
        subst hk
        have he : (c, d) = z_ticks k (z_cur S) 0 := he
        rw [← he]
        refine wa_iload_n 0 dX3_pass_30 rfl rfl ?_
        refine wa_iload_n 3 dX3_pass_31 rfl rfl ?_
        refine wa_icmp_ge 48 dX3_pass_32 rfl (fun c32 => ?_) (fun c32 => absurd (nI_le (by omega) (by omega)) c32)
        refine wa_iload_n 1 dX3_pass_48 rfl rfl ?_
        refine wa_iret FieldType.int dX3_pass_49 rfl rfl (Nat.le_of_ble_eq_true rfl) (Nat.le_of_ble_eq_true rfl) ?_
        exact ⟨_, rfl, ((w_fr.rf.set z_mEm).trans k1).trans (z_frE hfr (fun q e => by rw [e]; exact z_mEs)), rfl, ((k2.mono (b' := b + 99) (by omega)).row hfr hfN hr1 (hg1.mono (by omega))).md⟩
      | succ n ih =>
        intro k b' N f1 c d hn hbb hfr hfN hr1 hg1 he
        have hgN := hfr.2 _ _ km (by omega)
        refine wa_iload_n 0 dX3_pass_30 rfl rfl ?_
        refine wa_iload_n 3 dX3_pass_31 rfl rfl ?_
        refine wa_icmp_ge 48 dX3_pass_32 rfl (fun c32 => absurd c32 (nI_lt_not (by omega) (by omega))) (fun c32 => ?_)
        refine wa_iload_n 1 dX3_pass_35 rfl rfl ?_
        refine wa_aload_n 2 dX3_pass_36 rfl rfl ?_
        refine wc_I (wr_V dX3_pass_37 mX3_159 (sp_mtick hgN hfN hr1 hg1 (by omega)) hgN rfl rfl rfl (Nat.le_of_ble_eq_true rfl)) (fun r37 M37 h37 => ?_)
        obtain ⟨g1, g2, f2, g3, g4⟩ := h37
        subst g1
        refine wa_iadd dX3_pass_40 ?_
        refine wa_istore_n [(2, _), (3, _), (0, _), (1, _)] dX3_pass_41 rfl (Nat.le_of_ble_eq_true rfl) rfl ?_
        refine wa_iinc 1 [(3, _), (2, _), (0, _), (1, _)] dX3_pass_42 rfl (w_inc k) (Nat.le_of_ble_eq_true rfl) rfl ?_
        refine wa_goto 30 dX3_pass_45 rfl ?_
        refine wa_locals [(3, _), (2, _), (0, _), (1, _)] [0, 1, 2, 3] rfl ?_
        exact ih (k + 1) (b' + 1) _ f2 (z_tickC c).1 (d + (z_tickC c).2) (by omega) (by omega) (hfr.trans g2) g3 g4 (hg1.tick (by omega)) he
    exact LP xn 0 b M23 f (z_cur S) 0 (Nat.zero_add _) (Nat.le_refl _) w_fr.rf kf hr hg rfl
  ·
    have ea : z_passC (z_cur S) x = .inr (2, 0) := by unfold z_passC; rw [if_neg hx]
    rw [ea]
    refine w_start (by decide) (Nat.le_of_ble_eq_true rfl) (fun X => ?_)
    refine wa_locals [(0, _), (1, _)] [0, 1] rfl ?_
    refine wa_aload_n 0 dX3_pass_0 rfl rfl ?_
    refine wa_iconst (0) dX3_pass_1 (by decide) ?_
    refine wa_putf [_, _, _, _, _, _, _, _, _, _, _, _, _, _, _, _, _, _, _, _] dX3_pass_2 pX3_49 hm (Nat.le_of_ble_eq_true rfl) rfl rfl rfl ?_
    refine wa_iload_n 1 dX3_pass_5 rfl rfl ?_
    refine wa_iconst (1) dX3_pass_6 (by decide) ?_
    refine wa_bipush (99) dX3_pass_7 (by decide) ?_
    refine wc_isI (wr_S dX3_pass_9 mX3_71 (sp_mminZ hx) rfl rfl rfl (Nat.le_of_ble_eq_true rfl)) ?_
    refine wa_if_ne 22 dX3_pass_12 rfl (fun c12 => absurd (by decide) c12) (fun c12 => ?_)
    refine wa_aload_n 0 dX3_pass_15 rfl rfl ?_
    refine wa_iconst (2) dX3_pass_16 (by decide) ?_
    refine wa_iconst (0) dX3_pass_17 (by decide) ?_
    refine wc_I (wr_V dX3_pass_18 mX3_90 (sp_mrefuse h0 (by decide)) hm0 rfl rfl rfl (Nat.le_of_ble_eq_true rfl)) (fun r18 M18 h18 => ?_)
    refine wa_iret FieldType.int dX3_pass_21 rfl rfl (Nat.le_of_ble_eq_true rfl) (Nat.le_of_ble_eq_true rfl) ?_
    exact ⟨_, rfl, (w_fr.rf.set z_mEm).trans (z_frE h18.2.1 (fun q e => by rw [e]; exact z_mEm)), (h18.2.2.mono (by omega)).md⟩
end MTk
