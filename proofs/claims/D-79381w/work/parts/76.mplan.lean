/-! ===== the Model lays a plan ===== -/
set_option maxRecDepth 100000
section ML
variable {b : Nat} {M N : w_M} {m : Nat} {S : z_S} {th is rr rc : Int32} {f sv pf ip : Nat → Int32} {l : Launch} {G : w_G} {c : z_C} {k s g H T : Nat} {r : z_R}
/-- the table of where a plan can still be ended: whole behind the tick t, and at t in the cells below p -/
def z_gsm (c : z_C) (k g T : Nat) (M N : w_M) (m t p : Nat) : Prop := ∃ gg : Nat → Int32, N.get (m + 6) = some (.inl (.boolean, 1488, .inl gg)) ∧ w_fr M N (fun q => q = m + 6) ∧ (∀ u q, t < u → u ≤ T → q < z_size c → gg (48 * u + q) = z_b1 (z_go c k g T (T - u) q)) ∧ ∀ q, q < p → gg (48 * t + q) = z_b1 (z_go c k g T (T - t) q)
/-- the finished table -/
def z_gtab (c : z_C) (k g T : Nat) (N : w_M) (m : Nat) : Prop := ∃ gg : Nat → Int32, N.get (m + 6) = some (.inl (.boolean, 1488, .inl gg)) ∧ ∀ u q, u ≤ T → q < z_size c → gg (48 * u + q) = z_b1 (z_go c k g T (T - u) q)
theorem sp_mfindGoing (h : z_modL b M m S th is rr rc f sv pf ip) (hk : (z_robs (z_cur S))[k]? = some r) (hgs : g < z_size (z_cur S)) (hT : 0 < T) (hT30 : T ≤ 30) : w_S l G tX3_findGoing (5, 0, 0) [.ref m, .int (nI k), .int (nI g), .int (nI T)] M (w_rV (fun N => w_fr M N (fun q => q = m + 6) ∧ z_gtab (z_cur S) k g T N m)) := by
  obtain ⟨hm, hf, -⟩ := id h
  have HM := h.mh
  have hr := h.mr
  have hg := h.gd
  have hs := hg.1
  have hsz := hs.size
  have hR6 : (z_robs (z_cur S)).length ≤ 6 := hs.2.2.2.2.1
  have hkl := (List.getElem?_eq_some_iff.mp hk).1
  have hk6 : k < 6 := by omega
  have ha := hg.2.2.2.2.1
  have hrm := List.mem_of_getElem? hk
  have hss := (hs.2.2.2.2.2.2.1 r hrm).1
  have hfs : z_free (z_cur S) (z_cell r) = true := hg.2.2.2.2.2.1 r hrm 0
  have hsets := hg.2.2.2.1.2.2
  obtain ⟨Hh, hH, hHe⟩ := nI_of (x := z_sets (z_cur S) 2) (Int32.not_lt.mpr (Int32.le_trans (by decide) hsets.1))
  have hHor : z_hor (z_cur S) = Hh := by unfold z_hor; rw [hHe, nI_clamp hH]
  have hH30 : Hh ≤ 30 := by rw [hHe] at hsets; exact (nI_leI (b := 30) hH (by decide)).mp hsets.2
  have hH1 : 1 ≤ Hh := by rw [hHe] at hsets; exact (nI_leI (a := 1) (by decide) hH).mp hsets.1
  have q1 := (hr.rob hk).1
  have h7 : f (Int32.toNatClampNeg 7) = nI Hh := (hr.2.1 2 (by decide)).trans hHe
  obtain ⟨-, -, ⟨g60, h60⟩, -⟩ := h.2.2.2.2.2.1
  refine w_start (by decide) (Nat.le_of_ble_eq_true rfl) (fun X => ?_)
  refine wa_locals [(0, _), (1, _), (2, _), (3, _)] [0, 1, 2, 3] rfl ?_
  have LW : ∀ (t p : Nat) (_ : t < T) (hpp : p < z_size (z_cur S)) (N : w_M) (hst : z_gsm (z_cur S) k g T M N m t p) (K : ∀ v7, w_A l G tX3_findGoing (5, 0, 0) X 0 0 N 136 [(7, .int v7), (6, .int (z_b1 (z_goA (z_cur S) k (z_go (z_cur S) k g T (T - (t + 1))) t p 5))), (5, .int (nI p)), (4, .int (nI t)), (0, .ref m), (1, .int (nI k)), (2, .int (nI g)), (3, .int (nI T))] [] (w_rV (fun N => w_fr M N (fun q => q = m + 6) ∧ z_gtab (z_cur S) k g T N m))),
      ∀ (n w : Nat), w + n = 5 → w_A l G tX3_findGoing (5, 0, 0) X 0 0 N 65 [(7, .int (nI w)), (6, .int (z_b1 (z_goA (z_cur S) k (z_go (z_cur S) k g T (T - (t + 1))) t p w))), (5, .int (nI p)), (4, .int (nI t)), (0, .ref m), (1, .int (nI k)), (2, .int (nI g)), (3, .int (nI T))] [] (w_rV (fun N => w_fr M N (fun q => q = m + 6) ∧ z_gtab (z_cur S) k g T N m)) := by
    intro t p ht hpp N hst K n
    obtain ⟨gg, hda, hfr, hg1, hg2⟩ := id hst
    have hgN := hfr.2 _ _ hm (by omega)
    have HN := HM.sub hfr (by omega) (by omega)
    induction n with
    | zero =>
      intro w hn
      have hw : w = 5 := by omega
      subst hw
      refine wa_iload 0 dX3_findGoing_65 rfl ?_
      refine wa_iconst (5) dX3_findGoing_67 (by decide) ?_
      refine wa_icmp_ge 136 dX3_findGoing_68 rfl (fun c68 => ?_) (fun c68 => absurd (by decide) c68)
      exact K _
    | succ n ih =>
      intro w hn
      have hxm := z_enc_neg (g := z_bes (z_cur S) p w) (fun x e => by have := z_bes_lt hs hpp e; omega)
      have ih := ih (w + 1) (by omega)
      rw [z_goA] at ih
      refine wa_iload 0 dX3_findGoing_65 rfl ?_
      refine wa_iconst (5) dX3_findGoing_67 (by decide) ?_
      refine wa_icmp_ge 136 dX3_findGoing_68 rfl (fun c68 => absurd c68 (nI_lt_not (b := 5) (by omega) (by decide))) (fun c68 => ?_)
      refine wa_aload_n 4 dX3_findGoing_71 rfl rfl ?_
      refine wa_iload 2 dX3_findGoing_72 rfl ?_
      refine wa_iload 0 dX3_findGoing_74 rfl ?_
      refine wc_isI (wr_V dX3_findGoing_76 mX3_124 (sp_mbes HN hr hs hpp (by omega)) hgN rfl rfl rfl (Nat.le_of_ble_eq_true rfl)) ?_
      refine wa_istore [(8, _), (7, _), (6, _), (5, _), (4, _), (0, _), (1, _), (2, _), (3, _)] dX3_findGoing_79 (Nat.le_of_ble_eq_true rfl) rfl ?_
      refine wa_iload 2 dX3_findGoing_81 rfl ?_
      refine wa_if_ne 123 dX3_findGoing_83 rfl (fun c83 => ?_) (fun c83 => ?_)
      ·
        refine wa_iconst (1) dX3_findGoing_123 (by decide) ?_
        refine wa_goto 128 dX3_findGoing_124 rfl ?_
        refine wa_istore [(6, _), (8, _), (7, _), (5, _), (4, _), (0, _), (1, _), (2, _), (3, _)] dX3_findGoing_128 (Nat.le_of_ble_eq_true rfl) rfl ?_
        refine wa_iinc 2 [(7, _), (6, _), (8, _), (5, _), (4, _), (0, _), (1, _), (2, _), (3, _)] dX3_findGoing_130 rfl (w_inc w) (Nat.le_of_ble_eq_true rfl) rfl ?_
        refine wa_goto 65 dX3_findGoing_133 rfl ?_
        refine wa_locals [(7, _), (6, _), (5, _), (4, _), (0, _), (1, _), (2, _), (3, _)] [0, 1, 3, 4, 5, 6, 7, 8] rfl ?_
        rw [z_b1_1 c83, Bool.true_or] at ih
        exact ih
      ·
        refine wa_iload 0 dX3_findGoing_86 rfl ?_
        refine wa_if_lt 127 dX3_findGoing_88 rfl (fun c88 => ?_) (fun c88 => ?_)
        ·
          refine wa_iconst (0) dX3_findGoing_127 (by decide) ?_
          refine wa_istore [(6, _), (8, _), (7, _), (5, _), (4, _), (0, _), (1, _), (2, _), (3, _)] dX3_findGoing_128 (Nat.le_of_ble_eq_true rfl) rfl ?_
          refine wa_iinc 2 [(7, _), (6, _), (8, _), (5, _), (4, _), (0, _), (1, _), (2, _), (3, _)] dX3_findGoing_130 rfl (w_inc w) (Nat.le_of_ble_eq_true rfl) rfl ?_
          refine wa_goto 65 dX3_findGoing_133 rfl ?_
          refine wa_locals [(7, _), (6, _), (5, _), (4, _), (0, _), (1, _), (2, _), (3, _)] [0, 1, 3, 4, 5, 6, 7, 8] rfl ?_
          rw [z_b1_0 c83, Bool.false_or] at ih
          rw [hxm.mp c88] at ih
          exact ih
        ·
          obtain ⟨x, hx⟩ := z_some_of_not_neg (fun x e => by have := z_bes_lt hs hpp e; omega) c88
          have hxs := z_bes_lt hs hpp hx
          rw [hx] at ih
          dsimp only at ih
          rw [hx]
          rw [show z_enc (some x) = nI x from rfl]
          refine wa_aload_n 5 dX3_findGoing_91 rfl rfl ?_
          refine wa_getf dX3_findGoing_92 gX3_26 hgN rfl ?_
          refine wa_bipush (48) dX3_findGoing_95 (by decide) ?_
          refine wa_iload 4 dX3_findGoing_97 rfl ?_
          refine wa_iconst (1) dX3_findGoing_99 (by decide) ?_
          refine wa_iadd dX3_findGoing_100 ?_
          refine wa_imul dX3_findGoing_101 ?_
          refine wa_iload 0 dX3_findGoing_102 rfl ?_
          refine wa_iadd dX3_findGoing_104 ?_
          rw [show nI t + 1 = nI (t + 1) from nI_1 t, z_ixT]
          refine wa_zald dX3_findGoing_105 hda (vp_in_nI (by omega) (by omega)) ?_
          rw [nI_clamp (by omega), hg1 (t + 1) x (by omega) (by omega) hxs]
          refine wa_if_eq 127 dX3_findGoing_106 rfl (fun c106 => ?_) (fun c106 => ?_)
          ·
            refine wa_iconst (0) dX3_findGoing_127 (by decide) ?_
            refine wa_istore [(6, _), (8, _), (7, _), (5, _), (4, _), (0, _), (1, _), (2, _), (3, _)] dX3_findGoing_128 (Nat.le_of_ble_eq_true rfl) rfl ?_
            refine wa_iinc 2 [(7, _), (6, _), (8, _), (5, _), (4, _), (0, _), (1, _), (2, _), (3, _)] dX3_findGoing_130 rfl (w_inc w) (Nat.le_of_ble_eq_true rfl) rfl ?_
            refine wa_goto 65 dX3_findGoing_133 rfl ?_
            refine wa_locals [(7, _), (6, _), (5, _), (4, _), (0, _), (1, _), (2, _), (3, _)] [0, 1, 3, 4, 5, 6, 7, 8] rfl ?_
            rw [z_b1_0 c83, Bool.false_or] at ih
            rw [z_b1_0 c106, Bool.false_and] at ih
            exact ih
          ·
            refine wa_aload_n 5 dX3_findGoing_109 rfl rfl ?_
            refine wa_iload_n 6 dX3_findGoing_110 rfl rfl ?_
            refine wa_iload 3 dX3_findGoing_111 rfl ?_
            refine wa_iload 0 dX3_findGoing_113 rfl ?_
            refine wa_iload 4 dX3_findGoing_115 rfl ?_
            refine wc_isI (wr_V dX3_findGoing_117 mX3_127 (sp_mmayGo HN hr hs (by omega) hpp hxs (by omega)) hgN rfl rfl rfl (Nat.le_of_ble_eq_true rfl)) ?_
            refine wa_if_eq 127 dX3_findGoing_120 rfl (fun c120 => ?_) (fun c120 => ?_)
            ·
              refine wa_iconst (0) dX3_findGoing_127 (by decide) ?_
              refine wa_istore [(6, _), (8, _), (7, _), (5, _), (4, _), (0, _), (1, _), (2, _), (3, _)] dX3_findGoing_128 (Nat.le_of_ble_eq_true rfl) rfl ?_
              refine wa_iinc 2 [(7, _), (6, _), (8, _), (5, _), (4, _), (0, _), (1, _), (2, _), (3, _)] dX3_findGoing_130 rfl (w_inc w) (Nat.le_of_ble_eq_true rfl) rfl ?_
              refine wa_goto 65 dX3_findGoing_133 rfl ?_
              refine wa_locals [(7, _), (6, _), (5, _), (4, _), (0, _), (1, _), (2, _), (3, _)] [0, 1, 3, 4, 5, 6, 7, 8] rfl ?_
              rw [z_b1_0 c83, Bool.false_or] at ih
              rw [z_b1_1 c106, Bool.true_and] at ih
              rw [Bool.eq_false_iff.mpr (z_if1.mp c120)] at ih
              exact ih
            ·
              refine wa_iconst (1) dX3_findGoing_123 (by decide) ?_
              refine wa_goto 128 dX3_findGoing_124 rfl ?_
              refine wa_istore [(6, _), (8, _), (7, _), (5, _), (4, _), (0, _), (1, _), (2, _), (3, _)] dX3_findGoing_128 (Nat.le_of_ble_eq_true rfl) rfl ?_
              refine wa_iinc 2 [(7, _), (6, _), (8, _), (5, _), (4, _), (0, _), (1, _), (2, _), (3, _)] dX3_findGoing_130 rfl (w_inc w) (Nat.le_of_ble_eq_true rfl) rfl ?_
              refine wa_goto 65 dX3_findGoing_133 rfl ?_
              refine wa_locals [(7, _), (6, _), (5, _), (4, _), (0, _), (1, _), (2, _), (3, _)] [0, 1, 3, 4, 5, 6, 7, 8] rfl ?_
              rw [z_b1_0 c83, Bool.false_or] at ih
              rw [z_b1_1 c106, Bool.true_and] at ih
              rw [z_y c120] at ih
              exact ih
  have LP : ∀ (t : Nat) (_ : t < T) (K : ∀ N, z_gsm (z_cur S) k g T M N m t (z_size (z_cur S)) → ∀ v, w_A l G tX3_findGoing (5, 0, 0) X 0 0 N 179 [(5, .int v), (4, .int (nI t)), (0, .ref m), (1, .int (nI k)), (2, .int (nI g)), (3, .int (nI T))] [] (w_rV (fun N => w_fr M N (fun q => q = m + 6) ∧ z_gtab (z_cur S) k g T N m))) (n p : Nat) (N : w_M), p + n = z_size (z_cur S) → z_gsm (z_cur S) k g T M N m t p → w_A l G tX3_findGoing (5, 0, 0) X 0 0 N 50 [(5, .int (nI p)), (4, .int (nI t)), (0, .ref m), (1, .int (nI k)), (2, .int (nI g)), (3, .int (nI T))] [] (w_rV (fun N => w_fr M N (fun q => q = m + 6) ∧ z_gtab (z_cur S) k g T N m)) := by
    intro t ht K n
    induction n with
    | zero =>
      intro p N hn hst
      have hp : p = z_size (z_cur S) := by omega
      subst hp
      obtain ⟨gg, hda, hfr, hg1, hg2⟩ := id hst
      have hgN := hfr.2 _ _ hm (by omega)
      have HN := HM.sub hfr (by omega) (by omega)
      refine wa_iload 0 dX3_findGoing_50 rfl ?_
      refine wa_aload_n 2 dX3_findGoing_52 rfl rfl ?_
      refine wc_isI (wr_V dX3_findGoing_53 mX3_67 (sp_mcells HN hr) hgN rfl rfl rfl (Nat.le_of_ble_eq_true rfl)) ?_
      refine wa_icmp_ge 179 dX3_findGoing_56 rfl (fun c56 => ?_) (fun c56 => absurd (nI_le (by omega) (by omega)) c56)
      exact K N hst _
    | succ n ih =>
      intro p N hn hst
      have hpp : p < z_size (z_cur S) := by omega
      obtain ⟨gg, hda, hfr, hg1, hg2⟩ := id hst
      have hgN := hfr.2 _ _ hm (by omega)
      have HN := HM.sub hfr (by omega) (by omega)
      have ego : z_go (z_cur S) k g T (T - t) p = ((z_goA (z_cur S) k (z_go (z_cur S) k g T (T - (t + 1))) t p 5) && (decide (T - (t + 1) ≠ 0) || decide (p ≠ g))) := by
        rw [show T - t = (T - (t + 1)) + 1 by omega, z_go, show T - (T - (t + 1) + 1) = t by omega]
      have fin : ∀ (x : Bool) (v6 v7 : Int32), z_go (z_cur S) k g T (T - t) p = x → w_A l G tX3_findGoing (5, 0, 0) X 0 0 (N.set (m + 6) (.inl (.boolean, 1488, .inl (upd gg (48 * t + p) (z_b1 x))))) 50 [(5, .int (nI (p + 1))), (4, .int (nI t)), (0, .ref m), (1, .int (nI k)), (2, .int (nI g)), (3, .int (nI T))] [] (w_rV (fun N => w_fr M N (fun q => q = m + 6) ∧ z_gtab (z_cur S) k g T N m)) := fun x v6 v7 hx =>
        ih (p + 1) _ (by omega) ⟨_, w_set_self hda, hfr.me, fun u q h1 h2 h3 => (if_neg (by omega)).trans (hg1 u q h1 h2 h3), fun q hq => by
          by_cases e : q = p
          · subst e
            rw [hx]
            exact if_pos rfl
          · exact (if_neg (by omega)).trans (hg2 q (by omega))⟩
      have eT : nI T - 1 = nI (T - 1) := pk_sub (b := 1) (by omega)
      refine wa_iload 0 dX3_findGoing_50 rfl ?_
      refine wa_aload_n 2 dX3_findGoing_52 rfl rfl ?_
      refine wc_isI (wr_V dX3_findGoing_53 mX3_67 (sp_mcells HN hr) hgN rfl rfl rfl (Nat.le_of_ble_eq_true rfl)) ?_
      refine wa_icmp_ge 179 dX3_findGoing_56 rfl (fun c56 => absurd c56 (nI_lt_not (by omega) (by omega))) (fun c56 => ?_)
      refine wa_iconst (0) dX3_findGoing_59 (by decide) ?_
      refine wa_istore [(6, _), (5, _), (4, _), (0, _), (1, _), (2, _), (3, _)] dX3_findGoing_60 (Nat.le_of_ble_eq_true rfl) rfl ?_
      refine wa_iconst (0) dX3_findGoing_62 (by decide) ?_
      refine wa_istore [(7, _), (6, _), (5, _), (4, _), (0, _), (1, _), (2, _), (3, _)] dX3_findGoing_63 (Nat.le_of_ble_eq_true rfl) rfl ?_
      refine wa_locals [(7, _), (6, _), (5, _), (4, _), (0, _), (1, _), (2, _), (3, _)] [0, 1, 2, 3, 4, 5, 6, 7] rfl ?_
      refine LW t p ht hpp N hst (fun v7 => ?_) 5 0 rfl
      refine wa_aload_n 4 dX3_findGoing_136 rfl rfl ?_
      refine wa_getf dX3_findGoing_137 gX3_26 hgN rfl ?_
      refine wa_bipush (48) dX3_findGoing_140 (by decide) ?_
      refine wa_iload 3 dX3_findGoing_142 rfl ?_
      refine wa_imul dX3_findGoing_144 ?_
      refine wa_iload 2 dX3_findGoing_145 rfl ?_
      refine wa_iadd dX3_findGoing_147 ?_
      rw [z_ixT]
      refine wa_iload 1 dX3_findGoing_148 rfl ?_
      refine wa_if_eq 171 dX3_findGoing_150 rfl (fun c150 => ?_) (fun c150 => ?_)
      ·
        refine wa_iconst (0) dX3_findGoing_171 (by decide) ?_
        refine wa_zast dX3_findGoing_172 hda (vp_in_nI (by omega) (by omega)) ?_
        rw [nI_clamp (by omega)]
        refine wa_iinc 2 [(5, _), (7, _), (6, _), (4, _), (0, _), (1, _), (2, _), (3, _)] dX3_findGoing_173 rfl (w_inc p) (Nat.le_of_ble_eq_true rfl) rfl ?_
        refine wa_goto 50 dX3_findGoing_176 rfl ?_
        refine wa_locals [(5, _), (4, _), (0, _), (1, _), (2, _), (3, _)] [0, 3, 4, 5, 6, 7] rfl ?_
        rw [z_nar0]
        exact fin false 0 0 (by rw [ego, z_b1_0 c150]; rfl)
      ·
        refine wa_iload 3 dX3_findGoing_153 rfl ?_
        refine wa_iload_n 7 dX3_findGoing_155 rfl rfl ?_
        refine wa_iconst (1) dX3_findGoing_156 (by decide) ?_
        refine wa_isub dX3_findGoing_157 ?_
        rw [eT]
        refine wa_icmp_ne 167 dX3_findGoing_158 rfl (fun c158 => ?_) (fun c158 => ?_)
        ·
          refine wa_iconst (1) dX3_findGoing_167 (by decide) ?_
          refine wa_goto 172 dX3_findGoing_168 rfl ?_
          refine wa_zast dX3_findGoing_172 hda (vp_in_nI (by omega) (by omega)) ?_
          rw [nI_clamp (by omega)]
          refine wa_iinc 2 [(5, _), (7, _), (6, _), (4, _), (0, _), (1, _), (2, _), (3, _)] dX3_findGoing_173 rfl (w_inc p) (Nat.le_of_ble_eq_true rfl) rfl ?_
          refine wa_goto 50 dX3_findGoing_176 rfl ?_
          refine wa_locals [(5, _), (4, _), (0, _), (1, _), (2, _), (3, _)] [0, 3, 4, 5, 6, 7] rfl ?_
          have hga := z_b1_1 c150
          rw [z_nar1]
          exact fin true 0 0 (by rw [ego, hga, decide_eq_true (show T - (t + 1) ≠ 0 from fun z => c158 (congrArg nI (show t = T - 1 by omega)))]; rfl)
        ·
          refine wa_iload 2 dX3_findGoing_161 rfl ?_
          refine wa_iload_n 6 dX3_findGoing_163 rfl rfl ?_
          refine wa_icmp_eq 171 dX3_findGoing_164 rfl (fun c164 => ?_) (fun c164 => ?_)
          ·
            refine wa_iconst (0) dX3_findGoing_171 (by decide) ?_
            refine wa_zast dX3_findGoing_172 hda (vp_in_nI (by omega) (by omega)) ?_
            rw [nI_clamp (by omega)]
            refine wa_iinc 2 [(5, _), (7, _), (6, _), (4, _), (0, _), (1, _), (2, _), (3, _)] dX3_findGoing_173 rfl (w_inc p) (Nat.le_of_ble_eq_true rfl) rfl ?_
            refine wa_goto 50 dX3_findGoing_176 rfl ?_
            refine wa_locals [(5, _), (4, _), (0, _), (1, _), (2, _), (3, _)] [0, 3, 4, 5, 6, 7] rfl ?_
            have hga := z_b1_1 c150
            have ht1 : t = T - 1 := (nI_eq (by omega) (by omega)).mp c158
            have hd0 : decide (T - (t + 1) ≠ 0) = false := decide_eq_false (fun z => z (by omega))
            have hpg : p = g := (nI_eq (by omega) (by omega)).mp c164
            rw [z_nar0]
            exact fin false 0 0 (by rw [ego, hga, hd0, decide_eq_false (fun z => z hpg)]; rfl)
          ·
            refine wa_iconst (1) dX3_findGoing_167 (by decide) ?_
            refine wa_goto 172 dX3_findGoing_168 rfl ?_
            refine wa_zast dX3_findGoing_172 hda (vp_in_nI (by omega) (by omega)) ?_
            rw [nI_clamp (by omega)]
            refine wa_iinc 2 [(5, _), (7, _), (6, _), (4, _), (0, _), (1, _), (2, _), (3, _)] dX3_findGoing_173 rfl (w_inc p) (Nat.le_of_ble_eq_true rfl) rfl ?_
            refine wa_goto 50 dX3_findGoing_176 rfl ?_
            refine wa_locals [(5, _), (4, _), (0, _), (1, _), (2, _), (3, _)] [0, 3, 4, 5, 6, 7] rfl ?_
            have hga := z_b1_1 c150
            have ht1 : t = T - 1 := (nI_eq (by omega) (by omega)).mp c158
            have hd0 : decide (T - (t + 1) ≠ 0) = false := decide_eq_false (fun z => z (by omega))
            have hpg : p ≠ g := fun z => c164 (congrArg nI z)
            rw [z_nar1]
            exact fin true 0 0 (by rw [ego, hga, hd0, decide_eq_true hpg]; rfl)
  have LT : ∀ (n : Nat) (N : w_M), n ≤ T → (∃ gg : Nat → Int32, N.get (m + 6) = some (.inl (.boolean, 1488, .inl gg)) ∧ w_fr M N (fun q => q = m + 6) ∧ ∀ u q, n ≤ u → u ≤ T → q < z_size (z_cur S) → gg (48 * u + q) = z_b1 (z_go (z_cur S) k g T (T - u) q)) → w_A l G tX3_findGoing (5, 0, 0) X 0 0 N 42 [(4, .int (nI n - 1)), (0, .ref m), (1, .int (nI k)), (2, .int (nI g)), (3, .int (nI T))] [] (w_rV (fun N => w_fr M N (fun q => q = m + 6) ∧ z_gtab (z_cur S) k g T N m)) := by
    intro n
    induction n with
    | zero =>
      intro N hn hst
      obtain ⟨gg, hda, hfr, hg1⟩ := hst
      refine wa_iload 0 dX3_findGoing_42 rfl ?_
      refine wa_if_lt 185 dX3_findGoing_44 rfl (fun c44 => ?_) (fun c44 => absurd (by decide) c44)
      refine wa_vret dX3_findGoing_185 rfl (Nat.le_of_ble_eq_true rfl) (Nat.le_of_ble_eq_true rfl) ?_
      exact ⟨rfl, hfr, gg, hda, fun u q hu hq => hg1 u q (Nat.zero_le _) hu hq⟩
    | succ n ih =>
      intro N hn hst
      obtain ⟨gg, hda, hfr, hg1⟩ := hst
      rw [nI_pred]
      refine wa_iload 0 dX3_findGoing_42 rfl ?_
      refine wa_if_lt 185 dX3_findGoing_44 rfl (fun c44 => absurd c44 (nI_pos (by omega))) (fun c44 => ?_)
      refine wa_iconst (0) dX3_findGoing_47 (by decide) ?_
      refine wa_istore [(5, _), (4, _), (0, _), (1, _), (2, _), (3, _)] dX3_findGoing_48 (Nat.le_of_ble_eq_true rfl) rfl ?_
      refine wa_locals [(5, _), (4, _), (0, _), (1, _), (2, _), (3, _)] [0, 1, 2, 3, 4, 5] rfl ?_
      refine LP n (by omega) (fun N2 hst2 v => ?_) (z_size (z_cur S)) 0 N (Nat.zero_add _) ⟨gg, hda, hfr, fun u q h1 h2 h3 => hg1 u q (by omega) h2 h3, fun q hq => absurd hq (Nat.not_lt_zero _)⟩
      refine wa_iinc 1 [(4, _), (5, _), (0, _), (1, _), (2, _), (3, _)] dX3_findGoing_179 rfl (w_incM (nI n)) (Nat.le_of_ble_eq_true rfl) rfl ?_
      refine wa_goto 42 dX3_findGoing_182 rfl ?_
      refine wa_locals [(4, _), (0, _), (1, _), (2, _), (3, _)] [0, 2, 3, 4, 5] rfl ?_
      obtain ⟨g2, a1, a2, a3, a4⟩ := hst2
      refine ih N2 (by omega) ⟨g2, a1, a2, fun u q h1 h2 h3 => ?_⟩
      by_cases e : u = n
      · rw [e]; exact a4 q h3
      · exact a3 u q (by omega) h2 h3
  have LI : ∀ (n i : Nat) (N : w_M) (gg : Nat → Int32), i + n = 1488 → N.get (m + 6) = some (.inl (.boolean, 1488, .inl gg)) → w_fr M N (fun q => q = m + 6) → (∀ y, y < i → gg y = 0) → w_A l G tX3_findGoing (5, 0, 0) X 0 0 N 3 [(4, .int (nI i)), (0, .ref m), (1, .int (nI k)), (2, .int (nI g)), (3, .int (nI T))] [] (w_rV (fun N => w_fr M N (fun q => q = m + 6) ∧ z_gtab (z_cur S) k g T N m)) := by
    intro n
    induction n with
    | zero =>
      intro i N gg hn hda hfr hz
      have hi : i = 1488 := by omega
      subst hi
      have hgN := hfr.2 _ _ hm (by omega)
      refine wa_iload 0 dX3_findGoing_3 rfl ?_
      refine wa_sipush (1488) dX3_findGoing_5 (by decide) ?_
      refine wa_icmp_ge 25 dX3_findGoing_8 rfl (fun c8 => ?_) (fun c8 => absurd (by decide) c8)
      refine wa_aload_n 1 dX3_findGoing_25 rfl rfl ?_
      refine wa_getf dX3_findGoing_26 gX3_26 hgN rfl ?_
      refine wa_bipush (48) dX3_findGoing_29 (by decide) ?_
      refine wa_iload_n 4 dX3_findGoing_31 rfl rfl ?_
      refine wa_imul dX3_findGoing_32 ?_
      refine wa_iload_n 3 dX3_findGoing_33 rfl rfl ?_
      refine wa_iadd dX3_findGoing_34 ?_
      refine wa_iconst (1) dX3_findGoing_35 (by decide) ?_
      rw [z_ixT]
      refine wa_zast dX3_findGoing_36 hda (vp_in_nI (by omega) (by omega)) ?_
      rw [nI_clamp (by omega), z_nar1]
      refine wa_iload_n 4 dX3_findGoing_37 rfl rfl ?_
      refine wa_iconst (1) dX3_findGoing_38 (by decide) ?_
      refine wa_isub dX3_findGoing_39 ?_
      refine wa_istore [(4, _), (0, _), (1, _), (2, _), (3, _)] dX3_findGoing_40 (Nat.le_of_ble_eq_true rfl) rfl ?_
      refine wa_locals [(4, _), (0, _), (1, _), (2, _), (3, _)] [0, 1, 2, 3, 4] rfl ?_
      refine LT T _ (Nat.le_refl _) ⟨_, w_set_self hda, hfr.me, fun u q h1 h2 h3 => ?_⟩
      have hu0 : u = T := by omega
      subst hu0
      rw [Nat.sub_self]
      show (if 48 * u + q = 48 * u + g then (1 : Int32) else gg (48 * u + q)) = z_b1 (decide (q = g))
      by_cases e : q = g
      · rw [if_pos (by rw [e]), decide_eq_true e]; rfl
      · rw [if_neg (by omega), decide_eq_false e]; exact hz _ (by omega)
    | succ n ih =>
      intro i N gg hn hda hfr hz
      have hgN := hfr.2 _ _ hm (by omega)
      refine wa_iload 0 dX3_findGoing_3 rfl ?_
      refine wa_sipush (1488) dX3_findGoing_5 (by decide) ?_
      refine wa_icmp_ge 25 dX3_findGoing_8 rfl (fun c8 => absurd c8 (nI_lt_not (b := 1488) (by omega) (by decide))) (fun c8 => ?_)
      refine wa_aload_n 1 dX3_findGoing_11 rfl rfl ?_
      refine wa_getf dX3_findGoing_12 gX3_26 hgN rfl ?_
      refine wa_iload 0 dX3_findGoing_15 rfl ?_
      refine wa_iconst (0) dX3_findGoing_17 (by decide) ?_
      refine wa_zast dX3_findGoing_18 hda (vp_in_nI (by omega) (by omega)) ?_
      rw [nI_clamp (by omega), z_nar0]
      refine wa_iinc 0 [(4, _), (0, _), (1, _), (2, _), (3, _)] dX3_findGoing_19 rfl (w_inc i) (Nat.le_of_ble_eq_true rfl) rfl ?_
      refine wa_goto 3 dX3_findGoing_22 rfl ?_
      refine wa_locals [(4, _), (0, _), (1, _), (2, _), (3, _)] [0, 1, 2, 3, 4] rfl ?_
      refine ih (i + 1) _ _ (by omega) (w_set_self hda) hfr.me (fun y hy => ?_)
      by_cases e : y = i
      · exact if_pos e
      · exact (if_neg e).trans (hz y (by omega))
  refine wa_iconst (0) dX3_findGoing_0 (by decide) ?_
  refine wa_istore [(4, _), (0, _), (1, _), (2, _), (3, _)] dX3_findGoing_1 (Nat.le_of_ble_eq_true rfl) rfl ?_
  refine wa_locals [(4, _), (0, _), (1, _), (2, _), (3, _)] [0, 1, 2, 3, 4] rfl ?_
  exact LI 1488 0 M g60 (Nat.zero_add _) h60 w_fr.rf (fun y hy => absurd hy (Nat.not_lt_zero _))
theorem sp_mfindPath (h : z_modL b M m S th is rr rc f sv pf ip) (hk : (z_robs (z_cur S))[k]? = some r) (hgs : g < z_size (z_cur S)) (hT : 0 < T) (hT30 : T ≤ 30) (he : z_hasEnd (z_cur S) k (z_cell r) g (T - 1) = true) : w_S l G tX3_findPath (6, 0, 0) [.ref m, .int (nI k), .int (nI g), .int (nI T)] M (w_rI (fun v N => v = nI (z_stepsN (z_cell r) (z_trail (z_cur S) k (z_cell r) g T T 0 (z_cell r))) ∧ w_fr M N (fun q => q = m + 6 ∨ q = m + 7) ∧ z_modL b N m S th is rr rc f sv pf ip ∧ ∃ pa : Nat → Int32, N.get (m + 7) = some (.inl (.int, 30, .inl pa)) ∧ ∀ (j q : Nat), (z_trail (z_cur S) k (z_cell r) g T T 0 (z_cell r))[j]? = some q → pa j = nI q)) := by
  obtain ⟨hm, hf, -⟩ := id h
  have HM := h.mh
  have hr := h.mr
  have hg := h.gd
  have hs := hg.1
  have hsz := hs.size
  have hR6 : (z_robs (z_cur S)).length ≤ 6 := hs.2.2.2.2.1
  have hkl := (List.getElem?_eq_some_iff.mp hk).1
  have hk6 : k < 6 := by omega
  have ha := hg.2.2.2.2.1
  have hrm := List.mem_of_getElem? hk
  have hss := (hs.2.2.2.2.2.2.1 r hrm).1
  have hfs : z_free (z_cur S) (z_cell r) = true := hg.2.2.2.2.2.1 r hrm 0
  have hsets := hg.2.2.2.1.2.2
  obtain ⟨Hh, hH, hHe⟩ := nI_of (x := z_sets (z_cur S) 2) (Int32.not_lt.mpr (Int32.le_trans (by decide) hsets.1))
  have hHor : z_hor (z_cur S) = Hh := by unfold z_hor; rw [hHe, nI_clamp hH]
  have hH30 : Hh ≤ 30 := by rw [hHe] at hsets; exact (nI_leI (b := 30) hH (by decide)).mp hsets.2
  have hH1 : 1 ≤ Hh := by rw [hHe] at hsets; exact (nI_leI (a := 1) (by decide) hH).mp hsets.1
  have q1 := (hr.rob hk).1
  have h7 : f (Int32.toNatClampNeg 7) = nI Hh := (hr.2.1 2 (by decide)).trans hHe
  have hgo := z_go_gd (g := g) (T := T) hs ha hfs hss hT he
  have hg0 := z_gd_start (c := (z_cur S)) (k := k) (s := z_cell r) (g := g) (T := T) hT he
  refine w_start (by decide) (Nat.le_of_ble_eq_true rfl) (fun X => ?_)
  refine wa_locals [(0, _), (1, _), (2, _), (3, _)] [0, 1, 2, 3] rfl ?_
  refine wa_aload_n 0 dX3_findPath_0 rfl rfl ?_
  refine wa_iload_n 1 dX3_findPath_1 rfl rfl ?_
  refine wa_iload_n 2 dX3_findPath_2 rfl rfl ?_
  refine wa_iload_n 3 dX3_findPath_3 rfl rfl ?_
  refine wc_V (wr_V dX3_findPath_4 mX3_138 (sp_mfindGoing h hk hgs hT hT30) hm rfl rfl rfl (Nat.le_of_ble_eq_true rfl)) (fun M4 h4 => ?_)
  obtain ⟨hfr, gg, hda, hgt⟩ := id h4
  have hmN := hfr.2 _ _ hm (by omega)
  have HN := HM.sub hfr (by omega) (by omega)
  obtain ⟨-, ⟨y5, w5⟩, -, ⟨pa0, hpa0⟩, -⟩ := h.2.2.2.2.2.1
  have hpa0 := hfr.2 _ _ hpa0 (by omega)
  refine wa_aload_n 0 dX3_findPath_7 rfl rfl ?_
  refine wa_iload_n 1 dX3_findPath_8 rfl rfl ?_
  refine wa_iconst (0) dX3_findPath_9 (by decide) ?_
  refine wc_isI (wr_V dX3_findPath_10 mX3_79 (sp_mof HN hk6 (w := 0) (by decide)) hmN rfl rfl rfl (Nat.le_of_ble_eq_true rfl)) ?_
  rw [show f (104 + 36 * k + 0) = nI (z_cell r) from q1]
  refine wa_istore [(4, _), (0, _), (1, _), (2, _), (3, _)] dX3_findPath_13 (Nat.le_of_ble_eq_true rfl) rfl ?_
  refine wa_iconst (0) dX3_findPath_15 (by decide) ?_
  refine wa_istore [(5, _), (4, _), (0, _), (1, _), (2, _), (3, _)] dX3_findPath_16 (Nat.le_of_ble_eq_true rfl) rfl ?_
  refine wa_iconst (0) dX3_findPath_18 (by decide) ?_
  refine wa_istore [(6, _), (5, _), (4, _), (0, _), (1, _), (2, _), (3, _)] dX3_findPath_19 (Nat.le_of_ble_eq_true rfl) rfl ?_
  refine wa_locals [(6, _), (5, _), (4, _), (0, _), (1, _), (2, _), (3, _)] [0, 1, 2, 3, 4, 5, 6] rfl ?_
  have LP : ∀ (n t p v : Nat) (N : w_M) (pa : Nat → Int32), t + n = T → z_reach (z_cur S) k (z_cell r) t p = true → z_gd (z_cur S) k (z_cell r) g T (T - t) p = true → w_fr M4 N (fun q => q = m + 7) → N.get (m + 7) = some (.inl (.int, 30, .inl pa)) → (z_trail (z_cur S) k (z_cell r) g T T 0 (z_cell r)).drop t = z_trail (z_cur S) k (z_cell r) g T n t p → v + z_stepsN p ((z_trail (z_cur S) k (z_cell r) g T T 0 (z_cell r)).drop t) = z_stepsN (z_cell r) (z_trail (z_cur S) k (z_cell r) g T T 0 (z_cell r)) → (∀ (j q : Nat), j < t → (z_trail (z_cur S) k (z_cell r) g T T 0 (z_cell r))[j]? = some q → pa j = nI q) → w_A l G tX3_findPath (6, 0, 0) X 0 0 N 21 [(6, .int (nI t)), (5, .int (nI v)), (4, .int (nI p)), (0, .ref m), (1, .int (nI k)), (2, .int (nI g)), (3, .int (nI T))] [] (w_rI (fun v N => v = nI (z_stepsN (z_cell r) (z_trail (z_cur S) k (z_cell r) g T T 0 (z_cell r))) ∧ w_fr M N (fun q => q = m + 6 ∨ q = m + 7) ∧ z_modL b N m S th is rr rc f sv pf ip ∧ ∃ pa : Nat → Int32, N.get (m + 7) = some (.inl (.int, 30, .inl pa)) ∧ ∀ (j q : Nat), (z_trail (z_cur S) k (z_cell r) g T T 0 (z_cell r))[j]? = some q → pa j = nI q)) := by
    intro n
    induction n with
    | zero =>
      intro t p v N pa hn hrp hgd hfr2 hpa htr hv hpj
      have ht : t = T := by omega
      subst ht
      have hlen : (z_trail (z_cur S) k (z_cell r) g t t 0 (z_cell r)).length ≤ t := by
        have htr : _ = [] := htr
        have := congrArg List.length htr
        rw [List.length_drop] at this
        simp only [List.length_nil] at this
        omega
      rw [List.drop_eq_nil_of_le hlen] at hv
      have hv : v + 0 = _ := hv
      refine wa_iload 0 dX3_findPath_21 rfl ?_
      refine wa_iload_n 6 dX3_findPath_23 rfl rfl ?_
      refine wa_icmp_ge 129 dX3_findPath_24 rfl (fun c24 => ?_) (fun c24 => absurd (nI_le (by omega) (by omega)) c24)
      refine wa_iload 1 dX3_findPath_129 rfl ?_
      refine wa_iret FieldType.int dX3_findPath_131 rfl rfl (Nat.le_of_ble_eq_true rfl) (Nat.le_of_ble_eq_true rfl) ?_
      refine ⟨_, rfl, by rw [← hv]; rfl, (hfr.mono (fun q _ e => Or.inl e)).trans (hfr2.mono (fun q _ e => Or.inr e)), ?_, pa, hpa, fun j q hj => hpj j q (by have := (List.getElem?_eq_some_iff.mp hj).1; omega) hj⟩
      have hfa : w_fr M N (fun q => q = m + 5 ∨ q = m + 6 ∨ q = m + 7) := (hfr.mono (fun q _ e => Or.inr (Or.inl e))).trans (hfr2.mono (fun q _ e => Or.inr (Or.inr e)))
      exact h.srch hfa ⟨y5, hfr2.2 _ _ (hfr.2 _ _ w5 (by omega)) (by omega)⟩ ⟨gg, hfr2.2 _ _ hda (by omega)⟩ ⟨pa, hpa⟩
    | succ n ih =>
      intro t p v N pa hn hrp hgd hfr2 hpa htr hv hpj
      have hgN := hfr2.2 _ _ hmN (by omega)
      have HN2 := HN.sub hfr2 (by omega) (by omega)
      have hdaN := hfr2.2 _ _ hda (by omega)
      have hpp := z_reach_lt hs hss t p hrp
      have hfp := z_reach_free hfs t p hrp
      obtain ⟨q, hnx, hgq⟩ := z_gd_next (c := (z_cur S)) (k := k) (s := z_cell r) (g := g) (by omega) hgd
      have hnx0 := hnx
      rw [z_trail, hnx] at htr
      have htr : (z_trail (z_cur S) k (z_cell r) g T T 0 (z_cell r)).drop t = q :: z_trail (z_cur S) k (z_cell r) g T n (t + 1) q := htr
      have hfull : (z_trail (z_cur S) k (z_cell r) g T T 0 (z_cell r))[t]? = some q := by
        have := congrArg (fun z => z[0]?) htr
        simpa using this
      have hdrop : (z_trail (z_cur S) k (z_cell r) g T T 0 (z_cell r)).drop (t + 1) = z_trail (z_cur S) k (z_cell r) g T n (t + 1) q := by
        rw [← List.drop_drop, htr]
        rfl
      obtain ⟨-, hmay, w0, -, hw0, hby0⟩ := z_nextW_some _ _ _ hnx
      have hqs : q < z_size (z_cur S) := z_by_lt hs hpp hby0
      have hrq : z_reach (z_cur S) k (z_cell r) (t + 1) q = true := z_reach_next hpp hrp (show w0 < 5 by omega) (by unfold z_step; rw [hby0, hmay, decide_eq_true rfl]; rfl)
      rw [htr, z_stepsN] at hv
      have K : ∀ (v7 v8 : Int32), w_A l G tX3_findPath (6, 0, 0) X 0 0 N 93 [(8, .int (nI q)), (7, .int v7), (6, .int (nI t)), (5, .int (nI v)), (4, .int (nI p)), (0, .ref m), (1, .int (nI k)), (2, .int (nI g)), (3, .int (nI T))] [] (w_rI (fun v N => v = nI (z_stepsN (z_cell r) (z_trail (z_cur S) k (z_cell r) g T T 0 (z_cell r))) ∧ w_fr M N (fun q => q = m + 6 ∨ q = m + 7) ∧ z_modL b N m S th is rr rc f sv pf ip ∧ ∃ pa : Nat → Int32, N.get (m + 7) = some (.inl (.int, 30, .inl pa)) ∧ ∀ (j q : Nat), (z_trail (z_cur S) k (z_cell r) g T T 0 (z_cell r))[j]? = some q → pa j = nI q)) := by
        intro v7 v8
        refine wa_iload 3 dX3_findPath_93 rfl ?_
        refine wa_iload 0 dX3_findPath_95 rfl ?_
        refine wa_iload 4 dX3_findPath_97 rfl ?_
        refine wa_icmp_ne 106 dX3_findPath_99 rfl (fun c99 => ?_) (fun c99 => ?_)
        ·
          refine wa_iconst (1) dX3_findPath_106 (by decide) ?_
          refine wa_iadd dX3_findPath_107 ?_
          refine wa_istore [(5, _), (8, _), (7, _), (6, _), (4, _), (0, _), (1, _), (2, _), (3, _)] dX3_findPath_108 (Nat.le_of_ble_eq_true rfl) rfl ?_
          refine wa_aload_n 5 dX3_findPath_110 rfl rfl ?_
          refine wa_getf dX3_findPath_111 gX3_29 hgN rfl ?_
          refine wa_iload 3 dX3_findPath_114 rfl ?_
          refine wa_iload 1 dX3_findPath_116 rfl ?_
          refine wa_iast dX3_findPath_118 hpa (vp_in_nI (by omega) (by omega)) ?_
          rw [nI_clamp (by omega)]
          refine wa_iload 1 dX3_findPath_119 rfl ?_
          refine wa_istore [(4, _), (5, _), (8, _), (7, _), (6, _), (0, _), (1, _), (2, _), (3, _)] dX3_findPath_121 (Nat.le_of_ble_eq_true rfl) rfl ?_
          refine wa_iinc 4 [(6, _), (4, _), (5, _), (8, _), (7, _), (0, _), (1, _), (2, _), (3, _)] dX3_findPath_123 rfl (w_inc t) (Nat.le_of_ble_eq_true rfl) rfl ?_
          refine wa_goto 21 dX3_findPath_126 rfl ?_
          refine wa_locals [(6, _), (5, _), (4, _), (0, _), (1, _), (2, _), (3, _)] [0, 2, 1, 5, 6, 7, 8] rfl ?_
          have e : ¬ q = p := fun z => c99 (congrArg nI z)
          rw [if_neg e] at hv
          rw [show nI v + 1 = nI (v + 1) from nI_1 v]
          refine ih (t + 1) q (v + 1) _ _ (by omega) hrq hgq hfr2.me (w_set_self hpa) hdrop (by rw [hdrop]; omega) (fun j y hj hy => ?_)
          by_cases ej : j = t
          · subst ej
            rw [hfull] at hy
            cases hy
            exact if_pos rfl
          · exact (if_neg ej).trans (hpj j y (by omega) hy)
        ·
          refine wa_iconst (0) dX3_findPath_102 (by decide) ?_
          refine wa_goto 107 dX3_findPath_103 rfl ?_
          refine wa_iadd dX3_findPath_107 ?_
          refine wa_istore [(5, _), (8, _), (7, _), (6, _), (4, _), (0, _), (1, _), (2, _), (3, _)] dX3_findPath_108 (Nat.le_of_ble_eq_true rfl) rfl ?_
          refine wa_aload_n 5 dX3_findPath_110 rfl rfl ?_
          refine wa_getf dX3_findPath_111 gX3_29 hgN rfl ?_
          refine wa_iload 3 dX3_findPath_114 rfl ?_
          refine wa_iload 1 dX3_findPath_116 rfl ?_
          refine wa_iast dX3_findPath_118 hpa (vp_in_nI (by omega) (by omega)) ?_
          rw [nI_clamp (by omega)]
          refine wa_iload 1 dX3_findPath_119 rfl ?_
          refine wa_istore [(4, _), (5, _), (8, _), (7, _), (6, _), (0, _), (1, _), (2, _), (3, _)] dX3_findPath_121 (Nat.le_of_ble_eq_true rfl) rfl ?_
          refine wa_iinc 4 [(6, _), (4, _), (5, _), (8, _), (7, _), (0, _), (1, _), (2, _), (3, _)] dX3_findPath_123 rfl (w_inc t) (Nat.le_of_ble_eq_true rfl) rfl ?_
          refine wa_goto 21 dX3_findPath_126 rfl ?_
          refine wa_locals [(6, _), (5, _), (4, _), (0, _), (1, _), (2, _), (3, _)] [0, 2, 1, 5, 6, 7, 8] rfl ?_
          have e : q = p := (nI_eq (by omega) (by omega)).mp c99
          rw [if_pos e] at hv
          rw [Int32.add_zero]
          refine ih (t + 1) q v _ _ (by omega) hrq hgq hfr2.me (w_set_self hpa) hdrop (by rw [hdrop]; omega) (fun j y hj hy => ?_)
          by_cases ej : j = t
          · subst ej
            rw [hfull] at hy
            cases hy
            exact if_pos rfl
          · exact (if_neg ej).trans (hpj j y (by omega) hy)
      have LW : ∀ (n w : Nat), w + (n + 1) = 5 → z_nextW (z_cur S) k t p (z_gd (z_cur S) k (z_cell r) g T (T - (t + 1))) (n + 1) w = some q → w_A l G tX3_findPath (6, 0, 0) X 0 0 N 40 [(8, .int (z_enc (z_bes (z_cur S) p w))), (7, .int (nI w)), (6, .int (nI t)), (5, .int (nI v)), (4, .int (nI p)), (0, .ref m), (1, .int (nI k)), (2, .int (nI g)), (3, .int (nI T))] [] (w_rI (fun v N => v = nI (z_stepsN (z_cell r) (z_trail (z_cur S) k (z_cell r) g T T 0 (z_cell r))) ∧ w_fr M N (fun q => q = m + 6 ∨ q = m + 7) ∧ z_modL b N m S th is rr rc f sv pf ip ∧ ∃ pa : Nat → Int32, N.get (m + 7) = some (.inl (.int, 30, .inl pa)) ∧ ∀ (j q : Nat), (z_trail (z_cur S) k (z_cell r) g T T 0 (z_cell r))[j]? = some q → pa j = nI q)) := by
        intro n
        induction n with
        | zero =>
          intro w hn hz
          have hw : w = 4 := by omega
          subst hw
          have hb : z_by (z_cur S) p 4 = some p := z_by_4
          have hbs : z_bes (z_cur S) p 4 = some p := rfl
          rw [z_nextW, hb] at hz
          dsimp only at hz
          split at hz
          · rename_i hc
            have e := Option.some.inj hz
            have hmg : z_mgo (z_cur S) k p p t = true := by rw [z_mgo_iff ha, hfp, hc.2]; rfl
            have hgx : gg (48 * (t + 1) + p) = 1 := by rw [hgt (t + 1) p (by omega) hpp, hgo _ (by omega) p (by rw [show T - (T - (t + 1)) = t + 1 by omega, e]; exact hrq), hc.1]; rfl
            rw [hbs]
            rw [show z_enc (some p) = nI p from rfl]
            refine wa_iload 0 dX3_findPath_40 rfl ?_
            refine wa_if_lt 77 dX3_findPath_42 rfl (fun c42 => absurd c42 (nI_pos (by omega))) (fun c42 => ?_)
            refine wa_aload_n 5 dX3_findPath_45 rfl rfl ?_
            refine wa_getf dX3_findPath_46 gX3_26 hgN rfl ?_
            refine wa_bipush (48) dX3_findPath_49 (by decide) ?_
            refine wa_iload 2 dX3_findPath_51 rfl ?_
            refine wa_iconst (1) dX3_findPath_53 (by decide) ?_
            refine wa_iadd dX3_findPath_54 ?_
            refine wa_imul dX3_findPath_55 ?_
            refine wa_iload 0 dX3_findPath_56 rfl ?_
            refine wa_iadd dX3_findPath_58 ?_
            rw [show nI t + 1 = nI (t + 1) from nI_1 t, z_ixT]
            refine wa_zald dX3_findPath_59 hdaN (vp_in_nI (by omega) (by omega)) ?_
            rw [nI_clamp (by omega), hgx]
            refine wa_if_eq 77 dX3_findPath_60 rfl (fun c60 => absurd c60 (by decide)) (fun c60 => ?_)
            refine wa_aload_n 5 dX3_findPath_63 rfl rfl ?_
            refine wa_iload_n 6 dX3_findPath_64 rfl rfl ?_
            refine wa_iload 4 dX3_findPath_65 rfl ?_
            refine wa_iload 0 dX3_findPath_67 rfl ?_
            refine wa_iload 2 dX3_findPath_69 rfl ?_
            refine wc_isI (wr_V dX3_findPath_71 mX3_127 (sp_mmayGo HN2 hr hs (by omega) hpp hpp (by omega)) hgN rfl rfl rfl (Nat.le_of_ble_eq_true rfl)) ?_
            rw [hmg]
            refine wa_if_ne 93 dX3_findPath_74 rfl (fun c74 => ?_) (fun c74 => absurd c74 (by decide))
            subst e
            exact K _ 0
          · cases hz
        | succ n ihw =>
          intro w hn hz
          have hw5 : w < 5 := by omega
          have hxm := z_enc_neg (g := z_bes (z_cur S) p w) (fun x e => by have := z_bes_lt hs hpp e; omega)
          rw [z_nextW] at hz
          have go : z_nextW (z_cur S) k t p (z_gd (z_cur S) k (z_cell r) g T (T - (t + 1))) (n + 1) (w + 1) = some q → ∀ v8, w_A l G tX3_findPath (6, 0, 0) X 0 0 N 77 [(8, .int v8), (7, .int (nI w)), (6, .int (nI t)), (5, .int (nI v)), (4, .int (nI p)), (0, .ref m), (1, .int (nI k)), (2, .int (nI g)), (3, .int (nI T))] [] (w_rI (fun v N => v = nI (z_stepsN (z_cell r) (z_trail (z_cur S) k (z_cell r) g T T 0 (z_cell r))) ∧ w_fr M N (fun q => q = m + 6 ∨ q = m + 7) ∧ z_modL b N m S th is rr rc f sv pf ip ∧ ∃ pa : Nat → Int32, N.get (m + 7) = some (.inl (.int, 30, .inl pa)) ∧ ∀ (j q : Nat), (z_trail (z_cur S) k (z_cell r) g T T 0 (z_cell r))[j]? = some q → pa j = nI q)) := by
            intro hz2 v8
            refine wa_iinc 1 [(7, _), (8, _), (6, _), (5, _), (4, _), (0, _), (1, _), (2, _), (3, _)] dX3_findPath_77 rfl (w_inc w) (Nat.le_of_ble_eq_true rfl) rfl ?_
            refine wa_aload_n 5 dX3_findPath_80 rfl rfl ?_
            refine wa_iload 4 dX3_findPath_81 rfl ?_
            refine wa_iload 0 dX3_findPath_83 rfl ?_
            refine wc_isI (wr_V dX3_findPath_85 mX3_124 (sp_mbes HN2 hr hs hpp (by omega)) hgN rfl rfl rfl (Nat.le_of_ble_eq_true rfl)) ?_
            refine wa_istore [(8, _), (7, _), (6, _), (5, _), (4, _), (0, _), (1, _), (2, _), (3, _)] dX3_findPath_88 (Nat.le_of_ble_eq_true rfl) rfl ?_
            refine wa_goto 40 dX3_findPath_90 rfl ?_
            exact ihw (w + 1) (by omega) hz2
          cases hx : z_bes (z_cur S) p w with
          | none =>
            have hb : z_by (z_cur S) p w = none := by
              cases hb : z_by (z_cur S) p w with
              | none => rfl
              | some y => have := ((z_by_iff hw5 hfp).mp hb).1; rw [hx] at this; cases this
            rw [hb] at hz
            refine wa_iload 0 dX3_findPath_40 rfl ?_
            refine wa_if_lt 77 dX3_findPath_42 rfl (fun c42 => ?_) (fun c42 => absurd (by decide) c42)
            exact go hz _
          | some x =>
            have hxs := z_bes_lt hs hpp hx
            have hgx := hgt (t + 1) x (by omega) hxs
            rw [show z_enc (some x) = nI x from rfl]
            by_cases hmg : z_mgo (z_cur S) k p x t = true
            ·
              have hmg2 := hmg
              rw [z_mgo_iff ha, Bool.and_eq_true] at hmg2
              have hb : z_by (z_cur S) p w = some x := (z_by_iff hw5 hfp).mpr ⟨hx, hmg2.1⟩
              have hrx : z_reach (z_cur S) k (z_cell r) (t + 1) x = true := z_reach_next hpp hrp hw5 ((z_step_iff ha hw5 hfp).mpr ⟨hx, hmg⟩)
              rw [hgo _ (by omega) x (by rw [show T - (T - (t + 1)) = t + 1 by omega]; exact hrx)] at hgx
              rw [hb] at hz
              dsimp only at hz
              cases hgd2 : z_gd (z_cur S) k (z_cell r) g T (T - (t + 1)) x with
              | true =>
                rw [if_pos ⟨hgd2, hmg2.2⟩] at hz
                have e := Option.some.inj hz
                subst e
                rw [hgd2] at hgx
                refine wa_iload 0 dX3_findPath_40 rfl ?_
                refine wa_if_lt 77 dX3_findPath_42 rfl (fun c42 => absurd c42 (nI_pos (by omega))) (fun c42 => ?_)
                refine wa_aload_n 5 dX3_findPath_45 rfl rfl ?_
                refine wa_getf dX3_findPath_46 gX3_26 hgN rfl ?_
                refine wa_bipush (48) dX3_findPath_49 (by decide) ?_
                refine wa_iload 2 dX3_findPath_51 rfl ?_
                refine wa_iconst (1) dX3_findPath_53 (by decide) ?_
                refine wa_iadd dX3_findPath_54 ?_
                refine wa_imul dX3_findPath_55 ?_
                refine wa_iload 0 dX3_findPath_56 rfl ?_
                refine wa_iadd dX3_findPath_58 ?_
                rw [show nI t + 1 = nI (t + 1) from nI_1 t, z_ixT]
                refine wa_zald dX3_findPath_59 hdaN (vp_in_nI (by omega) (by omega)) ?_
                rw [nI_clamp (by omega), hgx]
                refine wa_if_eq 77 dX3_findPath_60 rfl (fun c60 => absurd c60 (by decide)) (fun c60 => ?_)
                refine wa_aload_n 5 dX3_findPath_63 rfl rfl ?_
                refine wa_iload_n 6 dX3_findPath_64 rfl rfl ?_
                refine wa_iload 4 dX3_findPath_65 rfl ?_
                refine wa_iload 0 dX3_findPath_67 rfl ?_
                refine wa_iload 2 dX3_findPath_69 rfl ?_
                refine wc_isI (wr_V dX3_findPath_71 mX3_127 (sp_mmayGo HN2 hr hs (by omega) hpp hxs (by omega)) hgN rfl rfl rfl (Nat.le_of_ble_eq_true rfl)) ?_
                rw [hmg]
                refine wa_if_ne 93 dX3_findPath_74 rfl (fun c74 => ?_) (fun c74 => absurd c74 (by decide))
                exact K _ 0
              | false =>
                rw [if_neg (fun z => by rw [hgd2] at z; cases z.1)] at hz
                rw [hgd2] at hgx
                refine wa_iload 0 dX3_findPath_40 rfl ?_
                refine wa_if_lt 77 dX3_findPath_42 rfl (fun c42 => absurd c42 (nI_pos (by omega))) (fun c42 => ?_)
                refine wa_aload_n 5 dX3_findPath_45 rfl rfl ?_
                refine wa_getf dX3_findPath_46 gX3_26 hgN rfl ?_
                refine wa_bipush (48) dX3_findPath_49 (by decide) ?_
                refine wa_iload 2 dX3_findPath_51 rfl ?_
                refine wa_iconst (1) dX3_findPath_53 (by decide) ?_
                refine wa_iadd dX3_findPath_54 ?_
                refine wa_imul dX3_findPath_55 ?_
                refine wa_iload 0 dX3_findPath_56 rfl ?_
                refine wa_iadd dX3_findPath_58 ?_
                rw [show nI t + 1 = nI (t + 1) from nI_1 t, z_ixT]
                refine wa_zald dX3_findPath_59 hdaN (vp_in_nI (by omega) (by omega)) ?_
                rw [nI_clamp (by omega), hgx]
                refine wa_if_eq 77 dX3_findPath_60 rfl (fun c60 => ?_) (fun c60 => absurd rfl c60)
                exact go hz _
            ·
              have hz2 : z_nextW (z_cur S) k t p (z_gd (z_cur S) k (z_cell r) g T (T - (t + 1))) (n + 1) (w + 1) = some q := by
                cases hb : z_by (z_cur S) p w with
                | none => rw [hb] at hz; exact hz
                | some y =>
                  obtain ⟨y1, y2⟩ := (z_by_iff hw5 hfp).mp hb
                  rw [hx] at y1
                  have e := Option.some.inj y1
                  subst e
                  rw [hb] at hz
                  dsimp only at hz
                  rw [if_neg (fun z => hmg (by rw [z_mgo_iff ha, y2, z.2]; rfl))] at hz
                  exact hz
              refine wa_iload 0 dX3_findPath_40 rfl ?_
              refine wa_if_lt 77 dX3_findPath_42 rfl (fun c42 => absurd c42 (nI_pos (by omega))) (fun c42 => ?_)
              refine wa_aload_n 5 dX3_findPath_45 rfl rfl ?_
              refine wa_getf dX3_findPath_46 gX3_26 hgN rfl ?_
              refine wa_bipush (48) dX3_findPath_49 (by decide) ?_
              refine wa_iload 2 dX3_findPath_51 rfl ?_
              refine wa_iconst (1) dX3_findPath_53 (by decide) ?_
              refine wa_iadd dX3_findPath_54 ?_
              refine wa_imul dX3_findPath_55 ?_
              refine wa_iload 0 dX3_findPath_56 rfl ?_
              refine wa_iadd dX3_findPath_58 ?_
              rw [show nI t + 1 = nI (t + 1) from nI_1 t, z_ixT]
              refine wa_zald dX3_findPath_59 hdaN (vp_in_nI (by omega) (by omega)) ?_
              rw [nI_clamp (by omega)]
              refine wa_if_eq 77 dX3_findPath_60 rfl (fun c60 => ?_) (fun c60 => ?_)
              ·
                exact go hz2 _
              ·
                refine wa_aload_n 5 dX3_findPath_63 rfl rfl ?_
                refine wa_iload_n 6 dX3_findPath_64 rfl rfl ?_
                refine wa_iload 4 dX3_findPath_65 rfl ?_
                refine wa_iload 0 dX3_findPath_67 rfl ?_
                refine wa_iload 2 dX3_findPath_69 rfl ?_
                refine wc_isI (wr_V dX3_findPath_71 mX3_127 (sp_mmayGo HN2 hr hs (by omega) hpp hxs (by omega)) hgN rfl rfl rfl (Nat.le_of_ble_eq_true rfl)) ?_
                rw [if_neg hmg]
                refine wa_if_ne 93 dX3_findPath_74 rfl (fun c74 => absurd rfl c74) (fun c74 => ?_)
                exact go hz2 _
      refine wa_iload 0 dX3_findPath_21 rfl ?_
      refine wa_iload_n 6 dX3_findPath_23 rfl rfl ?_
      refine wa_icmp_ge 129 dX3_findPath_24 rfl (fun c24 => absurd c24 (nI_lt_not (by omega) (by omega))) (fun c24 => ?_)
      refine wa_iconst (0) dX3_findPath_27 (by decide) ?_
      refine wa_istore [(7, _), (6, _), (5, _), (4, _), (0, _), (1, _), (2, _), (3, _)] dX3_findPath_28 (Nat.le_of_ble_eq_true rfl) rfl ?_
      refine wa_aload_n 4 dX3_findPath_30 rfl rfl ?_
      refine wa_iload 3 dX3_findPath_31 rfl ?_
      refine wa_iload 0 dX3_findPath_33 rfl ?_
      refine wc_isI (wr_V dX3_findPath_35 mX3_124 (sp_mbes HN2 hr hs hpp (w := 0) (by decide)) hgN rfl rfl rfl (Nat.le_of_ble_eq_true rfl)) ?_
      refine wa_istore [(8, _), (7, _), (6, _), (5, _), (4, _), (0, _), (1, _), (2, _), (3, _)] dX3_findPath_38 (Nat.le_of_ble_eq_true rfl) rfl ?_
      exact LW 4 0 rfl hnx0
  exact LP T 0 (z_cell r) 0 M4 pa0 (Nat.zero_add _) (decide_eq_true rfl) hg0 w_fr.rf hpa0 rfl (Nat.zero_add _) (fun j q hj => absurd hj (Nat.not_lt_zero _))
end ML
