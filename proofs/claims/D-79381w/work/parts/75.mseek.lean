/-! ===== the Model seeks a plan ===== -/
set_option maxRecDepth 100000
section MS
variable {b : Nat} {M N : w_M} {m : Nat} {S : z_S} {th is rr rc : Int32} {f sv pf ip : Nat → Int32} {l : Launch} {G : w_G} {c : z_C} {k s g H : Nat} {r : z_R}
def z_b1 (x : Bool) : Int32 := if x = true then 1 else 0
theorem z_b1_0 {x : Bool} (h : z_b1 x = 0) : x = false := by cases x; rfl; exact absurd h (by decide)
theorem z_b1_1 {x : Bool} (h : ¬ z_b1 x = 0) : x = true := by cases x; exact absurd rfl h; rfl
theorem z_nar0 : vp_nar .boolean 0 = 0 := by decide
theorem z_nar1 : vp_nar .boolean 1 = 1 := by decide
theorem z_ixT (t p : Nat) : (48 : Int32) * nI t + nI p = nI (48 * t + p) := by rw [show (48 : Int32) * nI t = nI (48 * t) from pk_mul 48 t, nI_add]
/-- the table of where the robot can be: whole up to the tick t, the next layer under way -/
def z_cst (c : z_C) (k s : Nat) (M N : w_M) (m t : Nat) (acc : Nat → Bool) : Prop := ∃ g : Nat → Int32, N.get (m + 5) = some (.inl (.boolean, 1488, .inl g)) ∧ w_fr M N (fun q => q = m + 5) ∧ (∀ u q, u ≤ t → q < z_size c → g (48 * u + q) = z_b1 (z_reach c k s u q)) ∧ (∀ q, q < z_size c → g (48 * (t + 1) + q) = z_b1 (acc q)) ∧ ∀ u q, t + 1 < u → u ≤ 30 → q < 48 → g (48 * u + q) = 0
/-- the finished table -/
def z_ctab (c : z_C) (k s H : Nat) (N : w_M) (m : Nat) : Prop := ∃ g : Nat → Int32, N.get (m + 5) = some (.inl (.boolean, 1488, .inl g)) ∧ ∀ u q, u ≤ H → q < z_size c → g (48 * u + q) = z_b1 (z_reach c k s u q)
theorem z_mh.sub {W : Nat → Prop} (h : z_mh M m f) (hf : w_fr M N W) (h1 : ¬ W m) (h2 : ¬ W (m + 1)) : z_mh N m f := by
  obtain ⟨fs, a1, a2⟩ := h
  exact ⟨fs, hf.2 _ _ a1 h1, hf.2 _ _ a2 h2⟩
theorem sp_mfindComing (h : z_modL b M m S th is rr rc f sv pf ip) (hk : (z_robs (z_cur S))[k]? = some r) : w_S l G tX3_findComing (5, 0, 0) [.ref m, .int (nI k)] M (w_rV (fun N => w_fr M N (fun q => q = m + 5) ∧ z_ctab (z_cur S) k (z_cell r) (z_hor (z_cur S)) N m)) := by
  obtain ⟨hm, hf, -⟩ := id h
  have HM := h.mh
  have hr := h.mr
  have hg := h.gd
  have hs := hg.1
  have hsz := hs.size
  have hR6 : (z_robs (z_cur S)).length ≤ 6 := hs.2.2.2.2.1
  have hkl := (List.getElem?_eq_some_iff.mp hk).1
  have hk6 : k < 6 := by omega
  have ha := hg.2.2.2.2.1
  have hrm := List.mem_of_getElem? hk
  have hss := (hs.2.2.2.2.2.2.1 r hrm).1
  have hfs : z_free (z_cur S) (z_cell r) = true := hg.2.2.2.2.2.1 r hrm 0
  have hsets := hg.2.2.2.1.2.2
  obtain ⟨Hh, hH, hHe⟩ := nI_of (x := z_sets (z_cur S) 2) (Int32.not_lt.mpr (Int32.le_trans (by decide) hsets.1))
  have hHor : z_hor (z_cur S) = Hh := by unfold z_hor; rw [hHe, nI_clamp hH]
  have hH30 : Hh ≤ 30 := by rw [hHe] at hsets; exact (nI_leI (b := 30) hH (by decide)).mp hsets.2
  have hH1 : 1 ≤ Hh := by rw [hHe] at hsets; exact (nI_leI (a := 1) (by decide) hH).mp hsets.1
  have q1 := (hr.rob hk).1
  have h7 : f (Int32.toNatClampNeg 7) = nI Hh := (hr.2.1 2 (by decide)).trans hHe
  rw [hHor]
  obtain ⟨-, ⟨g50, h50⟩, -⟩ := h.2.2.2.2.2.1
  refine w_start (by decide) (Nat.le_of_ble_eq_true rfl) (fun X => ?_)
  refine wa_locals [(0, _), (1, _)] [0, 1] rfl ?_
  have LW : ∀ (t p : Nat) (_ : t < Hh) (hpp : p < z_size (z_cur S)) (K : ∀ N v, z_cst (z_cur S) k (z_cell r) M N m t (z_lay (z_cur S) k (z_cell r) t (p + 1)) → w_A l G tX3_findComing (5, 0, 0) X 0 0 N 127 [(4, .int v), (3, .int (nI p)), (2, .int (nI t)), (0, .ref m), (1, .int (nI k))] [] (w_rV (fun N => w_fr M N (fun q => q = m + 5) ∧ z_ctab (z_cur S) k (z_cell r) Hh N m))),
      ∀ (n w : Nat) (N : w_M), w + n = 5 → z_cst (z_cur S) k (z_cell r) M N m t (fun q => z_lay (z_cur S) k (z_cell r) t p q || (List.range w).any (fun w' => z_step (z_cur S) k t p q w')) → (z_reach (z_cur S) k (z_cell r) t p = true ∨ w = 0) → w_A l G tX3_findComing (5, 0, 0) X 0 0 N 60 [(4, .int (nI w)), (3, .int (nI p)), (2, .int (nI t)), (0, .ref m), (1, .int (nI k))] [] (w_rV (fun N => w_fr M N (fun q => q = m + 5) ∧ z_ctab (z_cur S) k (z_cell r) Hh N m)) := by
    intro t p ht hpp K n
    induction n with
    | zero =>
      intro w N hn hst hre
      have hw : w = 5 := by omega
      subst hw
      have hre := hre.elim id (fun z => absurd z (by decide))
      have hl : z_lay (z_cur S) k (z_cell r) t (p + 1) = (fun q => z_lay (z_cur S) k (z_cell r) t p q || (List.range 5).any (fun w' => z_step (z_cur S) k t p q w')) := by
        funext q
        unfold z_lay
        rw [z_anyS, hre, Bool.true_and]
      refine wa_iload 0 dX3_findComing_60 rfl ?_
      refine wa_iconst (5) dX3_findComing_62 (by decide) ?_
      refine wa_icmp_ge 127 dX3_findComing_63 rfl (fun c63 => ?_) (fun c63 => absurd (by decide) c63)
      exact K N _ (by rw [hl]; exact hst)
    | succ n ih =>
      intro w N hn hst hre0
      obtain ⟨g, hda, hfr, hg1, hg2, hg3⟩ := id hst
      have hgN := hfr.2 _ _ hm (by omega)
      have HN := HM.sub hfr (by omega) (by omega)
      have hcg : g (48 * t + p) = z_b1 (z_reach (z_cur S) k (z_cell r) t p) := hg1 t p (Nat.le_refl _) hpp
      cases hre : z_reach (z_cur S) k (z_cell r) t p with
      | false =>
        have hw0 : w = 0 := hre0.elim (fun z => by rw [hre] at z; cases z) id
        subst hw0
        rw [hre] at hcg
        have hl : z_lay (z_cur S) k (z_cell r) t (p + 1) = (fun q => z_lay (z_cur S) k (z_cell r) t p q || (List.range 0).any (fun w' => z_step (z_cur S) k t p q w')) := by
          funext q
          unfold z_lay
          rw [z_anyS, hre, Bool.false_and, z_any0]
        refine wa_iload 0 dX3_findComing_60 rfl ?_
        refine wa_iconst (5) dX3_findComing_62 (by decide) ?_
        refine wa_icmp_ge 127 dX3_findComing_63 rfl (fun c63 => absurd c63 (by decide)) (fun c63 => ?_)
        refine wa_aload_n 3 dX3_findComing_66 rfl rfl ?_
        refine wa_getf dX3_findComing_67 gX3_22 hgN rfl ?_
        refine wa_bipush (48) dX3_findComing_70 (by decide) ?_
        refine wa_iload_n 2 dX3_findComing_72 rfl rfl ?_
        refine wa_imul dX3_findComing_73 ?_
        refine wa_iload_n 1 dX3_findComing_74 rfl rfl ?_
        refine wa_iadd dX3_findComing_75 ?_
        rw [z_ixT]
        refine wa_zald dX3_findComing_76 hda (vp_in_nI (by omega) (by omega)) ?_
        rw [nI_clamp (by omega), hcg]
        refine wa_if_eq 127 dX3_findComing_77 rfl (fun c77 => ?_) (fun c77 => absurd rfl c77)
        exact K N _ (by rw [hl]; exact hst)
      | true =>
        rw [hre] at hcg
        have hfp := z_reach_free hfs t p hre
        have hxm := z_enc_neg (g := z_bes (z_cur S) p w) (fun x e => by have := z_bes_lt hs hpp e; omega)
        have skip : (∀ q, z_step (z_cur S) k t p q w = false) → w_A l G tX3_findComing (5, 0, 0) X 0 0 N 60 [(4, .int (nI (w + 1))), (3, .int (nI p)), (2, .int (nI t)), (0, .ref m), (1, .int (nI k))] [] (w_rV (fun N => w_fr M N (fun q => q = m + 5) ∧ z_ctab (z_cur S) k (z_cell r) Hh N m)) := fun hz => ih (w + 1) N (by omega) ⟨g, hda, hfr, hg1, fun q hq => by
          rw [hg2 q hq]
          dsimp only
          rw [z_anyS, hz q, Bool.or_false], hg3⟩ (Or.inl hre)
        refine wa_iload 0 dX3_findComing_60 rfl ?_
        refine wa_iconst (5) dX3_findComing_62 (by decide) ?_
        refine wa_icmp_ge 127 dX3_findComing_63 rfl (fun c63 => absurd c63 (nI_lt_not (b := 5) (by omega) (by decide))) (fun c63 => ?_)
        refine wa_aload_n 3 dX3_findComing_66 rfl rfl ?_
        refine wa_getf dX3_findComing_67 gX3_22 hgN rfl ?_
        refine wa_bipush (48) dX3_findComing_70 (by decide) ?_
        refine wa_iload_n 2 dX3_findComing_72 rfl rfl ?_
        refine wa_imul dX3_findComing_73 ?_
        refine wa_iload_n 1 dX3_findComing_74 rfl rfl ?_
        refine wa_iadd dX3_findComing_75 ?_
        rw [z_ixT]
        refine wa_zald dX3_findComing_76 hda (vp_in_nI (by omega) (by omega)) ?_
        rw [nI_clamp (by omega), hcg]
        refine wa_if_eq 127 dX3_findComing_77 rfl (fun c77 => absurd c77 (by decide)) (fun c77 => ?_)
        refine wa_aload_n 3 dX3_findComing_80 rfl rfl ?_
        refine wa_iload_n 1 dX3_findComing_81 rfl rfl ?_
        refine wa_iload 0 dX3_findComing_82 rfl ?_
        refine wc_isI (wr_V dX3_findComing_84 mX3_124 (sp_mbes HN hr hs hpp (by omega)) hgN rfl rfl rfl (Nat.le_of_ble_eq_true rfl)) ?_
        refine wa_istore [(5, _), (4, _), (3, _), (2, _), (0, _), (1, _)] dX3_findComing_87 (Nat.le_of_ble_eq_true rfl) rfl ?_
        refine wa_iload 0 dX3_findComing_89 rfl ?_
        refine wa_if_lt 121 dX3_findComing_91 rfl (fun c91 => ?_) (fun c91 => ?_)
        ·
          refine wa_iinc 1 [(4, _), (5, _), (3, _), (2, _), (0, _), (1, _)] dX3_findComing_121 rfl (w_inc w) (Nat.le_of_ble_eq_true rfl) rfl ?_
          refine wa_goto 60 dX3_findComing_124 rfl ?_
          refine wa_locals [(4, _), (3, _), (2, _), (0, _), (1, _)] [0, 2, 3, 4, 5] rfl ?_
          exact skip (fun q => Bool.eq_false_iff.mpr (fun z => by
            have := ((z_step_iff ha (by omega) hfp).mp z).1
            rw [hxm.mp c91] at this
            cases this))
        ·
          obtain ⟨x, hx⟩ := z_some_of_not_neg (fun x e => by have := z_bes_lt hs hpp e; omega) c91
          have hxs := z_bes_lt hs hpp hx
          rw [hx]
          rw [show z_enc (some x) = nI x from rfl]
          refine wa_aload_n 4 dX3_findComing_94 rfl rfl ?_
          refine wa_iload_n 5 dX3_findComing_95 rfl rfl ?_
          refine wa_iload_n 2 dX3_findComing_96 rfl rfl ?_
          refine wa_iload 0 dX3_findComing_97 rfl ?_
          refine wa_iload_n 3 dX3_findComing_99 rfl rfl ?_
          refine wc_isI (wr_V dX3_findComing_100 mX3_127 (sp_mmayGo HN hr hs (by omega) hpp hxs (by omega)) hgN rfl rfl rfl (Nat.le_of_ble_eq_true rfl)) ?_
          refine wa_if_eq 121 dX3_findComing_103 rfl (fun c103 => ?_) (fun c103 => ?_)
          ·
            refine wa_iinc 1 [(4, _), (5, _), (3, _), (2, _), (0, _), (1, _)] dX3_findComing_121 rfl (w_inc w) (Nat.le_of_ble_eq_true rfl) rfl ?_
            refine wa_goto 60 dX3_findComing_124 rfl ?_
            refine wa_locals [(4, _), (3, _), (2, _), (0, _), (1, _)] [0, 2, 3, 4, 5] rfl ?_
            exact skip (fun q => Bool.eq_false_iff.mpr (fun z => by
              obtain ⟨z1, z2⟩ := (z_step_iff ha (by omega) hfp).mp z
              rw [hx] at z1
              cases z1
              exact z_if1.mp c103 z2))
          ·
            refine wa_aload_n 4 dX3_findComing_106 rfl rfl ?_
            refine wa_getf dX3_findComing_107 gX3_22 hgN rfl ?_
            refine wa_bipush (48) dX3_findComing_110 (by decide) ?_
            refine wa_iload_n 3 dX3_findComing_112 rfl rfl ?_
            refine wa_iconst (1) dX3_findComing_113 (by decide) ?_
            refine wa_iadd dX3_findComing_114 ?_
            refine wa_imul dX3_findComing_115 ?_
            refine wa_iload 0 dX3_findComing_116 rfl ?_
            refine wa_iadd dX3_findComing_118 ?_
            refine wa_iconst (1) dX3_findComing_119 (by decide) ?_
            rw [show nI t + 1 = nI (t + 1) from nI_1 t, z_ixT]
            refine wa_zast dX3_findComing_120 hda (vp_in_nI (by omega) (by omega)) ?_
            rw [nI_clamp (by omega), z_nar1]
            refine wa_iinc 1 [(4, _), (5, _), (3, _), (2, _), (0, _), (1, _)] dX3_findComing_121 rfl (w_inc w) (Nat.le_of_ble_eq_true rfl) rfl ?_
            refine wa_goto 60 dX3_findComing_124 rfl ?_
            refine wa_locals [(4, _), (3, _), (2, _), (0, _), (1, _)] [0, 2, 3, 4, 5] rfl ?_
            have hgo : z_mgo (z_cur S) k p x t = true := z_y c103
            refine ih (w + 1) _ (by omega) ⟨upd g (48 * (t + 1) + x) 1, w_set_self hda, hfr.me, fun u q hu hq => (if_neg (by omega)).trans (hg1 u q hu hq), fun q hq => ?_, fun u q h1 h2 h3 => (if_neg (by omega)).trans (hg3 u q h1 h2 h3)⟩ (Or.inl hre)
            dsimp only
            rw [z_anyS]
            by_cases e : q = x
            · subst e
              have hs1 : z_step (z_cur S) k t p q w = true := (z_step_iff ha (by omega) hfp).mpr ⟨hx, hgo⟩
              rw [show upd g (48 * (t + 1) + q) 1 (48 * (t + 1) + q) = 1 from if_pos rfl, hs1]
              simp [z_b1]
            · have hs0 : z_step (z_cur S) k t p q w = false := Bool.eq_false_iff.mpr (fun z => by
                have := ((z_step_iff ha (by omega) hfp).mp z).1
                rw [hx] at this
                exact e (Option.some.inj this).symm)
              rw [show upd g (48 * (t + 1) + x) 1 (48 * (t + 1) + q) = g (48 * (t + 1) + q) from if_neg (by omega), hg2 q hq, hs0, Bool.or_false]
  have LP : ∀ (t : Nat) (_ : t < Hh) (K : ∀ N, z_cst (z_cur S) k (z_cell r) M N m t (fun q => z_reach (z_cur S) k (z_cell r) (t + 1) q) → ∀ v, w_A l G tX3_findComing (5, 0, 0) X 0 0 N 133 [(3, .int v), (2, .int (nI t)), (0, .ref m), (1, .int (nI k))] [] (w_rV (fun N => w_fr M N (fun q => q = m + 5) ∧ z_ctab (z_cur S) k (z_cell r) Hh N m))) (n p : Nat) (N : w_M), p + n = z_size (z_cur S) → z_cst (z_cur S) k (z_cell r) M N m t (z_lay (z_cur S) k (z_cell r) t p) → w_A l G tX3_findComing (5, 0, 0) X 0 0 N 49 [(3, .int (nI p)), (2, .int (nI t)), (0, .ref m), (1, .int (nI k))] [] (w_rV (fun N => w_fr M N (fun q => q = m + 5) ∧ z_ctab (z_cur S) k (z_cell r) Hh N m)) := by
    intro t ht K n
    induction n with
    | zero =>
      intro p N hn hst
      have hp : p = z_size (z_cur S) := by omega
      subst hp
      obtain ⟨g, hda, hfr, hg1, hg2, hg3⟩ := id hst
      have hgN := hfr.2 _ _ hm (by omega)
      have HN := HM.sub hfr (by omega) (by omega)
      refine wa_iload_n 0 dX3_findComing_49 rfl rfl ?_
      refine wa_aload_n 2 dX3_findComing_50 rfl rfl ?_
      refine wc_isI (wr_V dX3_findComing_51 mX3_67 (sp_mcells HN hr) hgN rfl rfl rfl (Nat.le_of_ble_eq_true rfl)) ?_
      refine wa_icmp_ge 133 dX3_findComing_54 rfl (fun c54 => ?_) (fun c54 => absurd (nI_le (by omega) (by omega)) c54)
      exact K N hst _
    | succ n ih =>
      intro p N hn hst
      obtain ⟨g, hda, hfr, hg1, hg2, hg3⟩ := id hst
      have hgN := hfr.2 _ _ hm (by omega)
      have HN := HM.sub hfr (by omega) (by omega)
      refine wa_iload_n 0 dX3_findComing_49 rfl rfl ?_
      refine wa_aload_n 2 dX3_findComing_50 rfl rfl ?_
      refine wc_isI (wr_V dX3_findComing_51 mX3_67 (sp_mcells HN hr) hgN rfl rfl rfl (Nat.le_of_ble_eq_true rfl)) ?_
      refine wa_icmp_ge 133 dX3_findComing_54 rfl (fun c54 => absurd c54 (nI_lt_not (by omega) (by omega))) (fun c54 => ?_)
      refine wa_iconst (0) dX3_findComing_57 (by decide) ?_
      refine wa_istore [(4, _), (3, _), (2, _), (0, _), (1, _)] dX3_findComing_58 (Nat.le_of_ble_eq_true rfl) rfl ?_
      refine LW t p ht (by omega) (fun N2 v hst2 => ?_) 5 0 N rfl ?_ (Or.inr rfl)
      refine wa_iinc 1 [(3, _), (4, _), (2, _), (0, _), (1, _)] dX3_findComing_127 rfl (w_inc p) (Nat.le_of_ble_eq_true rfl) rfl ?_
      refine wa_goto 49 dX3_findComing_130 rfl ?_
      refine wa_locals [(3, _), (2, _), (0, _), (1, _)] [0, 2, 3, 4] rfl ?_
      exact ih (p + 1) N2 (by omega) hst2
      obtain ⟨g, a1, a2, a3, a4, a5⟩ := hst
      exact ⟨g, a1, a2, a3, fun q hq => by dsimp only; rw [a4 q hq, z_any0, Bool.or_false], a5⟩
  have LT : ∀ (n t : Nat) (N : w_M), t + n = Hh → (∃ g : Nat → Int32, N.get (m + 5) = some (.inl (.boolean, 1488, .inl g)) ∧ w_fr M N (fun q => q = m + 5) ∧ (∀ u q, u ≤ t → q < z_size (z_cur S) → g (48 * u + q) = z_b1 (z_reach (z_cur S) k (z_cell r) u q)) ∧ ∀ u q, t < u → u ≤ 30 → q < 48 → g (48 * u + q) = 0) → w_A l G tX3_findComing (5, 0, 0) X 0 0 N 36 [(2, .int (nI t)), (0, .ref m), (1, .int (nI k))] [] (w_rV (fun N => w_fr M N (fun q => q = m + 5) ∧ z_ctab (z_cur S) k (z_cell r) Hh N m)) := by
    intro n
    induction n with
    | zero =>
      intro t N hn hst
      have ht : t = Hh := by omega
      subst ht
      obtain ⟨g, hda, hfr, hg1, hg2⟩ := hst
      have hgN := hfr.2 _ _ hm (by omega)
      have hfN := hfr.2 _ _ hf (by omega)
      refine wa_iload_n 0 dX3_findComing_36 rfl rfl ?_
      refine wa_aload_n 1 dX3_findComing_37 rfl rfl ?_
      refine wa_getf dX3_findComing_38 gX3_9 hgN rfl ?_
      refine wa_bipush (7) dX3_findComing_41 (by decide) ?_
      refine wa_iald dX3_findComing_43 hfN (vp_in_nI (n := 7) (by omega) (by omega)) ?_
      rw [h7]
      refine wa_icmp_ge 139 dX3_findComing_44 rfl (fun c44 => ?_) (fun c44 => absurd (nI_le (by omega) (by omega)) c44)
      refine wa_vret dX3_findComing_139 rfl (Nat.le_of_ble_eq_true rfl) (Nat.le_of_ble_eq_true rfl) ?_
      exact ⟨rfl, hfr, g, hda, hg1⟩
    | succ n ih =>
      intro t N hn hst
      obtain ⟨g, hda, hfr, hg1, hg2⟩ := hst
      have hgN := hfr.2 _ _ hm (by omega)
      have hfN := hfr.2 _ _ hf (by omega)
      refine wa_iload_n 0 dX3_findComing_36 rfl rfl ?_
      refine wa_aload_n 1 dX3_findComing_37 rfl rfl ?_
      refine wa_getf dX3_findComing_38 gX3_9 hgN rfl ?_
      refine wa_bipush (7) dX3_findComing_41 (by decide) ?_
      refine wa_iald dX3_findComing_43 hfN (vp_in_nI (n := 7) (by omega) (by omega)) ?_
      rw [h7]
      refine wa_icmp_ge 139 dX3_findComing_44 rfl (fun c44 => absurd c44 (nI_lt_not (by omega) (by omega))) (fun c44 => ?_)
      refine wa_iconst (0) dX3_findComing_47 (by decide) ?_
      refine wa_istore_n [(3, _), (2, _), (0, _), (1, _)] dX3_findComing_48 rfl (Nat.le_of_ble_eq_true rfl) rfl ?_
      refine wa_locals [(3, _), (2, _), (0, _), (1, _)] [0, 1, 2, 3] rfl ?_
      refine LP t (by omega) (fun N2 hst2 v => ?_) (z_size (z_cur S)) 0 N (Nat.zero_add _) ⟨g, hda, hfr, hg1, fun q hq => by rw [hg2 (t + 1) q (by omega) (by omega) (by omega)]; rfl, fun u q h1 h2 h3 => hg2 u q (by omega) h2 h3⟩
      refine wa_iinc 1 [(2, _), (3, _), (0, _), (1, _)] dX3_findComing_133 rfl (w_inc t) (Nat.le_of_ble_eq_true rfl) rfl ?_
      refine wa_goto 36 dX3_findComing_136 rfl ?_
      refine wa_locals [(2, _), (0, _), (1, _)] [0, 2, 3] rfl ?_
      obtain ⟨g2, a1, a2, a3, a4, a5⟩ := hst2
      refine ih (t + 1) N2 (by omega) ⟨g2, a1, a2, fun u q hu hq => ?_, fun u q h1 h2 h3 => a5 u q h1 h2 h3⟩
      by_cases e : u = t + 1
      · rw [e]; exact a4 q hq
      · exact a3 u q (by omega) hq
  have LI : ∀ (n i : Nat) (N : w_M) (g : Nat → Int32), i + n = 1488 → N.get (m + 5) = some (.inl (.boolean, 1488, .inl g)) → w_fr M N (fun q => q = m + 5) → (∀ y, y < i → g y = 0) → w_A l G tX3_findComing (5, 0, 0) X 0 0 N 2 [(2, .int (nI i)), (0, .ref m), (1, .int (nI k))] [] (w_rV (fun N => w_fr M N (fun q => q = m + 5) ∧ z_ctab (z_cur S) k (z_cell r) Hh N m)) := by
    intro n
    induction n with
    | zero =>
      intro i N g hn hda hfr hz
      have hi : i = 1488 := by omega
      subst hi
      have hgN := hfr.2 _ _ hm (by omega)
      have HN := HM.sub hfr (by omega) (by omega)
      refine wa_iload_n 0 dX3_findComing_2 rfl rfl ?_
      refine wa_sipush (1488) dX3_findComing_3 (by decide) ?_
      refine wa_icmp_ge 22 dX3_findComing_6 rfl (fun c6 => ?_) (fun c6 => absurd (by decide) c6)
      refine wa_aload_n 1 dX3_findComing_22 rfl rfl ?_
      refine wa_getf dX3_findComing_23 gX3_22 hgN rfl ?_
      refine wa_aload_n 1 dX3_findComing_26 rfl rfl ?_
      refine wa_iload_n 2 dX3_findComing_27 rfl rfl ?_
      refine wa_iconst (0) dX3_findComing_28 (by decide) ?_
      refine wc_isI (wr_V dX3_findComing_29 mX3_79 (sp_mof HN hk6 (w := 0) (by decide)) hgN rfl rfl rfl (Nat.le_of_ble_eq_true rfl)) ?_
      rw [show f (104 + 36 * k + 0) = nI (z_cell r) from q1]
      refine wa_iconst (1) dX3_findComing_32 (by decide) ?_
      refine wa_zast dX3_findComing_33 hda (vp_in_nI (by omega) (by omega)) ?_
      rw [nI_clamp (by omega), z_nar1]
      refine wa_iconst (0) dX3_findComing_34 (by decide) ?_
      refine wa_istore_n [(2, _), (0, _), (1, _)] dX3_findComing_35 rfl (Nat.le_of_ble_eq_true rfl) rfl ?_
      refine wa_locals [(2, _), (0, _), (1, _)] [0, 1, 2] rfl ?_
      refine LT Hh 0 _ (Nat.zero_add _) ⟨_, w_set_self hda, hfr.me, fun u q hu hq => ?_, fun u q h1 h2 h3 => (if_neg (by omega)).trans (hz _ (by omega))⟩
      have hu0 : u = 0 := by omega
      subst hu0
      rw [show 48 * 0 + q = q by omega]
      show (if q = z_cell r then (1 : Int32) else g q) = z_b1 (decide (q = z_cell r))
      by_cases e : q = z_cell r
      · rw [if_pos e, decide_eq_true e]; rfl
      · rw [if_neg e, decide_eq_false e]; exact hz q (by omega)
    | succ n ih =>
      intro i N g hn hda hfr hz
      have hgN := hfr.2 _ _ hm (by omega)
      refine wa_iload_n 0 dX3_findComing_2 rfl rfl ?_
      refine wa_sipush (1488) dX3_findComing_3 (by decide) ?_
      refine wa_icmp_ge 22 dX3_findComing_6 rfl (fun c6 => absurd c6 (nI_lt_not (b := 1488) (by omega) (by decide))) (fun c6 => ?_)
      refine wa_aload_n 1 dX3_findComing_9 rfl rfl ?_
      refine wa_getf dX3_findComing_10 gX3_22 hgN rfl ?_
      refine wa_iload_n 0 dX3_findComing_13 rfl rfl ?_
      refine wa_iconst (0) dX3_findComing_14 (by decide) ?_
      refine wa_zast dX3_findComing_15 hda (vp_in_nI (by omega) (by omega)) ?_
      rw [nI_clamp (by omega), z_nar0]
      refine wa_iinc 0 [(2, _), (0, _), (1, _)] dX3_findComing_16 rfl (w_inc i) (Nat.le_of_ble_eq_true rfl) rfl ?_
      refine wa_goto 2 dX3_findComing_19 rfl ?_
      refine wa_locals [(2, _), (0, _), (1, _)] [0, 1, 2] rfl ?_
      refine ih (i + 1) _ _ (by omega) (w_set_self hda) hfr.me (fun y hy => ?_)
      by_cases e : y = i
      · exact if_pos e
      · exact (if_neg e).trans (hz y (by omega))
  refine wa_iconst (0) dX3_findComing_0 (by decide) ?_
  refine wa_istore_n [(2, _), (0, _), (1, _)] dX3_findComing_1 rfl (Nat.le_of_ble_eq_true rfl) rfl ?_
  refine wa_locals [(2, _), (0, _), (1, _)] [0, 1, 2] rfl ?_
  exact LI 1488 0 M g50 (Nat.zero_add _) h50 w_fr.rf (fun y hy => absurd hy (Nat.not_lt_zero _))
theorem sp_mcanEnd (h : z_modL b M m S th is rr rc f sv pf ip) (hk : (z_robs (z_cur S))[k]? = some r) (hc : z_ctab (z_cur S) k (z_cell r) (z_hor (z_cur S)) M m) {t : Nat} (ht : t < z_hor (z_cur S)) (hgs : g < z_size (z_cur S)) : w_S l G tX3_canEnd (5, 0, 0) [.ref m, .int (nI k), .int (nI g), .int (nI (t + 1))] M (w_is (.inl (some (.int (z_b1 (z_hasEnd (z_cur S) k (z_cell r) g t))))) M) := by
  obtain ⟨hm, hf, -⟩ := id h
  have HM := h.mh
  have hr := h.mr
  have hg := h.gd
  have hs := hg.1
  have hsz := hs.size
  have hR6 : (z_robs (z_cur S)).length ≤ 6 := hs.2.2.2.2.1
  have hkl := (List.getElem?_eq_some_iff.mp hk).1
  have hk6 : k < 6 := by omega
  have ha := hg.2.2.2.2.1
  have hrm := List.mem_of_getElem? hk
  have hss := (hs.2.2.2.2.2.2.1 r hrm).1
  have hfs : z_free (z_cur S) (z_cell r) = true := hg.2.2.2.2.2.1 r hrm 0
  have hsets := hg.2.2.2.1.2.2
  obtain ⟨Hh, hH, hHe⟩ := nI_of (x := z_sets (z_cur S) 2) (Int32.not_lt.mpr (Int32.le_trans (by decide) hsets.1))
  have hHor : z_hor (z_cur S) = Hh := by unfold z_hor; rw [hHe, nI_clamp hH]
  have hH30 : Hh ≤ 30 := by rw [hHe] at hsets; exact (nI_leI (b := 30) hH (by decide)).mp hsets.2
  have hH1 : 1 ≤ Hh := by rw [hHe] at hsets; exact (nI_leI (a := 1) (by decide) hH).mp hsets.1
  have q1 := (hr.rob hk).1
  have h7 : f (Int32.toNatClampNeg 7) = nI Hh := (hr.2.1 2 (by decide)).trans hHe
  rw [hHor] at hc ht
  obtain ⟨gg, hda, hgt⟩ := hc
  have e1 : nI (t + 1) - 1 = nI t := pk_sub (a := t + 1) (b := 1) (by omega)
  rw [z_hasEnd_m hs ha hkl hfs hgs hss (by omega)]
  refine w_start (by decide) (Nat.le_of_ble_eq_true rfl) (fun X => ?_)
  refine wa_locals [(0, _), (1, _), (2, _), (3, _)] [0, 1, 2, 3] rfl ?_
  have LP : ∀ (n w : Nat), w + n = 4 → w_A l G tX3_canEnd (5, 0, 0) X 0 0 M 6 [(5, .int (nI w)), (4, .int (z_b1 (z_canW (z_cur S) k (z_cell r) g t w))), (0, .ref m), (1, .int (nI k)), (2, .int (nI g)), (3, .int (nI (t + 1)))] [] (w_is (.inl (some (.int (z_b1 (z_canW (z_cur S) k (z_cell r) g t 4 && decide (z_wil (z_cur S) g (t + 2) (nI k) = none)))))) M) := by
    intro n
    induction n with
    | zero =>
      intro w hn
      have hw : w = 4 := by omega
      subst hw
      have hwm := z_enc_neg (g := z_wil (z_cur S) g (t + 2) (nI k)) (fun x e => by have := (z_wFrom_lt _ _ _ e).2; omega)
      cases hcw : z_canW (z_cur S) k (z_cell r) g t 4 with
      | false =>
        refine wa_iload 0 dX3_canEnd_6 rfl ?_
        refine wa_iconst (4) dX3_canEnd_8 (by decide) ?_
        refine wa_icmp_ge 75 dX3_canEnd_9 rfl (fun c9 => ?_) (fun c9 => absurd (by decide) c9)
        refine wa_iload 1 dX3_canEnd_75 rfl ?_
        refine wa_if_eq 96 dX3_canEnd_77 rfl (fun c77 => ?_) (fun c77 => absurd rfl c77)
        refine wa_iconst (0) dX3_canEnd_96 (by decide) ?_
        refine wa_iret FieldType.boolean dX3_canEnd_97 rfl rfl (Nat.le_of_ble_eq_true rfl) (Nat.le_of_ble_eq_true rfl) ?_
        exact ⟨rfl, rfl⟩
      | true =>
        refine wa_iload 0 dX3_canEnd_6 rfl ?_
        refine wa_iconst (4) dX3_canEnd_8 (by decide) ?_
        refine wa_icmp_ge 75 dX3_canEnd_9 rfl (fun c9 => ?_) (fun c9 => absurd (by decide) c9)
        refine wa_iload 1 dX3_canEnd_75 rfl ?_
        refine wa_if_eq 96 dX3_canEnd_77 rfl (fun c77 => absurd c77 (by decide)) (fun c77 => ?_)
        refine wa_aload_n 2 dX3_canEnd_80 rfl rfl ?_
        refine wa_iload_n 4 dX3_canEnd_81 rfl rfl ?_
        refine wa_iload_n 5 dX3_canEnd_82 rfl rfl ?_
        refine wa_iconst (1) dX3_canEnd_83 (by decide) ?_
        refine wa_iadd dX3_canEnd_84 ?_
        refine wa_iload_n 3 dX3_canEnd_85 rfl rfl ?_
        rw [show nI (t + 1) + 1 = nI (t + 2) from nI_1 (t + 1)]
        refine wc_isI (wr_V dX3_canEnd_86 mX3_96 (sp_mwillBe HM hr hs (t := t + 2) (by omega) (by omega)) hm rfl rfl rfl (Nat.le_of_ble_eq_true rfl)) ?_
        refine wa_if_ge 96 dX3_canEnd_89 rfl (fun c89 => ?_) (fun c89 => ?_)
        ·
          refine wa_iconst (0) dX3_canEnd_96 (by decide) ?_
          refine wa_iret FieldType.boolean dX3_canEnd_97 rfl rfl (Nat.le_of_ble_eq_true rfl) (Nat.le_of_ble_eq_true rfl) ?_
          exact ⟨by rw [decide_eq_false (fun z => absurd (hwm.mpr z) (Int32.not_lt.mpr c89))]; rfl, rfl⟩
        ·
          refine wa_iconst (1) dX3_canEnd_92 (by decide) ?_
          refine wa_goto 97 dX3_canEnd_93 rfl ?_
          refine wa_iret FieldType.boolean dX3_canEnd_97 rfl rfl (Nat.le_of_ble_eq_true rfl) (Nat.le_of_ble_eq_true rfl) ?_
          exact ⟨by rw [decide_eq_true (hwm.mp (Int32.not_le.mp c89))]; rfl, rfl⟩
    | succ n ih =>
      intro w hn
      have hxm := z_enc_neg (g := z_bes (z_cur S) g w) (fun x e => by have := z_bes_lt hs hgs e; omega)
      have ih := ih (w + 1) (by omega)
      rw [z_canW] at ih
      refine wa_iload 0 dX3_canEnd_6 rfl ?_
      refine wa_iconst (4) dX3_canEnd_8 (by decide) ?_
      refine wa_icmp_ge 75 dX3_canEnd_9 rfl (fun c9 => absurd c9 (nI_lt_not (b := 4) (by omega) (by decide))) (fun c9 => ?_)
      refine wa_aload_n 2 dX3_canEnd_12 rfl rfl ?_
      refine wa_iload_n 4 dX3_canEnd_13 rfl rfl ?_
      refine wa_iload 0 dX3_canEnd_14 rfl ?_
      refine wc_isI (wr_V dX3_canEnd_16 mX3_124 (sp_mbes HM hr hs hgs (by omega)) hm rfl rfl rfl (Nat.le_of_ble_eq_true rfl)) ?_
      refine wa_istore [(6, _), (5, _), (4, _), (0, _), (1, _), (2, _), (3, _)] dX3_canEnd_19 (Nat.le_of_ble_eq_true rfl) rfl ?_
      refine wa_iload 2 dX3_canEnd_21 rfl ?_
      refine wa_if_ne 62 dX3_canEnd_23 rfl (fun c23 => ?_) (fun c23 => ?_)
      ·
        refine wa_iconst (1) dX3_canEnd_62 (by decide) ?_
        refine wa_goto 67 dX3_canEnd_63 rfl ?_
        refine wa_istore [(4, _), (6, _), (5, _), (0, _), (1, _), (2, _), (3, _)] dX3_canEnd_67 (Nat.le_of_ble_eq_true rfl) rfl ?_
        refine wa_iinc 2 [(5, _), (4, _), (6, _), (0, _), (1, _), (2, _), (3, _)] dX3_canEnd_69 rfl (w_inc w) (Nat.le_of_ble_eq_true rfl) rfl ?_
        refine wa_goto 6 dX3_canEnd_72 rfl ?_
        refine wa_locals [(5, _), (4, _), (0, _), (1, _), (2, _), (3, _)] [0, 1, 3, 4, 5, 6] rfl ?_
        rw [z_b1_1 c23, Bool.true_or] at ih
        exact ih
      ·
        refine wa_iload 0 dX3_canEnd_26 rfl ?_
        refine wa_if_lt 66 dX3_canEnd_28 rfl (fun c28 => ?_) (fun c28 => ?_)
        ·
          refine wa_iconst (0) dX3_canEnd_66 (by decide) ?_
          refine wa_istore [(4, _), (6, _), (5, _), (0, _), (1, _), (2, _), (3, _)] dX3_canEnd_67 (Nat.le_of_ble_eq_true rfl) rfl ?_
          refine wa_iinc 2 [(5, _), (4, _), (6, _), (0, _), (1, _), (2, _), (3, _)] dX3_canEnd_69 rfl (w_inc w) (Nat.le_of_ble_eq_true rfl) rfl ?_
          refine wa_goto 6 dX3_canEnd_72 rfl ?_
          refine wa_locals [(5, _), (4, _), (0, _), (1, _), (2, _), (3, _)] [0, 1, 3, 4, 5, 6] rfl ?_
          rw [z_b1_0 c23, Bool.false_or] at ih
          rw [hxm.mp c28] at ih
          exact ih
        ·
          obtain ⟨x, hx⟩ := z_some_of_not_neg (fun x e => by have := z_bes_lt hs hgs e; omega) c28
          have hxs := z_bes_lt hs hgs hx
          rw [hx] at ih
          dsimp only at ih
          rw [hx]
          rw [show z_enc (some x) = nI x from rfl]
          refine wa_aload_n 3 dX3_canEnd_31 rfl rfl ?_
          refine wa_getf dX3_canEnd_32 gX3_22 hm rfl ?_
          refine wa_bipush (48) dX3_canEnd_35 (by decide) ?_
          refine wa_iload_n 6 dX3_canEnd_37 rfl rfl ?_
          refine wa_iconst (1) dX3_canEnd_38 (by decide) ?_
          refine wa_isub dX3_canEnd_39 ?_
          refine wa_imul dX3_canEnd_40 ?_
          refine wa_iload 0 dX3_canEnd_41 rfl ?_
          refine wa_iadd dX3_canEnd_43 ?_
          rw [e1, z_ixT]
          refine wa_zald dX3_canEnd_44 hda (vp_in_nI (by omega) (by omega)) ?_
          rw [nI_clamp (by omega), hgt t x (by omega) hxs]
          refine wa_if_eq 66 dX3_canEnd_45 rfl (fun c45 => ?_) (fun c45 => ?_)
          ·
            refine wa_iconst (0) dX3_canEnd_66 (by decide) ?_
            refine wa_istore [(4, _), (6, _), (5, _), (0, _), (1, _), (2, _), (3, _)] dX3_canEnd_67 (Nat.le_of_ble_eq_true rfl) rfl ?_
            refine wa_iinc 2 [(5, _), (4, _), (6, _), (0, _), (1, _), (2, _), (3, _)] dX3_canEnd_69 rfl (w_inc w) (Nat.le_of_ble_eq_true rfl) rfl ?_
            refine wa_goto 6 dX3_canEnd_72 rfl ?_
            refine wa_locals [(5, _), (4, _), (0, _), (1, _), (2, _), (3, _)] [0, 1, 3, 4, 5, 6] rfl ?_
            rw [z_b1_0 c23, Bool.false_or] at ih
            rw [z_b1_0 c45, Bool.false_and] at ih
            exact ih
          ·
            refine wa_aload_n 3 dX3_canEnd_48 rfl rfl ?_
            refine wa_iload_n 4 dX3_canEnd_49 rfl rfl ?_
            refine wa_iload 0 dX3_canEnd_50 rfl ?_
            refine wa_iload_n 5 dX3_canEnd_52 rfl rfl ?_
            refine wa_iload_n 6 dX3_canEnd_53 rfl rfl ?_
            refine wa_iconst (1) dX3_canEnd_54 (by decide) ?_
            refine wa_isub dX3_canEnd_55 ?_
            rw [e1]
            refine wc_isI (wr_V dX3_canEnd_56 mX3_127 (sp_mmayGo HM hr hs (by omega) hxs hgs (by omega)) hm rfl rfl rfl (Nat.le_of_ble_eq_true rfl)) ?_
            refine wa_if_eq 66 dX3_canEnd_59 rfl (fun c59 => ?_) (fun c59 => ?_)
            ·
              refine wa_iconst (0) dX3_canEnd_66 (by decide) ?_
              refine wa_istore [(4, _), (6, _), (5, _), (0, _), (1, _), (2, _), (3, _)] dX3_canEnd_67 (Nat.le_of_ble_eq_true rfl) rfl ?_
              refine wa_iinc 2 [(5, _), (4, _), (6, _), (0, _), (1, _), (2, _), (3, _)] dX3_canEnd_69 rfl (w_inc w) (Nat.le_of_ble_eq_true rfl) rfl ?_
              refine wa_goto 6 dX3_canEnd_72 rfl ?_
              refine wa_locals [(5, _), (4, _), (0, _), (1, _), (2, _), (3, _)] [0, 1, 3, 4, 5, 6] rfl ?_
              rw [z_b1_0 c23, Bool.false_or] at ih
              rw [z_b1_1 c45, Bool.true_and] at ih
              rw [Bool.eq_false_iff.mpr (z_if1.mp c59)] at ih
              exact ih
            ·
              refine wa_iconst (1) dX3_canEnd_62 (by decide) ?_
              refine wa_goto 67 dX3_canEnd_63 rfl ?_
              refine wa_istore [(4, _), (6, _), (5, _), (0, _), (1, _), (2, _), (3, _)] dX3_canEnd_67 (Nat.le_of_ble_eq_true rfl) rfl ?_
              refine wa_iinc 2 [(5, _), (4, _), (6, _), (0, _), (1, _), (2, _), (3, _)] dX3_canEnd_69 rfl (w_inc w) (Nat.le_of_ble_eq_true rfl) rfl ?_
              refine wa_goto 6 dX3_canEnd_72 rfl ?_
              refine wa_locals [(5, _), (4, _), (0, _), (1, _), (2, _), (3, _)] [0, 1, 3, 4, 5, 6] rfl ?_
              rw [z_b1_0 c23, Bool.false_or] at ih
              rw [z_b1_1 c45, Bool.true_and] at ih
              rw [z_y c59] at ih
              exact ih
  refine wa_iconst (0) dX3_canEnd_0 (by decide) ?_
  refine wa_istore [(4, _), (0, _), (1, _), (2, _), (3, _)] dX3_canEnd_1 (Nat.le_of_ble_eq_true rfl) rfl ?_
  refine wa_iconst (0) dX3_canEnd_3 (by decide) ?_
  refine wa_istore [(5, _), (4, _), (0, _), (1, _), (2, _), (3, _)] dX3_canEnd_4 (Nat.le_of_ble_eq_true rfl) rfl ?_
  refine wa_locals [(5, _), (4, _), (0, _), (1, _), (2, _), (3, _)] [0, 1, 2, 3, 4, 5] rfl ?_
  exact LP 4 0 rfl
theorem z_modL.srch {N : w_M} (h : z_modL b M m S th is rr rc f sv pf ip) (hf : w_fr M N (fun q => q = m + 5 ∨ q = m + 6 ∨ q = m + 7)) (h5 : ∃ g : Nat → Int32, N.get (m + 5) = some (.inl (.boolean, 1488, .inl g))) (h6 : ∃ g : Nat → Int32, N.get (m + 6) = some (.inl (.boolean, 1488, .inl g))) (h7 : ∃ g : Nat → Int32, N.get (m + 7) = some (.inl (.int, 30, .inl g))) : z_modL b N m S th is rr rc f sv pf ip := by
  refine h.scr (hf.mono (fun q _ e => by omega)) ?_
  obtain ⟨⟨z1, w1⟩, -, -, -, ⟨z5, w5⟩, ⟨z6, w6⟩, ⟨z7, w7⟩⟩ := h.2.2.2.2.2.1
  exact ⟨⟨z1, hf.2 _ _ w1 (by omega)⟩, h5, h6, h7, ⟨z5, hf.2 _ _ w5 (by omega)⟩, ⟨z6, hf.2 _ _ w6 (by omega)⟩, ⟨z7, hf.2 _ _ w7 (by omega)⟩⟩
theorem sp_mfewest (h : z_modL b M m S th is rr rc f sv pf ip) (hk : (z_robs (z_cur S))[k]? = some r) (hgs : g < z_size (z_cur S)) : w_S l G tX3_fewest (6, 0, 0) [.ref m, .int (nI k), .int (nI g)] M (w_rI (fun v N => v = z_enc ((z_first (z_cur S) k (z_cell r) g (z_hor (z_cur S)) 0).map (· + 1)) ∧ w_fr M N (fun q => q = m + 5) ∧ z_modL b N m S th is rr rc f sv pf ip)) := by
  obtain ⟨hm, hf, -⟩ := id h
  have HM := h.mh
  have hr := h.mr
  have hg := h.gd
  have hs := hg.1
  have hsz := hs.size
  have hR6 : (z_robs (z_cur S)).length ≤ 6 := hs.2.2.2.2.1
  have hkl := (List.getElem?_eq_some_iff.mp hk).1
  have hk6 : k < 6 := by omega
  have ha := hg.2.2.2.2.1
  have hrm := List.mem_of_getElem? hk
  have hss := (hs.2.2.2.2.2.2.1 r hrm).1
  have hfs : z_free (z_cur S) (z_cell r) = true := hg.2.2.2.2.2.1 r hrm 0
  have hsets := hg.2.2.2.1.2.2
  obtain ⟨Hh, hH, hHe⟩ := nI_of (x := z_sets (z_cur S) 2) (Int32.not_lt.mpr (Int32.le_trans (by decide) hsets.1))
  have hHor : z_hor (z_cur S) = Hh := by unfold z_hor; rw [hHe, nI_clamp hH]
  have hH30 : Hh ≤ 30 := by rw [hHe] at hsets; exact (nI_leI (b := 30) hH (by decide)).mp hsets.2
  have hH1 : 1 ≤ Hh := by rw [hHe] at hsets; exact (nI_leI (a := 1) (by decide) hH).mp hsets.1
  have q1 := (hr.rob hk).1
  have h7 : f (Int32.toNatClampNeg 7) = nI Hh := (hr.2.1 2 (by decide)).trans hHe
  refine w_start (by decide) (Nat.le_of_ble_eq_true rfl) (fun X => ?_)
  refine wa_locals [(0, _), (1, _), (2, _)] [0, 1, 2] rfl ?_
  refine wa_aload_n 0 dX3_fewest_0 rfl rfl ?_
  refine wa_iload_n 1 dX3_fewest_1 rfl rfl ?_
  refine wc_V (wr_V dX3_fewest_2 mX3_131 (sp_mfindComing h hk) hm rfl rfl rfl (Nat.le_of_ble_eq_true rfl)) (fun M2 h2 => ?_)
  obtain ⟨hfr, hc⟩ := id h2
  have hd : z_modL b M2 m S th is rr rc f sv pf ip := by
    obtain ⟨-, -, z6, z7, -⟩ := h.2.2.2.2.2.1
    obtain ⟨y6, w6⟩ := z6
    obtain ⟨y7, w7⟩ := z7
    exact h.srch (hfr.mono (fun q _ e => Or.inl e)) ⟨_, hc.choose_spec.1⟩ ⟨y6, hfr.2 _ _ w6 (by omega)⟩ ⟨y7, hfr.2 _ _ w7 (by omega)⟩
  have hmN := hd.1
  have hfN := hd.2.1
  refine wa_iconst (1) dX3_fewest_5 (by decide) ?_
  refine wa_istore_n [(3, _), (0, _), (1, _), (2, _)] dX3_fewest_6 rfl (Nat.le_of_ble_eq_true rfl) rfl ?_
  refine wa_locals [(3, _), (0, _), (1, _), (2, _)] [0, 1, 2, 3] rfl ?_
  have LP : ∀ (n t : Nat), t + n = Hh → z_first (z_cur S) k (z_cell r) g n t = z_first (z_cur S) k (z_cell r) g (z_hor (z_cur S)) 0 → w_A l G tX3_fewest (6, 0, 0) X 0 0 M2 7 [(3, .int (nI (t + 1))), (0, .ref m), (1, .int (nI k)), (2, .int (nI g))] [] (w_rI (fun v N => v = z_enc ((z_first (z_cur S) k (z_cell r) g (z_hor (z_cur S)) 0).map (· + 1)) ∧ w_fr M N (fun q => q = m + 5) ∧ z_modL b N m S th is rr rc f sv pf ip)) := by
    intro n
    induction n with
    | zero =>
      intro t hn he
      have ht : t = Hh := by omega
      subst ht
      have he : none = z_first (z_cur S) k (z_cell r) g (z_hor (z_cur S)) 0 := he
      refine wa_iload_n 0 dX3_fewest_7 rfl rfl ?_
      refine wa_aload_n 1 dX3_fewest_8 rfl rfl ?_
      refine wa_getf dX3_fewest_9 gX3_9 hmN rfl ?_
      refine wa_bipush (7) dX3_fewest_12 (by decide) ?_
      refine wa_iald dX3_fewest_14 hfN (vp_in_nI (n := 7) (by omega) (by omega)) ?_
      rw [h7]
      refine wa_icmp_gt 34 dX3_fewest_15 rfl (fun c15 => ?_) (fun c15 => absurd (nI_lt (by omega) (by omega)) c15)
      refine wa_iload_n 0 dX3_fewest_34 rfl rfl ?_
      refine wa_aload_n 1 dX3_fewest_35 rfl rfl ?_
      refine wa_getf dX3_fewest_36 gX3_9 hmN rfl ?_
      refine wa_bipush (7) dX3_fewest_39 (by decide) ?_
      refine wa_iald dX3_fewest_41 hfN (vp_in_nI (n := 7) (by omega) (by omega)) ?_
      rw [h7]
      refine wa_icmp_gt 49 dX3_fewest_42 rfl (fun c42 => ?_) (fun c42 => absurd (nI_lt (by omega) (by omega)) c42)
      refine wa_iconst (-1) dX3_fewest_49 (by decide) ?_
      refine wa_iret FieldType.int dX3_fewest_50 rfl rfl (Nat.le_of_ble_eq_true rfl) (Nat.le_of_ble_eq_true rfl) ?_
      exact ⟨_, rfl, by rw [← he]; rfl, hfr, hd⟩
    | succ n ih =>
      intro t hn he
      have hnl : ¬ nI Hh < nI (t + 1) := Int32.not_lt.mpr (nI_le (by omega) (by omega))
      rw [z_first] at he
      cases hen : z_hasEnd (z_cur S) k (z_cell r) g t with
      | true =>
        rw [if_pos hen] at he
        refine wa_iload_n 0 dX3_fewest_7 rfl rfl ?_
        refine wa_aload_n 1 dX3_fewest_8 rfl rfl ?_
        refine wa_getf dX3_fewest_9 gX3_9 hmN rfl ?_
        refine wa_bipush (7) dX3_fewest_12 (by decide) ?_
        refine wa_iald dX3_fewest_14 hfN (vp_in_nI (n := 7) (by omega) (by omega)) ?_
        rw [h7]
        refine wa_icmp_gt 34 dX3_fewest_15 rfl (fun c15 => absurd c15 hnl) (fun c15 => ?_)
        refine wa_aload_n 1 dX3_fewest_18 rfl rfl ?_
        refine wa_iload_n 2 dX3_fewest_19 rfl rfl ?_
        refine wa_iload_n 3 dX3_fewest_20 rfl rfl ?_
        refine wa_iload_n 0 dX3_fewest_21 rfl rfl ?_
        refine wc_isI (wr_V dX3_fewest_22 mX3_135 (sp_mcanEnd hd hk hc (by rw [hHor]; omega) hgs) hmN rfl rfl rfl (Nat.le_of_ble_eq_true rfl)) ?_
        rw [hen]
        refine wa_if_ne 34 dX3_fewest_25 rfl (fun c25 => ?_) (fun c25 => absurd c25 (by decide))
        refine wa_iload_n 0 dX3_fewest_34 rfl rfl ?_
        refine wa_aload_n 1 dX3_fewest_35 rfl rfl ?_
        refine wa_getf dX3_fewest_36 gX3_9 hmN rfl ?_
        refine wa_bipush (7) dX3_fewest_39 (by decide) ?_
        refine wa_iald dX3_fewest_41 hfN (vp_in_nI (n := 7) (by omega) (by omega)) ?_
        rw [h7]
        refine wa_icmp_gt 49 dX3_fewest_42 rfl (fun c42 => absurd c42 hnl) (fun c42 => ?_)
        refine wa_iload_n 0 dX3_fewest_45 rfl rfl ?_
        refine wa_goto 50 dX3_fewest_46 rfl ?_
        refine wa_iret FieldType.int dX3_fewest_50 rfl rfl (Nat.le_of_ble_eq_true rfl) (Nat.le_of_ble_eq_true rfl) ?_
        exact ⟨_, rfl, by rw [← he]; rfl, hfr, hd⟩
      | false =>
        rw [if_neg (by rw [hen]; exact fun z => by cases z)] at he
        refine wa_iload_n 0 dX3_fewest_7 rfl rfl ?_
        refine wa_aload_n 1 dX3_fewest_8 rfl rfl ?_
        refine wa_getf dX3_fewest_9 gX3_9 hmN rfl ?_
        refine wa_bipush (7) dX3_fewest_12 (by decide) ?_
        refine wa_iald dX3_fewest_14 hfN (vp_in_nI (n := 7) (by omega) (by omega)) ?_
        rw [h7]
        refine wa_icmp_gt 34 dX3_fewest_15 rfl (fun c15 => absurd c15 hnl) (fun c15 => ?_)
        refine wa_aload_n 1 dX3_fewest_18 rfl rfl ?_
        refine wa_iload_n 2 dX3_fewest_19 rfl rfl ?_
        refine wa_iload_n 3 dX3_fewest_20 rfl rfl ?_
        refine wa_iload_n 0 dX3_fewest_21 rfl rfl ?_
        refine wc_isI (wr_V dX3_fewest_22 mX3_135 (sp_mcanEnd hd hk hc (by rw [hHor]; omega) hgs) hmN rfl rfl rfl (Nat.le_of_ble_eq_true rfl)) ?_
        rw [hen]
        refine wa_if_ne 34 dX3_fewest_25 rfl (fun c25 => absurd rfl c25) (fun c25 => ?_)
        refine wa_iinc 0 [(3, _), (0, _), (1, _), (2, _)] dX3_fewest_28 rfl (w_inc (t + 1)) (Nat.le_of_ble_eq_true rfl) rfl ?_
        refine wa_goto 7 dX3_fewest_31 rfl ?_
        refine wa_locals [(3, _), (0, _), (1, _), (2, _)] [0, 1, 2, 3] rfl ?_
        exact ih (t + 1) (by omega) he
  exact LP Hh 0 (Nat.zero_add _) (by rw [hHor])
end MS
