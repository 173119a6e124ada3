/-! ===== the Model's distances ===== -/
set_option maxRecDepth 100000
section MF
variable {b : Nat} {M N : w_M} {m : Nat} {S : z_S} {th is rr rc : Int32} {f sv pf ip : Nat → Int32} {l : Launch} {G : w_G} {c : z_C}
def z_mW (m q : Nat) : Prop := q = m + 8 ∨ q = m + 9
/-- what the Model's search has in the memory -/
def z_bsm (c : z_C) (M N : w_M) (m : Nat) (s : z_B) : Prop := ∃ f g : Nat → Int32, N.get (m + 8) = some (.inl (.int, 48, .inl f)) ∧ N.get (m + 9) = some (.inl (.int, 48, .inl g)) ∧ w_fr M N (z_mW m) ∧ (∀ t, t < z_size c → f t = z_enc (s.1 t)) ∧ ∀ i y, s.2[i]? = some y → g i = nI y
theorem z_mh.far (H : z_mh M m f) (hf : w_fr M N (z_mW m)) : z_mh N m f := by
  obtain ⟨fs, h1, h2⟩ := H
  exact ⟨fs, hf.2 _ _ h1 (fun z => z.elim (fun z => by omega) (fun z => by omega)), hf.2 _ _ h2 (fun z => z.elim (fun z => by omega) (fun z => by omega))⟩
theorem z_modL.far (h : z_modL b M m S th is rr rc f sv pf ip) (hf : w_fr M N (z_mW m)) {f1 g1 : Nat → Int32} (h8 : N.get (m + 8) = some (.inl (.int, 48, .inl f1))) (h9 : N.get (m + 9) = some (.inl (.int, 48, .inl g1))) : z_modL b N m S th is rr rc f sv pf ip := by
  refine h.scr (hf.mono (fun q _ z => z.elim (fun z => by omega) (fun z => by omega))) ?_
  obtain ⟨⟨a1, q1⟩, ⟨a2, q2⟩, ⟨a3, q3⟩, ⟨a4, q4⟩, -, -, ⟨a7, q7⟩⟩ := h.2.2.2.2.2.1
  have hw : ∀ j, j ≠ 8 → j ≠ 9 → ¬ z_mW m (m + j) := fun j h1 h2 z => z.elim (fun z => by omega) (fun z => by omega)
  exact ⟨⟨a1, hf.2 _ _ q1 (hw 4 (by decide) (by decide))⟩, ⟨a2, hf.2 _ _ q2 (hw 5 (by decide) (by decide))⟩, ⟨a3, hf.2 _ _ q3 (hw 6 (by decide) (by decide))⟩, ⟨a4, hf.2 _ _ q4 (hw 7 (by decide) (by decide))⟩, ⟨_, h8⟩, ⟨_, h9⟩, ⟨a7, hf.2 _ _ q7 (hw 10 (by decide) (by decide))⟩⟩
theorem z_mWE {q : Nat} (h : z_mW m q) : z_mE m q := h.elim (fun z => ⟨by omega, by omega⟩) (fun z => ⟨by omega, by omega⟩)
def z_farQ (b : Nat) (M : w_M) (m : Nat) (S : z_S) (th is rr rc : Int32) (f sv pf ip : Nat → Int32) (p : Nat) (N : w_M) : Prop := w_fr M N (z_mW m) ∧ z_modL b N m S th is rr rc f sv pf ip ∧ ∃ g : Nat → Int32, N.get (m + 8) = some (.inl (.int, 48, .inl g)) ∧ ∀ t, t < z_size (z_cur S) → g t = z_enc (z_far (z_cur S) p t)
theorem sp_mfindFar (h : z_modL b M m S th is rr rc f sv pf ip) {p : Nat} (hp : p < z_size (z_cur S)) : w_S l G tX3_findFar (3, 0, 0) [.ref m, .int (nI p)] M (w_rV (z_farQ b M m S th is rr rc f sv pf ip p)) := by
  obtain ⟨hm, hf, -⟩ := id h
  have H := h.mh
  have hr := h.mr
  have hg := h.gd
  have hs := hg.1
  have hsz := hs.size
  have hR6 : (z_robs (z_cur S)).length ≤ 6 := hs.2.2.2.2.1
  have hO10 : (z_ords (z_cur S)).length ≤ 10 := hs.2.2.2.2.2.1
  have hdq : m + 8 ≠ m + 9 := by omega
  obtain ⟨-, -, -, -, ⟨f80, h80⟩, ⟨g90, h90⟩, -⟩ := h.2.2.2.2.2.1
  refine w_start (by decide) (Nat.le_of_ble_eq_true rfl) (fun X => ?_)
  refine wa_locals [(0, _), (1, _)] [0, 1] rfl ?_
  have LW : ∀ (q k : Nat) (_ : q < z_size (z_cur S)),
      ∀ (n w : Nat) (N : w_M) (s : z_B) (fs : z_B), w + n = 4 → z_bI (z_cur S) s → s.2[k]? = some q → z_bsm (z_cur S) M N m s → z_bW (z_cur S) q n w s = fs →
      (∀ (N : w_M) (v1 : Int32), z_bI (z_cur S) fs → z_bsm (z_cur S) M N m fs → w_A l G tX3_findFar (3, 0, 0) X 0 0 N 128 [(4, .int v1), (3, .int (nI k)), (2, .int (nI fs.2.length)), (0, .ref m)] [] (w_rV (z_farQ b M m S th is rr rc f sv pf ip p))) →
      w_A l G tX3_findFar (3, 0, 0) X 0 0 N 47 [(4, .int (nI w)), (3, .int (nI k)), (2, .int (nI s.2.length)), (0, .ref m)] [] (w_rV (z_farQ b M m S th is rr rc f sv pf ip p)) := by
    intro q k hqs n
    induction n with
    | zero =>
      intro w N s fs hn hI hk hst hfs K
      have hw : w = 4 := by omega
      subst hw
      have e : s = fs := hfs
      subst e
      refine wa_iload 0 dX3_findFar_47 rfl ?_
      refine wa_iconst (4) dX3_findFar_49 (by decide) ?_
      refine wa_icmp_ge 128 dX3_findFar_50 rfl (fun c50 => ?_) (fun c50 => absurd (by decide) c50)
      exact K N _ hI hst
    | succ n ih =>
      intro w N s fs hn hI hk hst hfs K
      obtain ⟨f1, g1, hda, hqa, hfr, hff, hgg⟩ := id hst
      have HN := H.far hfr
      have hgN := hfr.2 _ _ hm (fun z => z.elim (fun z => by omega) (fun z => by omega))
      have hklt := (List.getElem?_eq_some_iff.mp hk).1
      have hlen := hI.len
      have hxm := z_enc_neg (g := z_bes (z_cur S) q w) (fun t e => by have := z_bes_lt hs hqs e; omega)
      have hnb := z_bes_nb (z_cur S) q (w := w) (by omega)
      have hqm := List.mem_of_getElem? hk
      obtain ⟨mm, hmm⟩ := Option.ne_none_iff_exists'.mp (hI.2.1 q hqm).2
      have hml := hI.2.2.2 q mm hmm
      rw [z_bW] at hfs
      refine wa_iload 0 dX3_findFar_47 rfl ?_
      refine wa_iconst (4) dX3_findFar_49 (by decide) ?_
      refine wa_icmp_ge 128 dX3_findFar_50 rfl (fun c50 => absurd c50 (nI_lt_not (b := 4) (by omega) (by decide))) (fun c50 => ?_)
      refine wa_aload_n 3 dX3_findFar_53 rfl rfl ?_
      refine wa_aload_n 3 dX3_findFar_54 rfl rfl ?_
      refine wa_getf dX3_findFar_55 gX3_35 hgN rfl ?_
      refine wa_iload_n 1 dX3_findFar_58 rfl rfl ?_
      refine wa_iald dX3_findFar_59 hqa (vp_in_nI (by omega) (by omega)) ?_
      rw [nI_clamp (by omega), hgg k q hk]
      refine wa_iload 0 dX3_findFar_60 rfl ?_
      refine wc_isI (wr_V dX3_findFar_62 mX3_124 (sp_mbes HN hr hs hqs (by omega)) hgN rfl rfl rfl (Nat.le_of_ble_eq_true rfl)) ?_
      refine wa_istore [(5, _), (4, _), (3, _), (2, _), (0, _)] dX3_findFar_65 (Nat.le_of_ble_eq_true rfl) rfl ?_
      refine wa_iload 0 dX3_findFar_67 rfl ?_
      refine wa_if_lt 122 dX3_findFar_69 rfl (fun c69 => ?_) (fun c69 => ?_)
      ·
        refine wa_iinc 1 [(4, _), (5, _), (3, _), (2, _), (0, _)] dX3_findFar_122 rfl (w_inc w) (Nat.le_of_ble_eq_true rfl) rfl ?_
        refine wa_goto 47 dX3_findFar_125 rfl ?_
        refine wa_locals [(4, _), (3, _), (2, _), (0, _)] [0, 2, 3, 4] rfl ?_
        rw [hxm.mp c69] at hnb
        have hnb : z_nb (z_cur S) q w = none := hnb
        simp only [hnb] at hfs
        exact ih (w + 1) N s fs (by omega) hI hk hst hfs K
      ·
        obtain ⟨t, ht⟩ : ∃ t, z_bes (z_cur S) q w = some t := Option.ne_none_iff_exists'.mp (fun z => c69 (hxm.mpr z))
        have htl := z_bes_lt hs hqs ht
        rw [ht] at hnb
        have hnb : z_nb (z_cur S) q w = if z_free (z_cur S) t = true then some t else none := hnb
        rw [show z_enc (z_bes (z_cur S) q w) = nI t by rw [ht]; rfl]
        have htm := z_enc_neg (g := s.1 t) (fun j e => by have := hI.2.2.2 t j e; omega)
        refine wa_aload_n 4 dX3_findFar_72 rfl rfl ?_
        refine wa_getf dX3_findFar_73 gX3_32 hgN rfl ?_
        refine wa_iload 0 dX3_findFar_76 rfl ?_
        refine wa_iald dX3_findFar_78 hda (vp_in_nI (by omega) (by omega)) ?_
        rw [nI_clamp (by omega), hff t htl]
        refine wa_if_ge 122 dX3_findFar_79 rfl (fun c79 => ?_) (fun c79 => ?_)
        ·
          refine wa_iinc 1 [(4, _), (5, _), (3, _), (2, _), (0, _)] dX3_findFar_122 rfl (w_inc w) (Nat.le_of_ble_eq_true rfl) rfl ?_
          refine wa_goto 47 dX3_findFar_125 rfl ?_
          refine wa_locals [(4, _), (3, _), (2, _), (0, _)] [0, 2, 3, 4] rfl ?_
          have hsn : ¬ s.1 t = none := fun z => absurd (htm.mpr z) (Int32.not_lt.mpr c79)
          by_cases hfre : z_free (z_cur S) t = true
          · rw [if_pos hfre] at hnb
            simp only [hnb, if_neg hsn] at hfs
            exact ih (w + 1) N s fs (by omega) hI hk hst hfs K
          · rw [if_neg hfre] at hnb
            simp only [hnb] at hfs
            exact ih (w + 1) N s fs (by omega) hI hk hst hfs K
        ·
          refine wa_aload_n 4 dX3_findFar_82 rfl rfl ?_
          refine wa_iload 0 dX3_findFar_83 rfl ?_
          refine wc_isI (wr_V dX3_findFar_85 mX3_93 (sp_mcanEnter HN hr hs htl) hgN rfl rfl rfl (Nat.le_of_ble_eq_true rfl)) ?_
          refine wa_if_eq 122 dX3_findFar_88 rfl (fun c88 => ?_) (fun c88 => ?_)
          ·
            refine wa_iinc 1 [(4, _), (5, _), (3, _), (2, _), (0, _)] dX3_findFar_122 rfl (w_inc w) (Nat.le_of_ble_eq_true rfl) rfl ?_
            refine wa_goto 47 dX3_findFar_125 rfl ?_
            refine wa_locals [(4, _), (3, _), (2, _), (0, _)] [0, 2, 3, 4] rfl ?_
            rw [if_neg (z_n c88)] at hnb
            simp only [hnb] at hfs
            exact ih (w + 1) N s fs (by omega) hI hk hst hfs K
          ·
            have hn0 : s.1 t = none := htm.mp (Int32.not_le.mp c79)
            have hfre : z_free (z_cur S) t = true := z_y c88
            have hI2 := hI.put hqm hn0 htl
            have hlen2 : s.2.length + 1 ≤ z_size (z_cur S) := by have := hI2.len; rw [show (z_bPut s q t).2.length = s.2.length + 1 from List.length_append] at this; exact this
            rw [if_pos hfre] at hnb
            simp only [hnb, if_pos hn0] at hfs
            refine wa_aload_n 4 dX3_findFar_91 rfl rfl ?_
            refine wa_getf dX3_findFar_92 gX3_32 hgN rfl ?_
            refine wa_iload 0 dX3_findFar_95 rfl ?_
            refine wa_aload_n 4 dX3_findFar_97 rfl rfl ?_
            refine wa_getf dX3_findFar_98 gX3_32 hgN rfl ?_
            refine wa_aload_n 4 dX3_findFar_101 rfl rfl ?_
            refine wa_getf dX3_findFar_102 gX3_35 hgN rfl ?_
            refine wa_iload_n 2 dX3_findFar_105 rfl rfl ?_
            refine wa_iald dX3_findFar_106 hqa (vp_in_nI (by omega) (by omega)) ?_
            rw [nI_clamp (by omega), hgg k q hk]
            refine wa_iald dX3_findFar_107 hda (vp_in_nI (by omega) (by omega)) ?_
            rw [nI_clamp (by omega), hff q hqs, hmm]
            refine wa_iconst (1) dX3_findFar_108 (by decide) ?_
            refine wa_iadd dX3_findFar_109 ?_
            rw [show z_enc (some mm) + 1 = nI (mm + 1) from nI_1 mm]
            refine wa_iast dX3_findFar_110 hda (vp_in_nI (by omega) (by omega)) ?_
            rw [nI_clamp (by omega)]
            refine wa_aload_n 4 dX3_findFar_111 rfl rfl ?_
            refine wa_getf dX3_findFar_112 gX3_35 (w_sne hgN (by omega)) rfl ?_
            refine wa_iload_n 3 dX3_findFar_115 rfl rfl ?_
            refine wa_iload 0 dX3_findFar_116 rfl ?_
            refine wa_iast dX3_findFar_118 (w_sne hqa hdq.symm) (vp_in_nI (by omega) (by omega)) ?_
            rw [nI_clamp (by omega)]
            refine wa_iinc 3 [(2, _), (5, _), (4, _), (3, _), (0, _)] dX3_findFar_119 rfl (w_inc _) (Nat.le_of_ble_eq_true rfl) rfl ?_
            refine wa_iinc 2 [(4, _), (2, _), (5, _), (3, _), (0, _)] dX3_findFar_122 rfl (w_inc w) (Nat.le_of_ble_eq_true rfl) rfl ?_
            refine wa_goto 47 dX3_findFar_125 rfl ?_
            refine wa_locals [(4, _), (3, _), (2, _), (0, _)] [0, 3, 1, 4] rfl ?_
            have hst2 : z_bsm (z_cur S) M ((N.set (m + 8) (.inl (.int, 48, .inl (upd f1 t (nI (mm + 1)))))).set (m + 9) (.inl (.int, 48, .inl (upd g1 s.2.length (nI t))))) m (z_bPut s q t) := by
              refine ⟨_, _, w_sne (w_set_self hda) hdq, w_set_self (w_sne hqa hdq.symm), (hfr.set (Or.inl rfl)).set (Or.inr rfl), fun y hy => ?_, fun i y hi => ?_⟩
              · show upd f1 t (nI (mm + 1)) y = z_enc (if y = t then (s.1 q).map (· + 1) else s.1 y)
                by_cases e : y = t
                · subst e
                  rw [if_pos rfl, hmm]
                  exact if_pos rfl
                · rw [if_neg e, show upd f1 t (nI (mm + 1)) y = f1 y from if_neg e]
                  exact hff y hy
              · have hi : (s.2 ++ [t])[i]? = some y := hi
                by_cases e : i = s.2.length
                · subst e
                  rw [List.getElem?_append_right (Nat.le_refl _), Nat.sub_self] at hi
                  cases hi
                  exact if_pos rfl
                · have hlt : i < s.2.length := by have := (List.getElem?_eq_some_iff.mp hi).1; rw [List.length_append] at this; simp only [List.length_cons, List.length_nil] at this; omega
                  rw [List.getElem?_append_left hlt] at hi
                  rw [show upd g1 s.2.length (nI t) i = g1 i from if_neg e]
                  exact hgg i y hi
            have hh := ih (w + 1) _ (z_bPut s q t) fs (by omega) hI2 (by show (s.2 ++ [t])[k]? = some q; rw [List.getElem?_append_left hklt]; exact hk) hst2 hfs K
            rw [show (z_bPut s q t).2.length = s.2.length + 1 from List.length_append] at hh
            exact hh
  have LK : ∀ (n k : Nat) (N : w_M) (s : z_B), k + n = z_size (z_cur S) + 1 → k ≤ s.2.length → z_bI (z_cur S) s → z_bsm (z_cur S) M N m s → (z_bK (z_cur S) n k s).1 = z_far (z_cur S) p → w_A l G tX3_findFar (3, 0, 0) X 0 0 N 39 [(3, .int (nI k)), (2, .int (nI s.2.length)), (0, .ref m)] [] (w_rV (z_farQ b M m S th is rr rc f sv pf ip p)) := by
    intro n
    induction n with
    | zero =>
      intro k N s hn hk hI hst he
      have := hI.len
      omega
    | succ n ih =>
      intro k N s hn hk hI hst he
      obtain ⟨f1, g1, hda, hqa, hfr, hff, hgg⟩ := id hst
      have HN := H.far hfr
      have hgN := hfr.2 _ _ hm (fun z => z.elim (fun z => by omega) (fun z => by omega))
      have hlen := hI.len
      rw [z_bK] at he
      refine wa_iload_n 0 dX3_findFar_39 rfl rfl ?_
      refine wa_iload_n 1 dX3_findFar_40 rfl rfl ?_
      refine wa_icmp_ge 134 dX3_findFar_41 rfl (fun c41 => ?_) (fun c41 => ?_)
      ·
        have hk2 : s.2[k]? = none := List.getElem?_eq_none (by have := (nI_leI (a := s.2.length) (b := k) (by omega) (by omega)).mp c41; omega)
        rw [hk2] at he
        refine wa_vret dX3_findFar_134 rfl (Nat.le_of_ble_eq_true rfl) (Nat.le_of_ble_eq_true rfl) ?_
        exact ⟨rfl, hfr, h.far hfr hda hqa, f1, hda, fun t ht => by rw [hff t ht, ← he]⟩
      ·
        have hk2 : k < s.2.length := Classical.byContradiction fun z => c41 (nI_le (by omega) (by omega))
        obtain ⟨q, hq⟩ : ∃ q, s.2[k]? = some q := ⟨_, List.getElem?_eq_getElem hk2⟩
        have hqm := List.mem_of_getElem? hq
        have hqs := (hI.2.1 q hqm).1
        obtain ⟨hI2, hpre⟩ := z_bW_inv hs hqs 4 0 s rfl hI hqm
        rw [hq] at he
        refine wa_iconst (0) dX3_findFar_44 (by decide) ?_
        refine wa_istore [(4, _), (3, _), (2, _), (0, _)] dX3_findFar_45 (Nat.le_of_ble_eq_true rfl) rfl ?_
        refine LW q k hqs 4 0 N s _ rfl hI hq hst rfl (fun N2 v1 hI3 hst3 => ?_)
        refine wa_iinc 1 [(3, _), (4, _), (2, _), (0, _)] dX3_findFar_128 rfl (w_inc k) (Nat.le_of_ble_eq_true rfl) rfl ?_
        refine wa_goto 39 dX3_findFar_131 rfl ?_
        refine wa_locals [(3, _), (2, _), (0, _)] [0, 2, 3] rfl ?_
        exact ih (k + 1) N2 _ (by omega) (by have := (List.getElem?_eq_some_iff.mp (hpre k q hq)).1; omega) hI3 hst3 he
  have LI : ∀ (n i : Nat) (N : w_M) (f1 : Nat → Int32), i + n = 48 → N.get (m + 8) = some (.inl (.int, 48, .inl f1)) → N.get (m + 9) = some (.inl (.int, 48, .inl g90)) → w_fr M N (z_mW m) → (∀ t, t < i → f1 t = -1) → w_A l G tX3_findFar (3, 0, 0) X 0 0 N 2 [(2, .int (nI i)), (0, .ref m), (1, .int (nI p))] [] (w_rV (z_farQ b M m S th is rr rc f sv pf ip p)) := by
    intro n
    induction n with
    | zero =>
      intro i N f1 hn hda hqa hfr hff
      have hi : i = 48 := by omega
      subst hi
      have hgN := hfr.2 _ _ hm (fun z => z.elim (fun z => by omega) (fun z => by omega))
      refine wa_iload_n 0 dX3_findFar_2 rfl rfl ?_
      refine wa_bipush (48) dX3_findFar_3 (by decide) ?_
      refine wa_icmp_ge 21 dX3_findFar_5 rfl (fun c5 => ?_) (fun c5 => absurd (by decide) c5)
      refine wa_aload_n 1 dX3_findFar_21 rfl rfl ?_
      refine wa_getf dX3_findFar_22 gX3_32 hgN rfl ?_
      refine wa_iload_n 2 dX3_findFar_25 rfl rfl ?_
      refine wa_iconst (0) dX3_findFar_26 (by decide) ?_
      refine wa_iast dX3_findFar_27 hda (vp_in_nI (by omega) (by omega)) ?_
      rw [nI_clamp (by omega)]
      refine wa_aload_n 1 dX3_findFar_28 rfl rfl ?_
      refine wa_getf dX3_findFar_29 gX3_35 (w_sne hgN (by omega)) rfl ?_
      refine wa_iconst (0) dX3_findFar_32 (by decide) ?_
      refine wa_iload_n 2 dX3_findFar_33 rfl rfl ?_
      refine wa_iast dX3_findFar_34 (w_sne hqa hdq.symm) (vp_in_nI (n := 0) (by omega) (by omega)) ?_
      rw [show (0 : Int32).toNatClampNeg = 0 from rfl]
      refine wa_iconst (1) dX3_findFar_35 (by decide) ?_
      refine wa_istore_n [(2, _), (0, _), (1, _)] dX3_findFar_36 rfl (Nat.le_of_ble_eq_true rfl) rfl ?_
      refine wa_iconst (0) dX3_findFar_37 (by decide) ?_
      refine wa_istore_n [(3, _), (2, _), (0, _), (1, _)] dX3_findFar_38 rfl (Nat.le_of_ble_eq_true rfl) rfl ?_
      refine wa_locals [(3, _), (2, _), (0, _)] [0, 1, 2] rfl ?_
      refine LK (z_size (z_cur S) + 1) 0 _ (z_b0 p) (Nat.zero_add _) (Nat.zero_le _) (z_bI0 hp) ⟨_, _, w_sne (w_set_self hda) hdq, w_set_self (w_sne hqa hdq.symm), (hfr.set (Or.inl rfl)).set (Or.inr rfl), fun t ht => ?_, fun j y hj => ?_⟩ rfl
      · show upd f1 p 0 t = z_enc (if t = p then some 0 else none)
        by_cases e : t = p
        · rw [if_pos e]; exact if_pos e
        · rw [if_neg e, show upd f1 p 0 t = f1 t from if_neg e]
          exact hff t (by omega)
      · have hj1 : j < 1 := (List.getElem?_eq_some_iff.mp hj).1
        rw [show j = 0 by omega] at hj ⊢
        cases hj
        exact if_pos rfl
    | succ n ih =>
      intro i N f1 hn hda hqa hfr hff
      have hgN := hfr.2 _ _ hm (fun z => z.elim (fun z => by omega) (fun z => by omega))
      refine wa_iload_n 0 dX3_findFar_2 rfl rfl ?_
      refine wa_bipush (48) dX3_findFar_3 (by decide) ?_
      refine wa_icmp_ge 21 dX3_findFar_5 rfl (fun c5 => absurd c5 (nI_lt_not (b := 48) (by omega) (by decide))) (fun c5 => ?_)
      refine wa_aload_n 1 dX3_findFar_8 rfl rfl ?_
      refine wa_getf dX3_findFar_9 gX3_32 hgN rfl ?_
      refine wa_iload_n 0 dX3_findFar_12 rfl rfl ?_
      refine wa_iconst (-1) dX3_findFar_13 (by decide) ?_
      refine wa_iast dX3_findFar_14 hda (vp_in_nI (by omega) (by omega)) ?_
      rw [nI_clamp (by omega)]
      refine wa_iinc 0 [(2, _), (0, _), (1, _)] dX3_findFar_15 rfl (w_inc i) (Nat.le_of_ble_eq_true rfl) rfl ?_
      refine wa_goto 2 dX3_findFar_18 rfl ?_
      refine wa_locals [(2, _), (0, _), (1, _)] [0, 1, 2] rfl ?_
      refine ih (i + 1) _ (upd f1 i (-1)) (by omega) (w_set_self hda) (w_sne hqa hdq.symm) (hfr.set (Or.inl rfl)) (fun t ht => ?_)
      by_cases e : t = i
      · exact if_pos e
      · rw [show upd f1 i (-1) t = f1 t from if_neg e]
        exact hff t (by omega)
  refine wa_iconst (0) dX3_findFar_0 (by decide) ?_
  refine wa_istore_n [(2, _), (0, _), (1, _)] dX3_findFar_1 rfl (Nat.le_of_ble_eq_true rfl) rfl ?_
  refine wa_locals [(2, _), (0, _), (1, _)] [0, 1, 2] rfl ?_
  exact LI 48 0 M f80 (Nat.zero_add _) h80 h90 w_fr.rf (fun t ht => absurd ht (Nat.not_lt_zero t))
theorem sp_mfarOf (h : z_modL b M m S th is rr rc f sv pf ip) {p q : Nat} (hp : p < z_size (z_cur S)) (hq : q < z_size (z_cur S)) : w_S l G tX3_farOf (4, 0, 0) [.ref m, .int (nI p), .int (nI q)] M (w_rI (fun r N => r = z_enc (z_far (z_cur S) p q) ∧ z_farQ b M m S th is rr rc f sv pf ip p N)) := by
  obtain ⟨hm, hf, -⟩ := id h
  have H := h.mh
  have hr := h.mr
  have hg := h.gd
  have hs := hg.1
  have hsz := hs.size
  have hR6 : (z_robs (z_cur S)).length ≤ 6 := hs.2.2.2.2.1
  have hO10 : (z_ords (z_cur S)).length ≤ 10 := hs.2.2.2.2.2.1
  refine w_start (by decide) (Nat.le_of_ble_eq_true rfl) (fun X => ?_)
  refine wa_locals [(0, _), (1, _), (2, _)] [0, 1, 2] rfl ?_
  refine wa_aload_n 0 dX3_farOf_0 rfl rfl ?_
  refine wa_iload_n 1 dX3_farOf_1 rfl rfl ?_
  refine wc_V (wr_V dX3_farOf_2 mX3_162 (sp_mfindFar h hp) hm rfl rfl rfl (Nat.le_of_ble_eq_true rfl)) (fun M2 h2 => ?_)
  refine wa_aload_n 0 dX3_farOf_5 rfl rfl ?_
  refine wa_getf dX3_farOf_6 gX3_32 h2.2.1.1 rfl ?_
  refine wa_iload_n 2 dX3_farOf_9 rfl rfl ?_
  obtain ⟨g1, hg1, hgq⟩ := id h2.2.2
  refine wa_iald dX3_farOf_10 hg1 (vp_in_nI (by omega) (by omega)) ?_
  rw [nI_clamp (by omega), hgq q hq]
  refine wa_iret FieldType.int dX3_farOf_11 rfl rfl (Nat.le_of_ble_eq_true rfl) (Nat.le_of_ble_eq_true rfl) ?_
  exact ⟨_, rfl, rfl, h2⟩
theorem sp_mdistance (h : z_mod b M m S th) {v w : Int32} : w_S l G tX3_distance (6, 0, 0) [.ref m, .int v, .int w] M (z_mA b M m S (z_distA (z_cur S) v w)) := by
  obtain ⟨is, rr, rc, f, sv, pf, ip, h⟩ := h
  obtain ⟨hm, hf, -⟩ := id h
  have H := h.mh
  have hr := h.mr
  have hg := h.gd
  have hs := hg.1
  have hh := hg.2.2.2.2.2.2.2
  have hsz := hs.size
  have hR6 : (z_robs (z_cur S)).length ≤ 6 := hs.2.2.2.2.1
  have hO10 : (z_ords (z_cur S)).length ≤ 10 := hs.2.2.2.2.2.1
  unfold z_distA
  cases i1 : z_idx v (z_size (z_cur S)) with
  | none =>
    refine w_start (by decide) (Nat.le_of_ble_eq_true rfl) (fun X => ?_)
    refine wa_locals [(0, _), (1, _), (2, _)] [0, 1, 2] rfl ?_
    refine wa_aload_n 0 dX3_distance_0 rfl rfl ?_
    refine wa_aload_n 0 dX3_distance_1 rfl rfl ?_
    refine wa_iload_n 1 dX3_distance_2 rfl rfl ?_
    refine wc_isI (wr_V dX3_distance_3 mX3_86 (sp_misCellZ H hr hs i1) hm rfl rfl rfl (Nat.le_of_ble_eq_true rfl)) ?_
    refine wa_if_eq 21 dX3_distance_6 rfl (fun c6 => ?_) (fun c6 => absurd (by decide) c6)
    refine wa_iconst (1) dX3_distance_21 (by decide) ?_
    refine wa_putf [_, _, _, _, _, _, _, _, _, _, _, _, _, _, _, _, _, _, _, _] dX3_distance_22 pX3_49 hm (Nat.le_of_ble_eq_true rfl) rfl rfl rfl ?_
    refine wa_aload_n 0 dX3_distance_25 rfl rfl ?_
    refine wa_getf dX3_distance_26 gX3_49 (w_set_self hm) rfl ?_
    refine wa_if_le 34 dX3_distance_29 rfl (fun c29 => absurd c29 (by decide)) (fun c29 => ?_)
    refine wa_iconst (0) dX3_distance_32 (by decide) ?_
    refine wa_iret FieldType.int dX3_distance_33 rfl rfl (Nat.le_of_ble_eq_true rfl) (Nat.le_of_ble_eq_true rfl) ?_
    exact ⟨_, rfl, (w_fr.rf.set z_mEm), (h.thr 1).md⟩
  | some p =>
    dsimp only
    cases i2 : z_idx w (z_size (z_cur S)) with
    | none =>
      refine w_start (by decide) (Nat.le_of_ble_eq_true rfl) (fun X => ?_)
      refine wa_locals [(0, _), (1, _), (2, _)] [0, 1, 2] rfl ?_
      refine wa_aload_n 0 dX3_distance_0 rfl rfl ?_
      refine wa_aload_n 0 dX3_distance_1 rfl rfl ?_
      refine wa_iload_n 1 dX3_distance_2 rfl rfl ?_
      refine wc_isI (wr_V dX3_distance_3 mX3_86 (sp_misCellY H hr hs i1) hm rfl rfl rfl (Nat.le_of_ble_eq_true rfl)) ?_
      refine wa_if_eq 21 dX3_distance_6 rfl (fun c6 => absurd c6 (by decide)) (fun c6 => ?_)
      refine wa_aload_n 0 dX3_distance_9 rfl rfl ?_
      refine wa_iload_n 2 dX3_distance_10 rfl rfl ?_
      refine wc_isI (wr_V dX3_distance_11 mX3_86 (sp_misCellZ H hr hs i2) hm rfl rfl rfl (Nat.le_of_ble_eq_true rfl)) ?_
      refine wa_if_eq 21 dX3_distance_14 rfl (fun c14 => ?_) (fun c14 => absurd (by decide) c14)
      refine wa_iconst (1) dX3_distance_21 (by decide) ?_
      refine wa_putf [_, _, _, _, _, _, _, _, _, _, _, _, _, _, _, _, _, _, _, _] dX3_distance_22 pX3_49 hm (Nat.le_of_ble_eq_true rfl) rfl rfl rfl ?_
      refine wa_aload_n 0 dX3_distance_25 rfl rfl ?_
      refine wa_getf dX3_distance_26 gX3_49 (w_set_self hm) rfl ?_
      refine wa_if_le 34 dX3_distance_29 rfl (fun c29 => absurd c29 (by decide)) (fun c29 => ?_)
      refine wa_iconst (0) dX3_distance_32 (by decide) ?_
      refine wa_iret FieldType.int dX3_distance_33 rfl rfl (Nat.le_of_ble_eq_true rfl) (Nat.le_of_ble_eq_true rfl) ?_
      exact ⟨_, rfl, (w_fr.rf.set z_mEm), (h.thr 1).md⟩
    | some q =>
      have hpl := z_idx_lt (by omega) i1
      have hql := z_idx_lt (by omega) i2
      have e1 := z_idx_eq (by omega) i1
      have e2 := z_idx_eq (by omega) i2
      subst e1
      subst e2
      have hfn := z_enc_neg (g := z_far (z_cur S) p q) (fun t e => by have := z_far_lt hs hpl e; omega)
      have h0 := h.thr 0
      have H0 := h0.mh
      dsimp only
      cases hfq : z_far (z_cur S) p q with
      | none =>
        refine w_start (by decide) (Nat.le_of_ble_eq_true rfl) (fun X => ?_)
        refine wa_locals [(0, _), (1, _), (2, _)] [0, 1, 2] rfl ?_
        refine wa_aload_n 0 dX3_distance_0 rfl rfl ?_
        refine wa_aload_n 0 dX3_distance_1 rfl rfl ?_
        refine wa_iload_n 1 dX3_distance_2 rfl rfl ?_
        refine wc_isI (wr_V dX3_distance_3 mX3_86 (sp_misCellY H hr hs i1) hm rfl rfl rfl (Nat.le_of_ble_eq_true rfl)) ?_
        refine wa_if_eq 21 dX3_distance_6 rfl (fun c6 => absurd c6 (by decide)) (fun c6 => ?_)
        refine wa_aload_n 0 dX3_distance_9 rfl rfl ?_
        refine wa_iload_n 2 dX3_distance_10 rfl rfl ?_
        refine wc_isI (wr_V dX3_distance_11 mX3_86 (sp_misCellY H hr hs i2) hm rfl rfl rfl (Nat.le_of_ble_eq_true rfl)) ?_
        refine wa_if_eq 21 dX3_distance_14 rfl (fun c14 => absurd c14 (by decide)) (fun c14 => ?_)
        refine wa_iconst (0) dX3_distance_17 (by decide) ?_
        refine wa_goto 22 dX3_distance_18 rfl ?_
        refine wa_putf [_, _, _, _, _, _, _, _, _, _, _, _, _, _, _, _, _, _, _, _] dX3_distance_22 pX3_49 hm (Nat.le_of_ble_eq_true rfl) rfl rfl rfl ?_
        refine wa_aload_n 0 dX3_distance_25 rfl rfl ?_
        refine wa_getf dX3_distance_26 gX3_49 (w_set_self hm) rfl ?_
        refine wa_if_le 34 dX3_distance_29 rfl (fun c29 => ?_) (fun c29 => absurd (by decide) c29)
        refine wa_aload_n 0 dX3_distance_34 rfl rfl ?_
        refine wa_iload_n 1 dX3_distance_35 rfl rfl ?_
        refine wa_iload_n 2 dX3_distance_36 rfl rfl ?_
        refine wc_I (wr_V dX3_distance_37 mX3_165 (sp_mfarOf h0 hpl hql) h0.1 rfl rfl rfl (Nat.le_of_ble_eq_true rfl)) (fun r37 M37 h37 => ?_)
        obtain ⟨g1, g2⟩ := h37
        subst g1
        rw [hfq]
        refine wa_istore_n [(3, _), (0, _), (1, _), (2, _)] dX3_distance_40 rfl (Nat.le_of_ble_eq_true rfl) rfl ?_
        refine wa_aload_n 1 dX3_distance_41 rfl rfl ?_
        refine wa_iload_n 0 dX3_distance_42 rfl rfl ?_
        refine wa_if_ge 50 dX3_distance_43 rfl (fun c43 => absurd c43 (by decide)) (fun c43 => ?_)
        refine wa_iconst (2) dX3_distance_46 (by decide) ?_
        refine wa_goto 51 dX3_distance_47 rfl ?_
        refine wa_putf [_, _, _, _, _, _, _, _, _, _, _, _, _, _, _, _, _, _, _, _] dX3_distance_51 pX3_49 g2.2.1.1 (Nat.le_of_ble_eq_true rfl) rfl rfl rfl ?_
        refine wa_aload_n 1 dX3_distance_54 rfl rfl ?_
        refine wa_getf dX3_distance_55 gX3_49 (w_set_self g2.2.1.1) rfl ?_
        refine wa_if_le 65 dX3_distance_58 rfl (fun c58 => absurd c58 (by decide)) (fun c58 => ?_)
        refine wa_iconst (0) dX3_distance_61 (by decide) ?_
        refine wa_goto 66 dX3_distance_62 rfl ?_
        refine wa_iret FieldType.int dX3_distance_66 rfl rfl (Nat.le_of_ble_eq_true rfl) (Nat.le_of_ble_eq_true rfl) ?_
        exact ⟨_, rfl, ((w_fr.rf.set z_mEm).trans (z_frE g2.1 (fun _ => z_mWE))).set z_mEm, (g2.2.1.thr 2).md⟩
      | some t =>
        have htl := z_far_lt hs hpl hfq
        refine w_start (by decide) (Nat.le_of_ble_eq_true rfl) (fun X => ?_)
        refine wa_locals [(0, _), (1, _), (2, _)] [0, 1, 2] rfl ?_
        refine wa_aload_n 0 dX3_distance_0 rfl rfl ?_
        refine wa_aload_n 0 dX3_distance_1 rfl rfl ?_
        refine wa_iload_n 1 dX3_distance_2 rfl rfl ?_
        refine wc_isI (wr_V dX3_distance_3 mX3_86 (sp_misCellY H hr hs i1) hm rfl rfl rfl (Nat.le_of_ble_eq_true rfl)) ?_
        refine wa_if_eq 21 dX3_distance_6 rfl (fun c6 => absurd c6 (by decide)) (fun c6 => ?_)
        refine wa_aload_n 0 dX3_distance_9 rfl rfl ?_
        refine wa_iload_n 2 dX3_distance_10 rfl rfl ?_
        refine wc_isI (wr_V dX3_distance_11 mX3_86 (sp_misCellY H hr hs i2) hm rfl rfl rfl (Nat.le_of_ble_eq_true rfl)) ?_
        refine wa_if_eq 21 dX3_distance_14 rfl (fun c14 => absurd c14 (by decide)) (fun c14 => ?_)
        refine wa_iconst (0) dX3_distance_17 (by decide) ?_
        refine wa_goto 22 dX3_distance_18 rfl ?_
        refine wa_putf [_, _, _, _, _, _, _, _, _, _, _, _, _, _, _, _, _, _, _, _] dX3_distance_22 pX3_49 hm (Nat.le_of_ble_eq_true rfl) rfl rfl rfl ?_
        refine wa_aload_n 0 dX3_distance_25 rfl rfl ?_
        refine wa_getf dX3_distance_26 gX3_49 (w_set_self hm) rfl ?_
        refine wa_if_le 34 dX3_distance_29 rfl (fun c29 => ?_) (fun c29 => absurd (by decide) c29)
        refine wa_aload_n 0 dX3_distance_34 rfl rfl ?_
        refine wa_iload_n 1 dX3_distance_35 rfl rfl ?_
        refine wa_iload_n 2 dX3_distance_36 rfl rfl ?_
        refine wc_I (wr_V dX3_distance_37 mX3_165 (sp_mfarOf h0 hpl hql) h0.1 rfl rfl rfl (Nat.le_of_ble_eq_true rfl)) (fun r37 M37 h37 => ?_)
        obtain ⟨g1, g2⟩ := h37
        subst g1
        rw [hfq]
        refine wa_istore_n [(3, _), (0, _), (1, _), (2, _)] dX3_distance_40 rfl (Nat.le_of_ble_eq_true rfl) rfl ?_
        refine wa_aload_n 1 dX3_distance_41 rfl rfl ?_
        refine wa_iload_n 0 dX3_distance_42 rfl rfl ?_
        refine wa_if_ge 50 dX3_distance_43 rfl (fun c43 => ?_) (fun c43 => absurd (Int32.not_lt.mp (nI_pos (by omega))) c43)
        refine wa_iconst (0) dX3_distance_50 (by decide) ?_
        refine wa_putf [_, _, _, _, _, _, _, _, _, _, _, _, _, _, _, _, _, _, _, _] dX3_distance_51 pX3_49 g2.2.1.1 (Nat.le_of_ble_eq_true rfl) rfl rfl rfl ?_
        refine wa_aload_n 1 dX3_distance_54 rfl rfl ?_
        refine wa_getf dX3_distance_55 gX3_49 (w_set_self g2.2.1.1) rfl ?_
        refine wa_if_le 65 dX3_distance_58 rfl (fun c58 => ?_) (fun c58 => absurd (by decide) c58)
        refine wa_iload_n 0 dX3_distance_65 rfl rfl ?_
        refine wa_iret FieldType.int dX3_distance_66 rfl rfl (Nat.le_of_ble_eq_true rfl) (Nat.le_of_ble_eq_true rfl) ?_
        exact ⟨_, rfl, ((w_fr.rf.set z_mEm).trans (z_frE g2.1 (fun _ => z_mWE))).set z_mEm, rfl, (g2.2.1.thr 0).md⟩
theorem z_rchN_le (d : Nat → Option Nat) : ∀ n, z_rchN d n ≤ n := by
  intro n
  induction n with
  | zero => exact Nat.le_refl _
  | succ n ih => rw [z_rchN]; split <;> omega
theorem sp_mreach (h : z_mod b M m S th) {v : Int32} : w_S l G tX3_reach (6, 0, 0) [.ref m, .int v] M (z_mA b M m S (z_reachA (z_cur S) v)) := by
  obtain ⟨is, rr, rc, f, sv, pf, ip, h⟩ := h
  obtain ⟨hm, hf, -⟩ := id h
  have H := h.mh
  have hr := h.mr
  have hg := h.gd
  have hs := hg.1
  have hh := hg.2.2.2.2.2.2.2
  have hsz := hs.size
  have hR6 : (z_robs (z_cur S)).length ≤ 6 := hs.2.2.2.2.1
  have hO10 : (z_ords (z_cur S)).length ≤ 10 := hs.2.2.2.2.2.1
  unfold z_reachA
  cases i1 : z_idx v (z_size (z_cur S)) with
  | none =>
    refine w_start (by decide) (Nat.le_of_ble_eq_true rfl) (fun X => ?_)
    refine wa_locals [(0, _), (1, _)] [0, 1] rfl ?_
    refine wa_aload_n 0 dX3_reach_0 rfl rfl ?_
    refine wa_aload_n 0 dX3_reach_1 rfl rfl ?_
    refine wa_iload_n 1 dX3_reach_2 rfl rfl ?_
    refine wc_isI (wr_V dX3_reach_3 mX3_86 (sp_misCellZ H hr hs i1) hm rfl rfl rfl (Nat.le_of_ble_eq_true rfl)) ?_
    refine wa_if_eq 13 dX3_reach_6 rfl (fun c6 => ?_) (fun c6 => absurd (by decide) c6)
    refine wa_iconst (1) dX3_reach_13 (by decide) ?_
    refine wa_putf [_, _, _, _, _, _, _, _, _, _, _, _, _, _, _, _, _, _, _, _] dX3_reach_14 pX3_49 hm (Nat.le_of_ble_eq_true rfl) rfl rfl rfl ?_
    refine wa_aload_n 0 dX3_reach_17 rfl rfl ?_
    refine wa_getf dX3_reach_18 gX3_49 (w_set_self hm) rfl ?_
    refine wa_if_le 26 dX3_reach_21 rfl (fun c21 => absurd c21 (by decide)) (fun c21 => ?_)
    refine wa_iconst (0) dX3_reach_24 (by decide) ?_
    refine wa_iret FieldType.int dX3_reach_25 rfl rfl (Nat.le_of_ble_eq_true rfl) (Nat.le_of_ble_eq_true rfl) ?_
    exact ⟨_, rfl, (w_fr.rf.set z_mEm), (h.thr 1).md⟩
  | some p =>
    have hpl := z_idx_lt (by omega) i1
    have e1 := z_idx_eq (by omega) i1
    subst e1
    dsimp only
    have h0 := h.thr 0
    have H0 := h0.mh
    refine w_start (by decide) (Nat.le_of_ble_eq_true rfl) (fun X => ?_)
    refine wa_locals [(0, _), (1, _)] [0, 1] rfl ?_
    refine wa_aload_n 0 dX3_reach_0 rfl rfl ?_
    refine wa_aload_n 0 dX3_reach_1 rfl rfl ?_
    refine wa_iload_n 1 dX3_reach_2 rfl rfl ?_
    refine wc_isI (wr_V dX3_reach_3 mX3_86 (sp_misCellY H hr hs i1) hm rfl rfl rfl (Nat.le_of_ble_eq_true rfl)) ?_
    refine wa_if_eq 13 dX3_reach_6 rfl (fun c6 => absurd c6 (by decide)) (fun c6 => ?_)
    refine wa_iconst (0) dX3_reach_9 (by decide) ?_
    refine wa_goto 14 dX3_reach_10 rfl ?_
    refine wa_putf [_, _, _, _, _, _, _, _, _, _, _, _, _, _, _, _, _, _, _, _] dX3_reach_14 pX3_49 hm (Nat.le_of_ble_eq_true rfl) rfl rfl rfl ?_
    refine wa_aload_n 0 dX3_reach_17 rfl rfl ?_
    refine wa_getf dX3_reach_18 gX3_49 (w_set_self hm) rfl ?_
    refine wa_if_le 26 dX3_reach_21 rfl (fun c21 => ?_) (fun c21 => absurd (by decide) c21)
    refine wa_aload_n 0 dX3_reach_26 rfl rfl ?_
    refine wa_iload_n 1 dX3_reach_27 rfl rfl ?_
    refine wc_V (wr_V dX3_reach_28 mX3_162 (sp_mfindFar h0 hpl) h0.1 rfl rfl rfl (Nat.le_of_ble_eq_true rfl)) (fun M28 h28 => ?_)
    refine wa_iconst (0) dX3_reach_31 (by decide) ?_
    refine wa_istore_n [(2, _), (0, _), (1, _)] dX3_reach_32 rfl (Nat.le_of_ble_eq_true rfl) rfl ?_
    refine wa_iconst (0) dX3_reach_33 (by decide) ?_
    refine wa_istore_n [(3, _), (2, _), (0, _), (1, _)] dX3_reach_34 rfl (Nat.le_of_ble_eq_true rfl) rfl ?_
    refine wa_locals [(3, _), (2, _), (0, _)] [0, 1, 2] rfl ?_
    obtain ⟨k1, k2, g, k3, k4⟩ := id h28
    have LP : ∀ (n k : Nat), k + n = z_size (z_cur S) → w_A l G tX3_reach (6, 0, 0) X 0 0 M28 35 [(3, .int (nI k)), (2, .int (nI (z_rchN (z_far (z_cur S) p) k))), (0, .ref m)] [] (z_mA b M m S (.inl (nI (z_rchN (z_far (z_cur S) p) (z_size (z_cur S)))))) := by
      intro n
      induction n with
      | zero =>
        intro k hn
        have hk : k = z_size (z_cur S) := by omega
        subst hk
        refine wa_iload_n 0 dX3_reach_35 rfl rfl ?_
        refine wa_aload_n 2 dX3_reach_36 rfl rfl ?_
        refine wc_isI (wr_V dX3_reach_37 mX3_67 (sp_mcells k2.mh hr) k2.1 rfl rfl rfl (Nat.le_of_ble_eq_true rfl)) ?_
        refine wa_icmp_ge 66 dX3_reach_40 rfl (fun c40 => ?_) (fun c40 => absurd (nI_le (by omega) (by omega)) c40)
        refine wa_iload_n 1 dX3_reach_66 rfl rfl ?_
        refine wa_iret FieldType.int dX3_reach_67 rfl rfl (Nat.le_of_ble_eq_true rfl) (Nat.le_of_ble_eq_true rfl) ?_
        exact ⟨_, rfl, (w_fr.rf.set z_mEm).trans (z_frE k1 (fun _ => z_mWE)), rfl, k2.md⟩
      | succ n ih =>
        intro k hn
        have hfn := z_enc_neg (g := z_far (z_cur S) p k) (fun t e => by have := z_far_lt hs hpl e; omega)
        have ih := ih (k + 1) (by omega)
        rw [z_rchN] at ih
        refine wa_iload_n 0 dX3_reach_35 rfl rfl ?_
        refine wa_aload_n 2 dX3_reach_36 rfl rfl ?_
        refine wc_isI (wr_V dX3_reach_37 mX3_67 (sp_mcells k2.mh hr) k2.1 rfl rfl rfl (Nat.le_of_ble_eq_true rfl)) ?_
        refine wa_icmp_ge 66 dX3_reach_40 rfl (fun c40 => absurd c40 (nI_lt_not (by omega) (by omega))) (fun c40 => ?_)
        refine wa_iload_n 1 dX3_reach_43 rfl rfl ?_
        refine wa_aload_n 2 dX3_reach_44 rfl rfl ?_
        refine wa_getf dX3_reach_45 gX3_32 k2.1 rfl ?_
        refine wa_iload_n 0 dX3_reach_48 rfl rfl ?_
        refine wa_iald dX3_reach_49 k3 (vp_in_nI (by omega) (by omega)) ?_
        rw [nI_clamp (by omega), k4 k (by omega)]
        refine wa_if_lt 57 dX3_reach_50 rfl (fun c50 => ?_) (fun c50 => ?_)
        ·
          refine wa_iconst (0) dX3_reach_57 (by decide) ?_
          refine wa_iadd dX3_reach_58 ?_
          refine wa_istore_n [(2, _), (3, _), (0, _)] dX3_reach_59 rfl (Nat.le_of_ble_eq_true rfl) rfl ?_
          refine wa_iinc 1 [(3, _), (2, _), (0, _)] dX3_reach_60 rfl (w_inc k) (Nat.le_of_ble_eq_true rfl) rfl ?_
          refine wa_goto 35 dX3_reach_63 rfl ?_
          refine wa_locals [(3, _), (2, _), (0, _)] [0, 1, 2] rfl ?_
          rw [if_pos (hfn.mp c50), Nat.add_zero] at ih
          rw [Int32.add_zero]
          exact ih
        ·
          refine wa_iconst (1) dX3_reach_53 (by decide) ?_
          refine wa_goto 58 dX3_reach_54 rfl ?_
          refine wa_iadd dX3_reach_58 ?_
          refine wa_istore_n [(2, _), (3, _), (0, _)] dX3_reach_59 rfl (Nat.le_of_ble_eq_true rfl) rfl ?_
          refine wa_iinc 1 [(3, _), (2, _), (0, _)] dX3_reach_60 rfl (w_inc k) (Nat.le_of_ble_eq_true rfl) rfl ?_
          refine wa_goto 35 dX3_reach_63 rfl ?_
          refine wa_locals [(3, _), (2, _), (0, _)] [0, 1, 2] rfl ?_
          rw [if_neg (fun z => c50 (hfn.mpr z))] at ih
          rw [show nI (z_rchN (z_far (z_cur S) p) k) + 1 = nI (z_rchN (z_far (z_cur S) p) k + 1) from nI_1 _]
          exact ih
    exact LP _ 0 (Nat.zero_add _)
theorem sp_mfarthest (h : z_mod b M m S th) {v : Int32} : w_S l G tX3_farthest (6, 0, 0) [.ref m, .int v] M (z_mA b M m S (z_farthestA (z_cur S) v)) := by
  obtain ⟨is, rr, rc, f, sv, pf, ip, h⟩ := h
  obtain ⟨hm, hf, -⟩ := id h
  have H := h.mh
  have hr := h.mr
  have hg := h.gd
  have hs := hg.1
  have hh := hg.2.2.2.2.2.2.2
  have hsz := hs.size
  have hR6 : (z_robs (z_cur S)).length ≤ 6 := hs.2.2.2.2.1
  have hO10 : (z_ords (z_cur S)).length ≤ 10 := hs.2.2.2.2.2.1
  unfold z_farthestA
  cases i1 : z_idx v (z_size (z_cur S)) with
  | none =>
    refine w_start (by decide) (Nat.le_of_ble_eq_true rfl) (fun X => ?_)
    refine wa_locals [(0, _), (1, _)] [0, 1] rfl ?_
    refine wa_aload_n 0 dX3_farthest_0 rfl rfl ?_
    refine wa_aload_n 0 dX3_farthest_1 rfl rfl ?_
    refine wa_iload_n 1 dX3_farthest_2 rfl rfl ?_
    refine wc_isI (wr_V dX3_farthest_3 mX3_86 (sp_misCellZ H hr hs i1) hm rfl rfl rfl (Nat.le_of_ble_eq_true rfl)) ?_
    refine wa_if_eq 13 dX3_farthest_6 rfl (fun c6 => ?_) (fun c6 => absurd (by decide) c6)
    refine wa_iconst (1) dX3_farthest_13 (by decide) ?_
    refine wa_putf [_, _, _, _, _, _, _, _, _, _, _, _, _, _, _, _, _, _, _, _] dX3_farthest_14 pX3_49 hm (Nat.le_of_ble_eq_true rfl) rfl rfl rfl ?_
    refine wa_aload_n 0 dX3_farthest_17 rfl rfl ?_
    refine wa_getf dX3_farthest_18 gX3_49 (w_set_self hm) rfl ?_
    refine wa_if_le 26 dX3_farthest_21 rfl (fun c21 => absurd c21 (by decide)) (fun c21 => ?_)
    refine wa_iconst (0) dX3_farthest_24 (by decide) ?_
    refine wa_iret FieldType.int dX3_farthest_25 rfl rfl (Nat.le_of_ble_eq_true rfl) (Nat.le_of_ble_eq_true rfl) ?_
    exact ⟨_, rfl, (w_fr.rf.set z_mEm), (h.thr 1).md⟩
  | some p =>
    have hpl := z_idx_lt (by omega) i1
    have e1 := z_idx_eq (by omega) i1
    subst e1
    dsimp only
    have h0 := h.thr 0
    have H0 := h0.mh
    refine w_start (by decide) (Nat.le_of_ble_eq_true rfl) (fun X => ?_)
    refine wa_locals [(0, _), (1, _)] [0, 1] rfl ?_
    refine wa_aload_n 0 dX3_farthest_0 rfl rfl ?_
    refine wa_aload_n 0 dX3_farthest_1 rfl rfl ?_
    refine wa_iload_n 1 dX3_farthest_2 rfl rfl ?_
    refine wc_isI (wr_V dX3_farthest_3 mX3_86 (sp_misCellY H hr hs i1) hm rfl rfl rfl (Nat.le_of_ble_eq_true rfl)) ?_
    refine wa_if_eq 13 dX3_farthest_6 rfl (fun c6 => absurd c6 (by decide)) (fun c6 => ?_)
    refine wa_iconst (0) dX3_farthest_9 (by decide) ?_
    refine wa_goto 14 dX3_farthest_10 rfl ?_
    refine wa_putf [_, _, _, _, _, _, _, _, _, _, _, _, _, _, _, _, _, _, _, _] dX3_farthest_14 pX3_49 hm (Nat.le_of_ble_eq_true rfl) rfl rfl rfl ?_
    refine wa_aload_n 0 dX3_farthest_17 rfl rfl ?_
    refine wa_getf dX3_farthest_18 gX3_49 (w_set_self hm) rfl ?_
    refine wa_if_le 26 dX3_farthest_21 rfl (fun c21 => ?_) (fun c21 => absurd (by decide) c21)
    refine wa_aload_n 0 dX3_farthest_26 rfl rfl ?_
    refine wa_iload_n 1 dX3_farthest_27 rfl rfl ?_
    refine wc_V (wr_V dX3_farthest_28 mX3_162 (sp_mfindFar h0 hpl) h0.1 rfl rfl rfl (Nat.le_of_ble_eq_true rfl)) (fun M28 h28 => ?_)
    refine wa_iload_n 1 dX3_farthest_31 rfl rfl ?_
    refine wa_istore_n [(2, _), (0, _), (1, _)] dX3_farthest_32 rfl (Nat.le_of_ble_eq_true rfl) rfl ?_
    refine wa_aload_n 1 dX3_farthest_33 rfl rfl ?_
    refine wc_isI (wr_V dX3_farthest_34 mX3_67 (sp_mcells h28.2.1.mh hr) h28.2.1.1 rfl rfl rfl (Nat.le_of_ble_eq_true rfl)) ?_
    refine wa_iconst (1) dX3_farthest_37 (by decide) ?_
    refine wa_isub dX3_farthest_38 ?_
    refine wa_istore_n [(3, _), (2, _), (0, _), (1, _)] dX3_farthest_39 rfl (Nat.le_of_ble_eq_true rfl) rfl ?_
    refine wa_locals [(3, _), (2, _), (0, _)] [0, 1, 2] rfl ?_
    obtain ⟨k1, k2, g, k3, k4⟩ := id h28
    have LP : ∀ (n x : Nat), n ≤ z_size (z_cur S) → x < z_size (z_cur S) → z_frth (z_far (z_cur S) p) n x = z_frth (z_far (z_cur S) p) (z_size (z_cur S)) p → w_A l G tX3_farthest (6, 0, 0) X 0 0 M28 40 [(3, .int (nI n - 1)), (2, .int (nI x)), (0, .ref m)] [] (z_mA b M m S (.inl (nI (z_frth (z_far (z_cur S) p) (z_size (z_cur S)) p)))) := by
      intro n
      induction n with
      | zero =>
        intro x hn hx e
        have e : x = z_frth (z_far (z_cur S) p) (z_size (z_cur S)) p := e
        refine wa_iload_n 0 dX3_farthest_40 rfl rfl ?_
        refine wa_if_lt 71 dX3_farthest_41 rfl (fun c41 => ?_) (fun c41 => absurd (by decide) c41)
        refine wa_iload_n 1 dX3_farthest_71 rfl rfl ?_
        refine wa_iret FieldType.int dX3_farthest_72 rfl rfl (Nat.le_of_ble_eq_true rfl) (Nat.le_of_ble_eq_true rfl) ?_
        exact ⟨_, rfl, (w_fr.rf.set z_mEm).trans (z_frE k1 (fun _ => z_mWE)), by rw [← e], k2.md⟩
      | succ n ih =>
        intro x hn hx e
        rw [z_frth] at e
        rw [nI_pred]
        refine wa_iload_n 0 dX3_farthest_40 rfl rfl ?_
        refine wa_if_lt 71 dX3_farthest_41 rfl (fun c41 => absurd c41 (nI_pos (by omega))) (fun c41 => ?_)
        refine wa_aload_n 2 dX3_farthest_44 rfl rfl ?_
        refine wa_getf dX3_farthest_45 gX3_32 k2.1 rfl ?_
        refine wa_iload_n 0 dX3_farthest_48 rfl rfl ?_
        refine wa_iald dX3_farthest_49 k3 (vp_in_nI (by omega) (by omega)) ?_
        rw [nI_clamp (by omega), k4 n (by omega)]
        refine wa_aload_n 2 dX3_farthest_50 rfl rfl ?_
        refine wa_getf dX3_farthest_51 gX3_32 k2.1 rfl ?_
        refine wa_iload_n 1 dX3_farthest_54 rfl rfl ?_
        refine wa_iald dX3_farthest_55 k3 (vp_in_nI (by omega) (by omega)) ?_
        rw [nI_clamp (by omega), k4 x hx]
        refine wa_icmp_lt 63 dX3_farthest_56 rfl (fun c56 => ?_) (fun c56 => ?_)
        ·
          refine wa_iload_n 1 dX3_farthest_63 rfl rfl ?_
          refine wa_istore_n [(2, _), (3, _), (0, _)] dX3_farthest_64 rfl (Nat.le_of_ble_eq_true rfl) rfl ?_
          refine wa_iinc 1 [(3, _), (2, _), (0, _)] dX3_farthest_65 rfl (w_incM (nI n)) (Nat.le_of_ble_eq_true rfl) rfl ?_
          refine wa_goto 40 dX3_farthest_68 rfl ?_
          refine wa_locals [(3, _), (2, _), (0, _)] [0, 1, 2] rfl ?_
          rw [if_neg (Int32.not_le.mpr c56)] at e
          exact ih x (by omega) hx e
        ·
          refine wa_iload_n 0 dX3_farthest_59 rfl rfl ?_
          refine wa_goto 64 dX3_farthest_60 rfl ?_
          refine wa_istore_n [(2, _), (3, _), (0, _)] dX3_farthest_64 rfl (Nat.le_of_ble_eq_true rfl) rfl ?_
          refine wa_iinc 1 [(3, _), (2, _), (0, _)] dX3_farthest_65 rfl (w_incM (nI n)) (Nat.le_of_ble_eq_true rfl) rfl ?_
          refine wa_goto 40 dX3_farthest_68 rfl ?_
          refine wa_locals [(3, _), (2, _), (0, _)] [0, 1, 2] rfl ?_
          rw [if_pos (Int32.not_lt.mp c56)] at e
          exact ih n (by omega) (by omega) e
    exact LP _ p (Nat.le_refl _) hpl rfl
end MF
