/-! ===== the Model's changes: robots taken off, orders ===== -/
set_option maxRecDepth 100000
section MP
variable {b : Nat} {M N : w_M} {m : Nat} {S : z_S} {th : Int32} {l : Launch} {G : w_G}
theorem sp_mtakeOff (h : z_mod b M m S th) {x : Int32} : w_S l G tX3_takeOff (6, 0, 0) [.ref m, .int x] M (z_mO b M m S (z_takeOffC (z_cur S) x)) := by
  obtain ⟨is, rr, rc, f, sv, pf, ip, h⟩ := h
  obtain ⟨hm, hf, -⟩ := id h
  have H := h.mh
  have hr := h.mr
  have hg := h.gd
  have hs := hg.1
  have hh := hg.2.2.2.2.2.2.2
  have hsz := hs.size
  have hR6 : (z_robs (z_cur S)).length ≤ 6 := hs.2.2.2.2.1
  have hO10 : (z_ords (z_cur S)).length ≤ 10 := hs.2.2.2.2.2.1
  have h0 := h.thr 0
  have H0 := h0.mh
  have hm0 := h0.1
  have hf0 := h0.2.1
  cases i1 : z_idx x (z_robs (z_cur S)).length with
  | none =>
    have ea : z_takeOffC (z_cur S) x = .inr (1, 0) := by unfold z_takeOffC; rw [i1]
    rw [ea]
    refine w_start (by decide) (Nat.le_of_ble_eq_true rfl) (fun X => ?_)
    refine wa_locals [(0, _), (1, _)] [0, 1] rfl ?_
    refine wa_aload_n 0 dX3_takeOff_0 rfl rfl ?_
    refine wa_iconst (0) dX3_takeOff_1 (by decide) ?_
    refine wa_putf [_, _, _, _, _, _, _, _, _, _, _, _, _, _, _, _, _, _, _, _] dX3_takeOff_2 pX3_49 hm (Nat.le_of_ble_eq_true rfl) rfl rfl rfl ?_
    refine wa_aload_n 0 dX3_takeOff_5 rfl rfl ?_
    refine wa_iload_n 1 dX3_takeOff_6 rfl rfl ?_
    refine wc_isI (wr_V dX3_takeOff_7 mX3_103 (sp_misRobotZ H0 hr hs i1) hm0 rfl rfl rfl (Nat.le_of_ble_eq_true rfl)) ?_
    refine wa_if_ne 20 dX3_takeOff_10 rfl (fun c10 => absurd (by decide) c10) (fun c10 => ?_)
    refine wa_aload_n 0 dX3_takeOff_13 rfl rfl ?_
    refine wa_iconst (1) dX3_takeOff_14 (by decide) ?_
    refine wa_iconst (0) dX3_takeOff_15 (by decide) ?_
    refine wc_I (wr_V dX3_takeOff_16 mX3_90 (sp_mrefuse h0 (by decide)) hm0 rfl rfl rfl (Nat.le_of_ble_eq_true rfl)) (fun r16 M16 h16 => ?_)
    refine wa_iret FieldType.int dX3_takeOff_19 rfl rfl (Nat.le_of_ble_eq_true rfl) (Nat.le_of_ble_eq_true rfl) ?_
    exact ⟨_, rfl, (w_fr.rf.set z_mEm).trans (z_frE h16.2.1 (fun q e => by rw [e]; exact z_mEm)), h16.2.2.md⟩
  | some k =>
    have hkl := z_idx_lt (by omega) i1
    have e1 := z_idx_eq (by omega) i1
    subst e1
    have hk6 : k < 6 := by omega
    obtain ⟨r, hk⟩ : ∃ r, (z_robs (z_cur S))[k]? = some r := ⟨_, List.getElem?_eq_getElem hkl⟩
    obtain ⟨q1, q2, q3, q4, q5, q6, q7⟩ := hr.rob hk
    obtain ⟨hrc, hrp, hp30, hrh⟩ := hs.2.2.2.2.2.2.1 r (List.mem_of_getElem? hk)
    cases ho : z_has r with
    | some o' =>
      have ho' := hrh o' ho
      rw [ho] at q3
      have ea : z_takeOffC (z_cur S) (nI k) = .inr (7, nI o') := by unfold z_takeOffC; rw [i1]; simp only [hk, ho]
      rw [ea]
      refine w_start (by decide) (Nat.le_of_ble_eq_true rfl) (fun X => ?_)
      refine wa_locals [(0, _), (1, _)] [0, 1] rfl ?_
      refine wa_aload_n 0 dX3_takeOff_0 rfl rfl ?_
      refine wa_iconst (0) dX3_takeOff_1 (by decide) ?_
      refine wa_putf [_, _, _, _, _, _, _, _, _, _, _, _, _, _, _, _, _, _, _, _] dX3_takeOff_2 pX3_49 hm (Nat.le_of_ble_eq_true rfl) rfl rfl rfl ?_
      refine wa_aload_n 0 dX3_takeOff_5 rfl rfl ?_
      refine wa_iload_n 1 dX3_takeOff_6 rfl rfl ?_
      refine wc_isI (wr_V dX3_takeOff_7 mX3_103 (sp_misRobotY H0 hr hs i1) hm0 rfl rfl rfl (Nat.le_of_ble_eq_true rfl)) ?_
      refine wa_if_ne 20 dX3_takeOff_10 rfl (fun c10 => ?_) (fun c10 => absurd c10 (by decide))
      refine wa_aload_n 0 dX3_takeOff_20 rfl rfl ?_
      refine wa_iload_n 1 dX3_takeOff_21 rfl rfl ?_
      refine wa_iconst (2) dX3_takeOff_22 (by decide) ?_
      refine wc_isI (wr_V dX3_takeOff_23 mX3_79 (sp_mof H0 hk6 (w := 2) (by decide)) hm0 rfl rfl rfl (Nat.le_of_ble_eq_true rfl)) ?_
      rw [q3]
      rw [show z_enc (some o') = nI o' from rfl]
      refine wa_if_lt 42 dX3_takeOff_26 rfl (fun c26 => absurd c26 (nI_pos (by omega))) (fun c26 => ?_)
      refine wa_aload_n 0 dX3_takeOff_29 rfl rfl ?_
      refine wa_bipush (7) dX3_takeOff_30 (by decide) ?_
      refine wa_aload_n 0 dX3_takeOff_32 rfl rfl ?_
      refine wa_iload_n 1 dX3_takeOff_33 rfl rfl ?_
      refine wa_iconst (2) dX3_takeOff_34 (by decide) ?_
      refine wc_isI (wr_V dX3_takeOff_35 mX3_79 (sp_mof H0 hk6 (w := 2) (by decide)) hm0 rfl rfl rfl (Nat.le_of_ble_eq_true rfl)) ?_
      rw [q3]
      rw [show z_enc (some o') = nI o' from rfl]
      refine wc_I (wr_V dX3_takeOff_38 mX3_90 (sp_mrefuse h0 (by decide)) hm0 rfl rfl rfl (Nat.le_of_ble_eq_true rfl)) (fun r38 M38 h38 => ?_)
      refine wa_iret FieldType.int dX3_takeOff_41 rfl rfl (Nat.le_of_ble_eq_true rfl) (Nat.le_of_ble_eq_true rfl) ?_
      exact ⟨_, rfl, (w_fr.rf.set z_mEm).trans (z_frE h38.2.1 (fun q e => by rw [e]; exact z_mEm)), h38.2.2.md⟩
    | none =>
      have hgd := hg.takeOff hk ho
      rw [ho] at q3
      have hwe : ∀ i, z_withFrom 0 ((z_robs (z_cur S)).eraseIdx k) i = (z_with (z_cur S) i).map (fun j => if k < j then j - 1 else j) := fun i => z_with_erase hk ho
      have hwl : ∀ i j, z_with (z_cur S) i = some j → j < 6 := fun i j e => by obtain ⟨r', h1, -⟩ := z_with_some e; have := (List.getElem?_eq_some_iff.mp h1).1; omega
      have en : nI (z_robs (z_cur S)).length - 1 = nI ((z_robs (z_cur S)).length - 1) := pk_sub (b := 1) (by omega)
      have ea : z_takeOffC (z_cur S) (nI k) = .inl (nI ((z_robs (z_cur S)).length - 1), z_setR (z_cur S) ((z_robs (z_cur S)).eraseIdx k)) := by unfold z_takeOffC; rw [i1]; simp only [hk, ho]
      rw [ea]
      refine w_start (by decide) (Nat.le_of_ble_eq_true rfl) (fun X => ?_)
      refine wa_locals [(0, _), (1, _)] [0, 1] rfl ?_
      refine wa_aload_n 0 dX3_takeOff_0 rfl rfl ?_
      refine wa_iconst (0) dX3_takeOff_1 (by decide) ?_
      refine wa_putf [_, _, _, _, _, _, _, _, _, _, _, _, _, _, _, _, _, _, _, _] dX3_takeOff_2 pX3_49 hm (Nat.le_of_ble_eq_true rfl) rfl rfl rfl ?_
      refine wa_aload_n 0 dX3_takeOff_5 rfl rfl ?_
      refine wa_iload_n 1 dX3_takeOff_6 rfl rfl ?_
      refine wc_isI (wr_V dX3_takeOff_7 mX3_103 (sp_misRobotY H0 hr hs i1) hm0 rfl rfl rfl (Nat.le_of_ble_eq_true rfl)) ?_
      refine wa_if_ne 20 dX3_takeOff_10 rfl (fun c10 => ?_) (fun c10 => absurd c10 (by decide))
      refine wa_aload_n 0 dX3_takeOff_20 rfl rfl ?_
      refine wa_iload_n 1 dX3_takeOff_21 rfl rfl ?_
      refine wa_iconst (2) dX3_takeOff_22 (by decide) ?_
      refine wc_isI (wr_V dX3_takeOff_23 mX3_79 (sp_mof H0 hk6 (w := 2) (by decide)) hm0 rfl rfl rfl (Nat.le_of_ble_eq_true rfl)) ?_
      rw [q3]
      refine wa_if_lt 42 dX3_takeOff_26 rfl (fun c26 => ?_) (fun c26 => absurd (by decide) c26)
      refine wa_aload_n 0 dX3_takeOff_42 rfl rfl ?_
      refine wc_V (wr_V dX3_takeOff_43 mX3_100 (sp_mchange h0) hm0 rfl rfl rfl (Nat.le_of_ble_eq_true rfl)) (fun M43 h43 => ?_)
      obtain ⟨k0, pf2, k2⟩ := id h43
      have k1 := z_frE (m := m) k0 (fun q e => e.elim (fun e => by rw [e]; exact z_mEm) (fun e => by rw [e]; exact ⟨by omega, by omega⟩))
      have km := k2.1
      have kf := k2.2.1
      refine wa_aload_n 0 dX3_takeOff_46 rfl rfl ?_
      refine wa_getf dX3_takeOff_47 gX3_9 km rfl ?_
      refine wa_iconst (3) dX3_takeOff_50 (by decide) ?_
      refine wa_dup2 dX3_takeOff_51 rfl rfl ?_
      refine wa_iald dX3_takeOff_52 kf (vp_in_nI (n := 3) (by omega) (by omega)) ?_
      rw [hr.rn]
      refine wa_iconst (1) dX3_takeOff_53 (by decide) ?_
      refine wa_isub dX3_takeOff_54 ?_
      rw [en]
      refine wa_iast dX3_takeOff_55 kf (vp_in_nI (n := 3) (by omega) (by omega)) ?_
      rw [show Int32.toNatClampNeg 3 = 3 from rfl]
      refine wa_aload_n 0 dX3_takeOff_56 rfl rfl ?_
      refine wa_getf dX3_takeOff_57 gX3_9 (w_sne km (by omega)) rfl ?_
      refine wa_iload_n 1 dX3_takeOff_60 rfl rfl ?_
      refine wa_iconst (1) dX3_takeOff_61 (by decide) ?_
      refine wa_iadd dX3_takeOff_62 ?_
      rw [show nI k + 1 = nI (k + 1) from nI_1 k]
      refine wc_isI (wr_S dX3_takeOff_63 mX3_75 sp_mat rfl rfl rfl (Nat.le_of_ble_eq_true rfl)) ?_
      refine wa_aload_n 0 dX3_takeOff_66 rfl rfl ?_
      refine wa_getf dX3_takeOff_67 gX3_9 (w_sne km (by omega)) rfl ?_
      refine wa_iload_n 1 dX3_takeOff_70 rfl rfl ?_
      refine wc_isI (wr_S dX3_takeOff_71 mX3_75 sp_mat rfl rfl rfl (Nat.le_of_ble_eq_true rfl)) ?_
      refine wa_bipush (36) dX3_takeOff_74 (by decide) ?_
      refine wa_aload_n 0 dX3_takeOff_76 rfl rfl ?_
      refine wa_getf dX3_takeOff_77 gX3_9 (w_sne km (by omega)) rfl ?_
      refine wa_iconst (3) dX3_takeOff_80 (by decide) ?_
      refine wa_iald dX3_takeOff_81 (w_set_self kf) (vp_in_nI (n := 3) (by omega) (by omega)) ?_
      rw [show (upd f 3 (nI ((z_robs (z_cur S)).length - 1))) (Int32.toNatClampNeg 3) = nI ((z_robs (z_cur S)).length - 1) from if_pos rfl]
      refine wa_iload_n 1 dX3_takeOff_82 rfl rfl ?_
      refine wa_isub dX3_takeOff_83 ?_
      rw [show nI ((z_robs (z_cur S)).length - 1) - nI k = nI ((z_robs (z_cur S)).length - 1 - k) from pk_sub (by omega)]
      refine wa_imul dX3_takeOff_84 ?_
      rw [show (36 : Int32) * nI ((z_robs (z_cur S)).length - 1 - k) = nI (36 * ((z_robs (z_cur S)).length - 1 - k)) from pk_mul 36 _]
      refine wa_copyi (104 + 36 * (k + 1)) (104 + 36 * k) (36 * ((z_robs (z_cur S)).length - 1 - k)) dX3_takeOff_85 q2037 (w_set_self kf) (w_set_self kf) rfl rfl rfl (by omega) (by omega) (by decide) (by decide) rfl (Nat.le_of_ble_eq_true rfl) ?_
      refine wa_iconst (0) dX3_takeOff_88 (by decide) ?_
      refine wa_istore_n [(2, _), (0, _), (1, _)] dX3_takeOff_89 rfl (Nat.le_of_ble_eq_true rfl) rfl ?_
      refine wa_locals [(2, _), (0, _), (1, _)] [0, 1, 2] rfl ?_
      have e2 : ∀ j, j ≠ 3 → (j < 104 + 36 * k ∨ 320 ≤ j) → (va_cpy (upd f 3 (nI ((z_robs (z_cur S)).length - 1))) (upd f 3 (nI ((z_robs (z_cur S)).length - 1))) (104 + 36 * (k + 1)) (104 + 36 * k) (36 * ((z_robs (z_cur S)).length - 1 - k))) j = f j := fun j h1 h2 => (if_neg (by omega)).trans (if_neg h1)
      have e3 : (va_cpy (upd f 3 (nI ((z_robs (z_cur S)).length - 1))) (upd f 3 (nI ((z_robs (z_cur S)).length - 1))) (104 + 36 * (k + 1)) (104 + 36 * k) (36 * ((z_robs (z_cur S)).length - 1 - k))) 3 = nI ((z_robs (z_cur S)).length - 1) := (if_neg (by omega)).trans (if_pos rfl)
      have e4 : ∀ i j, k ≤ i → i < (z_robs (z_cur S)).length - 1 → j < 36 → (va_cpy (upd f 3 (nI ((z_robs (z_cur S)).length - 1))) (upd f 3 (nI ((z_robs (z_cur S)).length - 1))) (104 + 36 * (k + 1)) (104 + 36 * k) (36 * ((z_robs (z_cur S)).length - 1 - k))) (104 + 36 * i + j) = f (104 + 36 * (i + 1) + j) := fun i j h1 h2 h3 => (if_pos (by omega)).trans ((if_neg (by omega)).trans (congrArg f (by omega)))
      have LP : ∀ (n i : Nat) (N : w_M) (f1 : Nat → Int32), i + n = (z_ords (z_cur S)).length → w_fr M43 N (fun q => q = m + 1) → N.get (m + 1) = some (.inl (.int, 400, .inl f1)) → (∀ j, (∀ y, y < i → j ≠ 320 + 8 * y + 3) → f1 j = (va_cpy (upd f 3 (nI ((z_robs (z_cur S)).length - 1))) (upd f 3 (nI ((z_robs (z_cur S)).length - 1))) (104 + 36 * (k + 1)) (104 + 36 * k) (36 * ((z_robs (z_cur S)).length - 1 - k))) j) → (∀ y, y < i → f1 (320 + 8 * y + 3) = z_enc (z_withFrom 0 ((z_robs (z_cur S)).eraseIdx k) y)) → w_A l G tX3_takeOff (6, 0, 0) X 0 0 N 90 [(2, .int (nI i)), (0, .ref m), (1, .int (nI k))] [] (z_mO b M m S (.inl (nI ((z_robs (z_cur S)).length - 1), z_setR (z_cur S) ((z_robs (z_cur S)).eraseIdx k)))) := by
        intro n
        induction n with
        | zero =>
          intro i N f1 hn hfN hgN hold hnew
          have hi : i = (z_ords (z_cur S)).length := by omega
          subst hi
          have kmN := hfN.2 _ _ km (by omega)
          have h4 : f1 (Int32.toNatClampNeg 4) = nI (z_ords (z_cur S)).length := (hold 4 (fun y hy => by omega)).trans ((e2 4 (by decide) (by omega)).trans hr.on)
          have h3 : f1 (Int32.toNatClampNeg 3) = nI ((z_robs (z_cur S)).length - 1) := (hold 3 (fun y hy => by omega)).trans e3
          have hmr : z_mr (z_setR (z_cur S) ((z_robs (z_cur S)).eraseIdx k)) f1 := by
            have hel : ((z_robs (z_cur S)).eraseIdx k).length = (z_robs (z_cur S)).length - 1 := List.length_eraseIdx_of_lt hkl
            refine z_mr_RO (os := z_ords (z_cur S)) hr hs (fun j j1 j2 j3 => (hold j (fun y hy => by omega)).trans (e2 j j2 (by omega))) (by rw [hel]; exact h3) h4 (fun i r' hi => ?_) (fun i o hi => ?_)
            · have hil := (List.getElem?_eq_some_iff.mp hi).1
              rw [hel] at hil
              have hi2 := z_erase_at hi
              have hm2 := hs.2.2.2.2.2.2.1 r' (List.mem_of_getElem? hi2)
              by_cases hik : i < k
              · rw [if_pos hik] at hi2
                exact (hr.rob hi2).to hm2.2.2.1 (fun j hj => (hold _ (fun y hy => by omega)).trans (e2 _ (by omega) (by omega)))
              · rw [if_neg hik] at hi2
                exact (hr.rob hi2).to hm2.2.2.1 (fun j hj => (hold _ (fun y hy => by omega)).trans (e4 i j (by omega) hil hj))
            · have hil := (List.getElem?_eq_some_iff.mp hi).1
              obtain ⟨p1, p2, p3, p4, p5, p6⟩ := hr.ord hi
              have ho3 := (hs.2.2.2.2.2.2.2 o (List.mem_of_getElem? hi)).2.1
              have hO : ∀ j, j < 8 → j ≠ 3 → f1 (320 + 8 * i + j) = f (320 + 8 * i + j) := fun j h1 h2 => (hold _ (fun y hy => by omega)).trans (e2 _ (by omega) (by omega))
              exact ⟨(hO 0 (by decide) (by decide)).trans p1, (hO 1 (by decide) (by decide)).trans p2, (hO 2 (by decide) (by decide)).trans p3, hnew i hil, (hO 4 (by decide) (by decide)).trans p5, fun j q hj => by
                have hj3 := (List.getElem?_eq_some_iff.mp hj).1
                have := hO (5 + j) (by omega) (by omega)
                rw [← Nat.add_assoc] at this
                exact this.trans (p6 j q hj)⟩
          refine wa_iload_n 0 dX3_takeOff_90 rfl rfl ?_
          refine wa_aload_n 1 dX3_takeOff_91 rfl rfl ?_
          refine wa_getf dX3_takeOff_92 gX3_9 kmN rfl ?_
          refine wa_iconst (4) dX3_takeOff_95 (by decide) ?_
          refine wa_iald dX3_takeOff_96 hgN (vp_in_nI (n := 4) (by omega) (by omega)) ?_
          rw [h4]
          refine wa_icmp_ge 140 dX3_takeOff_97 rfl (fun c97 => ?_) (fun c97 => absurd (nI_le (by omega) (by omega)) c97)
          refine wa_aload_n 1 dX3_takeOff_140 rfl rfl ?_
          refine wa_getf dX3_takeOff_141 gX3_9 kmN rfl ?_
          refine wa_iconst (3) dX3_takeOff_144 (by decide) ?_
          refine wa_iald dX3_takeOff_145 hgN (vp_in_nI (n := 3) (by omega) (by omega)) ?_
          rw [h3]
          refine wa_iret FieldType.int dX3_takeOff_146 rfl rfl (Nat.le_of_ble_eq_true rfl) (Nat.le_of_ble_eq_true rfl) ?_
          exact ⟨_, rfl, ((w_fr.rf.set z_mEm).trans k1).trans (z_frE hfN (fun q e => by rw [e]; exact z_mEs)), rfl, (k2.row hfN hgN hmr hgd).md⟩
        | succ n ih =>
          intro i N f1 hn hfN hgN hold hnew
          have kmN := hfN.2 _ _ km (by omega)
          have hil : i < (z_ords (z_cur S)).length := by omega
          have h4 : f1 (Int32.toNatClampNeg 4) = nI (z_ords (z_cur S)).length := (hold 4 (fun y hy => by omega)).trans ((e2 4 (by decide) (by omega)).trans hr.on)
          obtain ⟨o, hi⟩ : ∃ o, (z_ords (z_cur S))[i]? = some o := ⟨_, List.getElem?_eq_getElem hil⟩
          have hby : f1 (320 + 8 * i + 3) = z_enc (z_with (z_cur S) i) := (hold _ (fun y hy => by omega)).trans ((e2 _ (by omega) (by omega)).trans (hr.ord hi).2.2.2.1)
          refine wa_iload_n 0 dX3_takeOff_90 rfl rfl ?_
          refine wa_aload_n 1 dX3_takeOff_91 rfl rfl ?_
          refine wa_getf dX3_takeOff_92 gX3_9 kmN rfl ?_
          refine wa_iconst (4) dX3_takeOff_95 (by decide) ?_
          refine wa_iald dX3_takeOff_96 hgN (vp_in_nI (n := 4) (by omega) (by omega)) ?_
          rw [h4]
          refine wa_icmp_ge 140 dX3_takeOff_97 rfl (fun c97 => absurd c97 (nI_lt_not (by omega) (by omega))) (fun c97 => ?_)
          refine wa_aload_n 1 dX3_takeOff_100 rfl rfl ?_
          refine wa_getf dX3_takeOff_101 gX3_9 kmN rfl ?_
          refine wa_iload_n 0 dX3_takeOff_104 rfl rfl ?_
          refine wc_isI (wr_S dX3_takeOff_105 mX3_106 sp_mord rfl rfl rfl (Nat.le_of_ble_eq_true rfl)) ?_
          refine wa_iconst (3) dX3_takeOff_108 (by decide) ?_
          refine wa_iadd dX3_takeOff_109 ?_
          rw [show nI (320 + 8 * i) + 3 = nI (320 + 8 * i + 3) from nI_add _ 3]
          refine wa_dup2 dX3_takeOff_110 rfl rfl ?_
          refine wa_iald dX3_takeOff_111 hgN (vp_in_nI (by omega) (by omega)) ?_
          rw [nI_clamp (by omega), hby]
          refine wa_aload_n 1 dX3_takeOff_112 rfl rfl ?_
          refine wa_getf dX3_takeOff_113 gX3_9 kmN rfl ?_
          refine wa_iload_n 0 dX3_takeOff_116 rfl rfl ?_
          refine wc_isI (wr_S dX3_takeOff_117 mX3_106 sp_mord rfl rfl rfl (Nat.le_of_ble_eq_true rfl)) ?_
          refine wa_iconst (3) dX3_takeOff_120 (by decide) ?_
          refine wa_iadd dX3_takeOff_121 ?_
          rw [show nI (320 + 8 * i) + 3 = nI (320 + 8 * i + 3) from nI_add _ 3]
          refine wa_iald dX3_takeOff_122 hgN (vp_in_nI (by omega) (by omega)) ?_
          rw [nI_clamp (by omega), hby]
          refine wa_iload_n 2 dX3_takeOff_123 rfl rfl ?_
          refine wa_icmp_le 131 dX3_takeOff_124 rfl (fun c124 => ?_) (fun c124 => ?_)
          ·
            refine wa_iconst (0) dX3_takeOff_131 (by decide) ?_
            refine wa_isub dX3_takeOff_132 ?_
            refine wa_iast dX3_takeOff_133 hgN (vp_in_nI (by omega) (by omega)) ?_
            rw [nI_clamp (by omega)]
            refine wa_iinc 0 [(2, _), (0, _), (1, _)] dX3_takeOff_134 rfl (w_inc i) (Nat.le_of_ble_eq_true rfl) rfl ?_
            refine wa_goto 90 dX3_takeOff_137 rfl ?_
            refine wa_locals [(2, _), (0, _), (1, _)] [0, 1, 2] rfl ?_
            refine ih (i + 1) _ _ (by omega) hfN.me (w_set_self hgN) (fun j hj => (if_neg (hj i (by omega))).trans (hold j (fun y hy => hj y (by omega)))) (fun y hy => ?_)
            by_cases e : y = i
            · subst e
              refine (if_pos rfl).trans ?_
              rw [hwe]
              cases hw : z_with (z_cur S) y with
              | none => exact Int32.sub_zero _
              | some j =>
                have hj6 := hwl y j hw
                rw [hw] at c124
                have hjk := (nI_leI (a := j) (b := k) (by omega) (by omega)).mp c124
                show nI j - 0 = nI (if k < j then j - 1 else j)
                rw [if_neg (by omega), Int32.sub_zero]
            · exact (if_neg (by omega)).trans (hnew y (by omega))
          ·
            refine wa_iconst (1) dX3_takeOff_127 (by decide) ?_
            refine wa_goto 132 dX3_takeOff_128 rfl ?_
            refine wa_isub dX3_takeOff_132 ?_
            refine wa_iast dX3_takeOff_133 hgN (vp_in_nI (by omega) (by omega)) ?_
            rw [nI_clamp (by omega)]
            refine wa_iinc 0 [(2, _), (0, _), (1, _)] dX3_takeOff_134 rfl (w_inc i) (Nat.le_of_ble_eq_true rfl) rfl ?_
            refine wa_goto 90 dX3_takeOff_137 rfl ?_
            refine wa_locals [(2, _), (0, _), (1, _)] [0, 1, 2] rfl ?_
            refine ih (i + 1) _ _ (by omega) hfN.me (w_set_self hgN) (fun j hj => (if_neg (hj i (by omega))).trans (hold j (fun y hy => hj y (by omega)))) (fun y hy => ?_)
            by_cases e : y = i
            · subst e
              refine (if_pos rfl).trans ?_
              rw [hwe]
              cases hw : z_with (z_cur S) y with
              | none => rw [hw] at c124; exact absurd (Int32.le_of_lt (Int32.lt_of_lt_of_le (show z_enc none < 0 by decide) (Int32.not_lt.mp (nI_pos (n := k) (by omega))))) c124
              | some j =>
                have hj6 := hwl y j hw
                rw [hw] at c124
                have hjk : k < j := Classical.byContradiction fun z => c124 (nI_le (a := j) (b := k) (by omega) (by omega))
                show nI j - 1 = nI (if k < j then j - 1 else j)
                rw [if_pos hjk]
                exact pk_sub (b := 1) (by omega)
            · exact (if_neg (by omega)).trans (hnew y (by omega))
      exact LP _ 0 _ _ (Nat.zero_add _) w_fr_me.me (w_set_self (w_set_self kf)) (fun j _ => rfl) (fun y hy => absurd hy (Nat.not_lt_zero _))
theorem sp_morder (h : z_mod b M m S th) {due a1 a2 a3 : Int32} : w_S l G tX3_order_2 (6, 0, 0) [.ref m, .int due, .int a1, .int a2, .int a3] M (z_mO b M m S (z_orderX (z_cur S) due a1 a2 a3)) := by
  obtain ⟨is, rr, rc, f, sv, pf, ip, h⟩ := h
  obtain ⟨hm, hf, -⟩ := id h
  have H := h.mh
  have hr := h.mr
  have hg := h.gd
  have hs := hg.1
  have hh := hg.2.2.2.2.2.2.2
  have hsz := hs.size
  have hR6 : (z_robs (z_cur S)).length ≤ 6 := hs.2.2.2.2.1
  have hO10 : (z_ords (z_cur S)).length ≤ 10 := hs.2.2.2.2.2.1
  have h0 := h.thr 0
  have H0 := h0.mh
  obtain ⟨⟨g4, hg4⟩, -⟩ := id h0.2.2.2.2.2.1
  have hscr0 := h0.2.2.2.2.2.1
  obtain ⟨vv, hvv⟩ : ∃ vv : Nat → Int32, vv = upd (upd (upd g4 0 a1) 1 a2) 2 a3 := ⟨_, rfl⟩
  have v0 : vv 0 = a1 := by rw [hvv]; rfl
  have v1 : vv 1 = a2 := by rw [hvv]; rfl
  have v2 : vv 2 = a3 := by rw [hvv]; rfl
  obtain ⟨N0, hN0e⟩ : ∃ N0, N0 = ((((M.set m (z_mo m is (nI (z_past S).length) 0 (z_why S) (z_det S) (nI (z_txt S).length) (z_flt S) rr rc)).set (m + 4) (.inl (.int, 3, .inl (upd g4 0 a1)))).set (m + 4) (.inl (.int, 3, .inl (upd (upd g4 0 a1) 1 a2)))).set (m + 4) (.inl (.int, 3, .inl vv))) := ⟨_, rfl⟩
  have hfr0 : w_fr M N0 (z_mE m) := by
    rw [hN0e]
    exact (((w_fr.rf.set z_mEm).set ⟨by omega, by omega⟩).set ⟨by omega, by omega⟩).set ⟨by omega, by omega⟩
  have hlN : N0.get (m + 4) = some (.inl (.int, 3, .inl vv)) := by
    rw [hN0e]
    exact w_set_self (w_set_self (w_set_self hg4))
  have hmd : z_modL b N0 m S 0 is rr rc f sv pf ip := by
    have hfrs : w_fr (M.set m (z_mo m is (nI (z_past S).length) 0 (z_why S) (z_det S) (nI (z_txt S).length) (z_flt S) rr rc)) N0 (fun q => q = m + 4) := by
      rw [hN0e]
      exact w_fr_me.me.me
    refine h0.scr (hfrs.mono (fun q _ e => by omega)) ?_
    obtain ⟨-, ⟨z2, w2⟩, ⟨z3, w3⟩, ⟨z4, w4⟩, ⟨z5, w5⟩, ⟨z6, w6⟩, ⟨z7, w7⟩⟩ := hscr0
    exact ⟨⟨vv, hlN⟩, ⟨z2, hfrs.2 _ _ w2 (by omega)⟩, ⟨z3, hfrs.2 _ _ w3 (by omega)⟩, ⟨z4, hfrs.2 _ _ w4 (by omega)⟩, ⟨z5, hfrs.2 _ _ w5 (by omega)⟩, ⟨z6, hfrs.2 _ _ w6 (by omega)⟩, ⟨z7, hfrs.2 _ _ w7 (by omega)⟩⟩
  have hmN := hmd.1
  have hfN := hmd.2.1
  have HN := hmd.mh
  have hng : ∀ x : Int32, z_idx x (z_size (z_cur S)) ≠ none → x ≠ -1 := fun x h1 e => h1 (by rw [e]; rfl)
  have hbad : ∀ k, k < 3 → z_idx (vv k) (z_size (z_cur S)) = none → (k = 0 ∨ vv k ≠ -1) → z_orderX (z_cur S) due a1 a2 a3 = .inr (1, 0) := by
    intro k hk h1 h2
    unfold z_orderX
    match k, hk with
    | 0, _ =>
      rw [v0] at h1
      exact if_pos (Or.inl h1)
    | 1, _ =>
      rw [v1] at h1 h2
      have h2 : a2 ≠ -1 := h2.elim (fun z => absurd z (by decide)) id
      by_cases hf1 : z_idx a1 (z_size (z_cur S)) = none
      · exact if_pos (Or.inl hf1)
      · rw [if_neg (fun z => z.elim hf1 (fun z => h2 z.1.1)), if_neg (fun z => h2 z.1)]
        unfold z_orderC
        rw [z_idxs_no h1 _ (by unfold z_linesL; rw [if_neg h2]; split <;> simp)]
    | 2, _ =>
      rw [v2] at h1 h2
      have h2 : a3 ≠ -1 := h2.elim (fun z => absurd z (by decide)) id
      by_cases hf1 : z_idx a1 (z_size (z_cur S)) = none
      · exact if_pos (Or.inl hf1)
      · by_cases hs1 : a2 = -1
        · exact if_pos (Or.inr ⟨⟨hs1, h2⟩, h1⟩)
        · rw [if_neg (fun z => z.elim hf1 (fun z => hs1 z.1.1)), if_neg (fun z => hs1 z.1)]
          unfold z_orderC
          rw [z_idxs_no h1 _ (by unfold z_linesL; rw [if_neg hs1, if_neg h2]; simp)]
  refine w_start (by decide) (Nat.le_of_ble_eq_true rfl) (fun X => ?_)
  refine wa_locals [(0, _), (1, _), (2, _), (3, _), (4, _)] [0, 1, 2, 3, 4] rfl ?_
  have REST : ∀ (js : List Nat) (v6 : Int32), js.length ≤ 3 → 0 < js.length → (∀ j ∈ js, j < z_size (z_cur S)) → (∀ (i q : Nat), js[i]? = some q → vv i = nI q) → ¬ (a2 = -1 ∧ ¬ a3 = -1) →
      z_orderX (z_cur S) due a1 a2 a3 = (if 0 ≤ due ∧ due ≤ 999 then if (z_ords (z_cur S)).length = 10 then .inr (3, 0) else match js.find? (fun j => decide (z_kinds (z_cur S) j ≠ 0)) with
        | some j => .inr (12, nI j)
        | none => .inl (nI (z_ords (z_cur S)).length, z_setO (z_cur S) (z_ords (z_cur S) ++ [(due, js, 0, 0, -1)])) else .inr (2, 0)) →
      w_A l G tX3_order_2 (6, 0, 0) X 0 0 N0 101 [(6, .int v6), (5, .int (nI js.length)), (0, .ref m), (1, .int due), (2, .int a1), (3, .int a2), (4, .int a3)] [] (z_mO b M m S (z_orderX (z_cur S) due a1 a2 a3)) := by
    intro js v6 hj3 hj0 hjs hjv hnn eX
    have hcond : ¬ a2 = -1 ∨ a3 = -1 := Classical.byContradiction fun z => hnn ⟨Classical.not_not.mp (fun y => z (Or.inl y)), fun y => z (Or.inr y)⟩
    by_cases hdu : 0 ≤ due ∧ due ≤ 999
    ·
      rw [if_pos hdu] at eX
      have L2 : ∀ (n k : Nat), k + n = js.length → (js.drop k).find? (fun j => decide (z_kinds (z_cur S) j ≠ 0)) = js.find? (fun j => decide (z_kinds (z_cur S) j ≠ 0)) → ¬ (z_ords (z_cur S)).length = 10 → w_A l G tX3_order_2 (6, 0, 0) X 0 0 N0 151 [(6, .int (nI k)), (5, .int (nI js.length)), (0, .ref m), (1, .int due), (2, .int a1), (3, .int a2), (4, .int a3)] [] (z_mO b M m S (z_orderX (z_cur S) due a1 a2 a3)) := by
        intro n
        induction n with
        | zero =>
          intro k hn he h10
          rw [if_neg h10, z_find_end (by omega) he] at eX
          have hgd := hg.order (due := due) (by omega) hj0 hj3 hjs
          rw [eX]
          refine wa_iload 0 dX3_order_2_151 rfl ?_
          refine wa_iload 1 dX3_order_2_153 rfl ?_
          refine wa_icmp_ge 196 dX3_order_2_155 rfl (fun c155 => ?_) (fun c155 => absurd (nI_le (by omega) (by omega)) c155)
          refine wa_aload_n 2 dX3_order_2_196 rfl rfl ?_
          refine wc_V (wr_V dX3_order_2_197 mX3_100 (sp_mchange hmd) hmN rfl rfl rfl (Nat.le_of_ble_eq_true rfl)) (fun M197 h197 => ?_)
          obtain ⟨k0, pf2, k2⟩ := id h197
          have k1 := z_frE (m := m) k0 (fun q e => e.elim (fun e => by rw [e]; exact z_mEm) (fun e => by rw [e]; exact ⟨by omega, by omega⟩))
          have km := k2.1
          have kf := k2.2.1
          have kl : M197.get (m + 4) = some (.inl (.int, 3, .inl vv)) := k0.2 _ _ hlN (fun e => e.elim (fun e => by omega) (fun e => by omega))
          refine wa_aload_n 2 dX3_order_2_200 rfl rfl ?_
          refine wa_getf dX3_order_2_201 gX3_9 km rfl ?_
          refine wa_iconst (4) dX3_order_2_204 (by decide) ?_
          refine wa_iald dX3_order_2_205 kf (vp_in_nI (n := 4) (by omega) (by omega)) ?_
          rw [hr.on]
          generalize hON : (z_ords (z_cur S)).length = on at *
          refine wa_istore [(6, _), (5, _), (0, _), (1, _), (2, _), (3, _), (4, _)] dX3_order_2_206 (Nat.le_of_ble_eq_true rfl) rfl ?_
          refine wa_aload_n 2 dX3_order_2_208 rfl rfl ?_
          refine wa_getf dX3_order_2_209 gX3_9 km rfl ?_
          refine wa_iload 0 dX3_order_2_212 rfl ?_
          refine wc_isI (wr_S dX3_order_2_214 mX3_106 sp_mord rfl rfl rfl (Nat.le_of_ble_eq_true rfl)) ?_
          refine wa_iconst (0) dX3_order_2_217 (by decide) ?_
          refine wa_iadd dX3_order_2_218 ?_
          refine wa_iload_n 3 dX3_order_2_219 rfl rfl ?_
          rw [show nI (320 + 8 * on) + 0 = nI (320 + 8 * on) from Int32.add_zero _]
          refine wa_iast dX3_order_2_220 kf (vp_in_nI (by omega) (by omega)) ?_
          rw [nI_clamp (by omega)]
          refine wa_aload_n 2 dX3_order_2_221 rfl rfl ?_
          refine wa_getf dX3_order_2_222 gX3_9 (w_sne km (by omega)) rfl ?_
          refine wa_iload 0 dX3_order_2_225 rfl ?_
          refine wc_isI (wr_S dX3_order_2_227 mX3_106 sp_mord rfl rfl rfl (Nat.le_of_ble_eq_true rfl)) ?_
          refine wa_iconst (1) dX3_order_2_230 (by decide) ?_
          refine wa_iadd dX3_order_2_231 ?_
          refine wa_iload 1 dX3_order_2_232 rfl ?_
          rw [show nI (320 + 8 * on) + 1 = nI (320 + 8 * on + 1) from nI_1 _]
          refine wa_iast dX3_order_2_234 (w_set_self kf) (vp_in_nI (by omega) (by omega)) ?_
          rw [nI_clamp (by omega)]
          refine wa_aload_n 2 dX3_order_2_235 rfl rfl ?_
          refine wa_getf dX3_order_2_236 gX3_9 (w_sne (w_sne km (by omega)) (by omega)) rfl ?_
          refine wa_iload 0 dX3_order_2_239 rfl ?_
          refine wc_isI (wr_S dX3_order_2_241 mX3_106 sp_mord rfl rfl rfl (Nat.le_of_ble_eq_true rfl)) ?_
          refine wa_iconst (2) dX3_order_2_244 (by decide) ?_
          refine wa_iadd dX3_order_2_245 ?_
          refine wa_iconst (0) dX3_order_2_246 (by decide) ?_
          rw [show nI (320 + 8 * on) + 2 = nI (320 + 8 * on + 2) from nI_add _ 2]
          refine wa_iast dX3_order_2_247 (w_set_self (w_set_self kf)) (vp_in_nI (by omega) (by omega)) ?_
          rw [nI_clamp (by omega)]
          refine wa_aload_n 2 dX3_order_2_248 rfl rfl ?_
          refine wa_getf dX3_order_2_249 gX3_9 (w_sne (w_sne (w_sne km (by omega)) (by omega)) (by omega)) rfl ?_
          refine wa_iload 0 dX3_order_2_252 rfl ?_
          refine wc_isI (wr_S dX3_order_2_254 mX3_106 sp_mord rfl rfl rfl (Nat.le_of_ble_eq_true rfl)) ?_
          refine wa_iconst (3) dX3_order_2_257 (by decide) ?_
          refine wa_iadd dX3_order_2_258 ?_
          refine wa_iconst (-1) dX3_order_2_259 (by decide) ?_
          rw [show nI (320 + 8 * on) + 3 = nI (320 + 8 * on + 3) from nI_add _ 3]
          refine wa_iast dX3_order_2_260 (w_set_self (w_set_self (w_set_self kf))) (vp_in_nI (by omega) (by omega)) ?_
          rw [nI_clamp (by omega)]
          refine wa_aload_n 2 dX3_order_2_261 rfl rfl ?_
          refine wa_getf dX3_order_2_262 gX3_9 (w_sne (w_sne (w_sne (w_sne km (by omega)) (by omega)) (by omega)) (by omega)) rfl ?_
          refine wa_iload 0 dX3_order_2_265 rfl ?_
          refine wc_isI (wr_S dX3_order_2_267 mX3_106 sp_mord rfl rfl rfl (Nat.le_of_ble_eq_true rfl)) ?_
          refine wa_iconst (4) dX3_order_2_270 (by decide) ?_
          refine wa_iadd dX3_order_2_271 ?_
          refine wa_iconst (-1) dX3_order_2_272 (by decide) ?_
          rw [show nI (320 + 8 * on) + 4 = nI (320 + 8 * on + 4) from nI_add _ 4]
          refine wa_iast dX3_order_2_273 (w_set_self (w_set_self (w_set_self (w_set_self kf)))) (vp_in_nI (by omega) (by omega)) ?_
          rw [nI_clamp (by omega)]
          refine wa_aload_n 2 dX3_order_2_274 rfl rfl ?_
          refine wa_getf dX3_order_2_275 gX3_19 (w_sne (w_sne (w_sne (w_sne (w_sne km (by omega)) (by omega)) (by omega)) (by omega)) (by omega)) rfl ?_
          refine wa_iconst (0) dX3_order_2_278 (by decide) ?_
          refine wa_aload_n 2 dX3_order_2_279 rfl rfl ?_
          refine wa_getf dX3_order_2_280 gX3_9 (w_sne (w_sne (w_sne (w_sne (w_sne km (by omega)) (by omega)) (by omega)) (by omega)) (by omega)) rfl ?_
          refine wa_iload 0 dX3_order_2_283 rfl ?_
          refine wc_isI (wr_S dX3_order_2_285 mX3_106 sp_mord rfl rfl rfl (Nat.le_of_ble_eq_true rfl)) ?_
          refine wa_iconst (5) dX3_order_2_288 (by decide) ?_
          refine wa_iadd dX3_order_2_289 ?_
          rw [show nI (320 + 8 * on) + 5 = nI (320 + 8 * on + 5) from nI_add _ 5]
          refine wa_iconst (3) dX3_order_2_290 (by decide) ?_
          refine wa_copyi 0 (320 + 8 * on + 5) 3 dX3_order_2_291 q2037 (w_sne (w_sne (w_sne (w_sne (w_sne kl (by omega)) (by omega)) (by omega)) (by omega)) (by omega)) (w_set_self (w_set_self (w_set_self (w_set_self (w_set_self kf))))) rfl rfl rfl (by decide) (by omega) (by decide) (by decide) rfl (Nat.le_of_ble_eq_true rfl) ?_
          refine wa_aload_n 2 dX3_order_2_294 rfl rfl ?_
          refine wa_getf dX3_order_2_295 gX3_9 (w_sne (w_sne (w_sne (w_sne (w_sne (w_sne km (by omega)) (by omega)) (by omega)) (by omega)) (by omega)) (by omega)) rfl ?_
          refine wa_iconst (4) dX3_order_2_298 (by decide) ?_
          refine wa_dup2 dX3_order_2_299 rfl rfl ?_
          refine wa_iald dX3_order_2_300 (w_set_self (w_set_self (w_set_self (w_set_self (w_set_self (w_set_self kf)))))) (vp_in_nI (n := 4) (by omega) (by omega)) ?_
          rw [show Int32.toNatClampNeg 4 = 4 from rfl]
          rw [show va_cpy vv (upd (upd (upd (upd (upd f (320 + 8 * on) due) (320 + 8 * on + 1) (nI js.length)) (320 + 8 * on + 2) 0) (320 + 8 * on + 3) (-1)) (320 + 8 * on + 4) (-1)) 0 (320 + 8 * on + 5) 3 4 = nI on from (if_neg (by omega)).trans ((if_neg (by omega)).trans ((if_neg (by omega)).trans ((if_neg (by omega)).trans ((if_neg (by omega)).trans ((if_neg (by omega)).trans (hr.on.trans (congrArg nI hON)))))))]
          refine wa_iconst (1) dX3_order_2_301 (by decide) ?_
          refine wa_iadd dX3_order_2_302 ?_
          rw [show nI on + 1 = nI (on + 1) from nI_1 _]
          refine wa_iast dX3_order_2_303 (w_set_self (w_set_self (w_set_self (w_set_self (w_set_self (w_set_self kf)))))) (vp_in_nI (n := 4) (by omega) (by omega)) ?_
          rw [show Int32.toNatClampNeg 4 = 4 from rfl]
          refine wa_iload 0 dX3_order_2_304 rfl ?_
          refine wa_iret FieldType.int dX3_order_2_306 rfl rfl (Nat.le_of_ble_eq_true rfl) (Nat.le_of_ble_eq_true rfl) ?_
          have hU : ∀ i, i ≠ 4 → i < 320 + 8 * on → (upd (va_cpy vv (upd (upd (upd (upd (upd f (320 + 8 * on) due) (320 + 8 * on + 1) (nI js.length)) (320 + 8 * on + 2) 0) (320 + 8 * on + 3) (-1)) (320 + 8 * on + 4) (-1)) 0 (320 + 8 * on + 5) 3) 4 (nI (on + 1))) i = f i := fun i h1 h2 => (if_neg h1).trans ((if_neg (by omega)).trans ((if_neg (by omega)).trans ((if_neg (by omega)).trans ((if_neg (by omega)).trans ((if_neg (by omega)).trans (if_neg (by omega)))))))
          have hmr : z_mr (z_setO (z_cur S) (z_ords (z_cur S) ++ [(due, js, 0, 0, -1)])) (upd (va_cpy vv (upd (upd (upd (upd (upd f (320 + 8 * on) due) (320 + 8 * on + 1) (nI js.length)) (320 + 8 * on + 2) 0) (320 + 8 * on + 3) (-1)) (320 + 8 * on + 4) (-1)) 0 (320 + 8 * on + 5) 3) 4 (nI (on + 1))) := by
            refine z_mr_RO (rs := z_robs (z_cur S)) hr hs (fun i h1 h2 h3 => hU i h3 (by omega)) ((hU 3 (by decide) (by omega)).trans hr.1.2.2.2.1) (by rw [List.length_append, hON]; exact if_pos rfl) (fun i r' hi => ?_) (fun i o hi => ?_)
            · have hil := (List.getElem?_eq_some_iff.mp hi).1
              exact (hr.rob hi).to (hs.2.2.2.2.2.2.1 r' (List.mem_of_getElem? hi)).2.2.1 (fun y hy => hU _ (by omega) (by omega))
            · rcases z_app_at hi with ⟨rfl, rfl⟩ | ⟨hl, hi⟩
              · have hwn : z_withFrom 0 (z_robs (z_cur S)) (z_ords (z_cur S)).length = none := z_with_none.mpr (fun r hr e => by have := (hs.2.2.2.2.2.2.1 r hr).2.2.2 _ e; omega)
                rw [hwn, hON]
                refine ⟨(if_neg (by omega)).trans ((if_neg (by omega)).trans ((if_neg (by omega)).trans ((if_neg (by omega)).trans ((if_neg (by omega)).trans ((if_neg (by omega)).trans (if_pos rfl)))))), (if_neg (by omega)).trans ((if_neg (by omega)).trans ((if_neg (by omega)).trans ((if_neg (by omega)).trans ((if_neg (by omega)).trans (if_pos rfl))))), (if_neg (by omega)).trans ((if_neg (by omega)).trans ((if_neg (by omega)).trans ((if_neg (by omega)).trans (if_pos rfl)))), (if_neg (by omega)).trans ((if_neg (by omega)).trans ((if_neg (by omega)).trans (if_pos rfl))), (if_neg (by omega)).trans ((if_neg (by omega)).trans (if_pos rfl)), fun y q hy => ?_⟩
                have hy3 := (List.getElem?_eq_some_iff.mp hy).1
                have hy3 : y < js.length := hy3
                refine (if_neg (by omega)).trans ((if_pos (by omega)).trans ?_)
                rw [show 0 + (320 + 8 * on + 5 + y - (320 + 8 * on + 5)) = y by omega]
                exact hjv y q hy
              · exact (hr.ord hi).to (hs.2.2.2.2.2.2.2 o (List.mem_of_getElem? hi)).2.1 (fun y hy => hU _ (by omega) (by omega))
          exact ⟨_, rfl, (hfr0.trans k1).trans (z_frE (m := m) w_fr_me.me.me.me.me.me.me (fun q e => by rw [e]; exact z_mEs)), rfl, (k2.row w_fr_me.me.me.me.me.me.me (w_set_self (w_set_self (w_set_self (w_set_self (w_set_self (w_set_self (w_set_self kf))))))) hmr hgd).md⟩
        | succ n ih =>
          intro k hn he h10
          have hkl : k < js.length := by omega
          obtain ⟨q, hq⟩ : ∃ q, js[k]? = some q := ⟨_, List.getElem?_eq_getElem hkl⟩
          have hqs := hjs q (List.mem_of_getElem? hq)
          have hvq := hjv k q hq
          refine wa_iload 0 dX3_order_2_151 rfl ?_
          refine wa_iload 1 dX3_order_2_153 rfl ?_
          refine wa_icmp_ge 196 dX3_order_2_155 rfl (fun c155 => absurd c155 (nI_lt_not (by omega) (by omega))) (fun c155 => ?_)
          refine wa_aload_n 2 dX3_order_2_158 rfl rfl ?_
          refine wa_getf dX3_order_2_159 gX3_9 hmN rfl ?_
          refine wa_bipush (8) dX3_order_2_162 (by decide) ?_
          refine wa_aload_n 2 dX3_order_2_164 rfl rfl ?_
          refine wa_getf dX3_order_2_165 gX3_19 hmN rfl ?_
          refine wa_iload 0 dX3_order_2_168 rfl ?_
          refine wa_iald dX3_order_2_170 hlN (vp_in_nI (by omega) (by omega)) ?_
          rw [nI_clamp (by omega), hvq]
          refine wa_iadd dX3_order_2_171 ?_
          rw [show (8 : Int32) + nI q = nI (8 + q) from nI_add 8 q]
          refine wa_iald dX3_order_2_172 hfN (vp_in_nI (by omega) (by omega)) ?_
          rw [nI_clamp (by omega), hr.kind hqs]
          refine wa_if_eq 190 dX3_order_2_173 rfl (fun c173 => ?_) (fun c173 => ?_)
          ·
            refine wa_iinc 0 [(6, _), (5, _), (0, _), (1, _), (2, _), (3, _), (4, _)] dX3_order_2_190 rfl (w_inc k) (Nat.le_of_ble_eq_true rfl) rfl ?_
            refine wa_goto 151 dX3_order_2_193 rfl ?_
            refine wa_locals [(6, _), (5, _), (0, _), (1, _), (2, _), (3, _), (4, _)] [0, 1, 2, 3, 4, 5, 6] rfl ?_
            exact ih (k + 1) (by omega) (z_find_drop hq (decide_eq_false (fun z => z c173)) he) h10
          ·
            refine wa_aload_n 2 dX3_order_2_176 rfl rfl ?_
            refine wa_bipush (12) dX3_order_2_177 (by decide) ?_
            refine wa_aload_n 2 dX3_order_2_179 rfl rfl ?_
            refine wa_getf dX3_order_2_180 gX3_19 hmN rfl ?_
            refine wa_iload 0 dX3_order_2_183 rfl ?_
            refine wa_iald dX3_order_2_185 hlN (vp_in_nI (by omega) (by omega)) ?_
            rw [nI_clamp (by omega), hvq]
            refine wc_I (wr_V dX3_order_2_186 mX3_90 (sp_mrefuse hmd (by decide)) hmN rfl rfl rfl (Nat.le_of_ble_eq_true rfl)) (fun r186 M186 h186 => ?_)
            refine wa_iret FieldType.int dX3_order_2_189 rfl rfl (Nat.le_of_ble_eq_true rfl) (Nat.le_of_ble_eq_true rfl) ?_
            rw [if_neg h10, z_find_hit hq (decide_eq_true c173) he] at eX
            rw [eX]
            exact ⟨_, rfl, hfr0.trans (z_frE h186.2.1 (fun q e => by rw [e]; exact z_mEm)), h186.2.2.md⟩
      refine wa_iload_n 3 dX3_order_2_101 rfl rfl ?_
      refine wa_iconst (0) dX3_order_2_102 (by decide) ?_
      refine wa_sipush (999) dX3_order_2_103 (by decide) ?_
      refine wc_isI (wr_S dX3_order_2_106 mX3_71 (sp_mminY hdu) rfl rfl rfl (Nat.le_of_ble_eq_true rfl)) ?_
      refine wa_if_eq 123 dX3_order_2_109 rfl (fun c109 => absurd c109 (by decide)) (fun c109 => ?_)
      refine wa_iload_n 5 dX3_order_2_112 rfl rfl ?_
      refine wa_iconst (-1) dX3_order_2_113 (by decide) ?_
      refine wa_icmp_ne 130 dX3_order_2_114 rfl (fun c114 => ?_) (fun c114 => ?_)
      ·
        refine wa_aload_n 2 dX3_order_2_130 rfl rfl ?_
        refine wa_getf dX3_order_2_131 gX3_9 hmN rfl ?_
        refine wa_iconst (4) dX3_order_2_134 (by decide) ?_
        refine wa_iald dX3_order_2_135 hfN (vp_in_nI (n := 4) (by omega) (by omega)) ?_
        rw [hr.on]
        refine wa_bipush (10) dX3_order_2_136 (by decide) ?_
        refine wa_icmp_ne 148 dX3_order_2_138 rfl (fun c138 => ?_) (fun c138 => ?_)
        ·
          refine wa_iconst (0) dX3_order_2_148 (by decide) ?_
          refine wa_istore [(6, _), (5, _), (0, _), (1, _), (2, _), (3, _), (4, _)] dX3_order_2_149 (Nat.le_of_ble_eq_true rfl) rfl ?_
          refine wa_locals [(6, _), (5, _), (0, _), (1, _), (2, _), (3, _), (4, _)] [0, 1, 2, 3, 4, 5, 6] rfl ?_
          exact L2 js.length 0 (Nat.zero_add _) rfl (fun z => c138 (congrArg nI z))
        ·
          refine wa_aload_n 2 dX3_order_2_141 rfl rfl ?_
          refine wa_iconst (3) dX3_order_2_142 (by decide) ?_
          refine wa_iconst (0) dX3_order_2_143 (by decide) ?_
          refine wc_I (wr_V dX3_order_2_144 mX3_90 (sp_mrefuse hmd (by decide)) hmN rfl rfl rfl (Nat.le_of_ble_eq_true rfl)) (fun r144 M144 h144 => ?_)
          refine wa_iret FieldType.int dX3_order_2_147 rfl rfl (Nat.le_of_ble_eq_true rfl) (Nat.le_of_ble_eq_true rfl) ?_
          have h10 : (z_ords (z_cur S)).length = 10 := (nI_eq (b := 10) (by omega) (by decide)).mp c138
          rw [if_pos h10] at eX
          rw [eX]
          exact ⟨_, rfl, hfr0.trans (z_frE h144.2.1 (fun q e => by rw [e]; exact z_mEm)), h144.2.2.md⟩
      ·
        refine wa_iload 6 dX3_order_2_117 rfl ?_
        refine wa_iconst (-1) dX3_order_2_119 (by decide) ?_
        refine wa_icmp_eq 130 dX3_order_2_120 rfl (fun c120 => ?_) (fun c120 => hcond.elim (fun z => absurd c114 z) (fun z => absurd z c120))
        refine wa_aload_n 2 dX3_order_2_130 rfl rfl ?_
        refine wa_getf dX3_order_2_131 gX3_9 hmN rfl ?_
        refine wa_iconst (4) dX3_order_2_134 (by decide) ?_
        refine wa_iald dX3_order_2_135 hfN (vp_in_nI (n := 4) (by omega) (by omega)) ?_
        rw [hr.on]
        refine wa_bipush (10) dX3_order_2_136 (by decide) ?_
        refine wa_icmp_ne 148 dX3_order_2_138 rfl (fun c138 => ?_) (fun c138 => ?_)
        ·
          refine wa_iconst (0) dX3_order_2_148 (by decide) ?_
          refine wa_istore [(6, _), (5, _), (0, _), (1, _), (2, _), (3, _), (4, _)] dX3_order_2_149 (Nat.le_of_ble_eq_true rfl) rfl ?_
          refine wa_locals [(6, _), (5, _), (0, _), (1, _), (2, _), (3, _), (4, _)] [0, 1, 2, 3, 4, 5, 6] rfl ?_
          exact L2 js.length 0 (Nat.zero_add _) rfl (fun z => c138 (congrArg nI z))
        ·
          refine wa_aload_n 2 dX3_order_2_141 rfl rfl ?_
          refine wa_iconst (3) dX3_order_2_142 (by decide) ?_
          refine wa_iconst (0) dX3_order_2_143 (by decide) ?_
          refine wc_I (wr_V dX3_order_2_144 mX3_90 (sp_mrefuse hmd (by decide)) hmN rfl rfl rfl (Nat.le_of_ble_eq_true rfl)) (fun r144 M144 h144 => ?_)
          refine wa_iret FieldType.int dX3_order_2_147 rfl rfl (Nat.le_of_ble_eq_true rfl) (Nat.le_of_ble_eq_true rfl) ?_
          have h10 : (z_ords (z_cur S)).length = 10 := (nI_eq (b := 10) (by omega) (by decide)).mp c138
          rw [if_pos h10] at eX
          rw [eX]
          exact ⟨_, rfl, hfr0.trans (z_frE h144.2.1 (fun q e => by rw [e]; exact z_mEm)), h144.2.2.md⟩
    ·
      rw [if_neg hdu] at eX
      rw [eX]
      refine wa_iload_n 3 dX3_order_2_101 rfl rfl ?_
      refine wa_iconst (0) dX3_order_2_102 (by decide) ?_
      refine wa_sipush (999) dX3_order_2_103 (by decide) ?_
      refine wc_isI (wr_S dX3_order_2_106 mX3_71 (sp_mminZ hdu) rfl rfl rfl (Nat.le_of_ble_eq_true rfl)) ?_
      refine wa_if_eq 123 dX3_order_2_109 rfl (fun c109 => ?_) (fun c109 => absurd (by decide) c109)
      refine wa_aload_n 2 dX3_order_2_123 rfl rfl ?_
      refine wa_iconst (2) dX3_order_2_124 (by decide) ?_
      refine wa_iconst (0) dX3_order_2_125 (by decide) ?_
      refine wc_I (wr_V dX3_order_2_126 mX3_90 (sp_mrefuse hmd (by decide)) hmN rfl rfl rfl (Nat.le_of_ble_eq_true rfl)) (fun r126 M126 h126 => ?_)
      refine wa_iret FieldType.int dX3_order_2_129 rfl rfl (Nat.le_of_ble_eq_true rfl) (Nat.le_of_ble_eq_true rfl) ?_
      exact ⟨_, rfl, hfr0.trans (z_frE h126.2.1 (fun q e => by rw [e]; exact z_mEm)), h126.2.2.md⟩
  have L1 : ∀ (mn : Nat) (K : (∀ k, k < 3 → z_idx (vv k) (z_size (z_cur S)) = none → ¬ (k = 0 ∨ vv k ≠ -1)) → ∀ v6, w_A l G tX3_order_2 (6, 0, 0) X 0 0 N0 101 [(6, .int v6), (5, .int (nI mn)), (0, .ref m), (1, .int due), (2, .int a1), (3, .int a2), (4, .int a3)] [] (z_mO b M m S (z_orderX (z_cur S) due a1 a2 a3))) (n k : Nat), k + n = 3 → (∀ i, i < k → z_idx (vv i) (z_size (z_cur S)) = none → ¬ (i = 0 ∨ vv i ≠ -1)) → w_A l G tX3_order_2 (6, 0, 0) X 0 0 N0 52 [(6, .int (nI k)), (5, .int (nI mn)), (0, .ref m), (1, .int due), (2, .int a1), (3, .int a2), (4, .int a3)] [] (z_mO b M m S (z_orderX (z_cur S) due a1 a2 a3)) := by
    intro mn K n
    induction n with
    | zero =>
      intro k hn hb
      have hk : k = 3 := by omega
      subst hk
      refine wa_iload 0 dX3_order_2_52 rfl ?_
      refine wa_iconst (3) dX3_order_2_54 (by decide) ?_
      refine wa_icmp_ge 101 dX3_order_2_55 rfl (fun c55 => ?_) (fun c55 => absurd (by decide) c55)
      exact K hb _
    | succ n ih =>
      intro k hn hb
      have nxt : ¬ (z_idx (vv k) (z_size (z_cur S)) = none ∧ (k = 0 ∨ vv k ≠ -1)) → w_A l G tX3_order_2 (6, 0, 0) X 0 0 N0 52 [(6, .int (nI (k + 1))), (5, .int (nI mn)), (0, .ref m), (1, .int due), (2, .int a1), (3, .int a2), (4, .int a3)] [] (z_mO b M m S (z_orderX (z_cur S) due a1 a2 a3)) := fun hz => ih (k + 1) (by omega) (fun i hi h1 h2 => by
        by_cases e : i = k
        · subst e; exact hz ⟨h1, h2⟩
        · exact hb i (by omega) h1 h2)
      cases hik : z_idx (vv k) (z_size (z_cur S)) with
      | some q =>
        refine wa_iload 0 dX3_order_2_52 rfl ?_
        refine wa_iconst (3) dX3_order_2_54 (by decide) ?_
        refine wa_icmp_ge 101 dX3_order_2_55 rfl (fun c55 => absurd c55 (nI_lt_not (b := 3) (by omega) (by decide))) (fun c55 => ?_)
        refine wa_aload_n 2 dX3_order_2_58 rfl rfl ?_
        refine wa_aload_n 2 dX3_order_2_59 rfl rfl ?_
        refine wa_getf dX3_order_2_60 gX3_19 hmN rfl ?_
        refine wa_iload 0 dX3_order_2_63 rfl ?_
        refine wa_iald dX3_order_2_65 hlN (vp_in_nI (by omega) (by omega)) ?_
        rw [nI_clamp (by omega)]
        refine wc_isI (wr_V dX3_order_2_66 mX3_86 (sp_misCellY HN hr hs hik) hmN rfl rfl rfl (Nat.le_of_ble_eq_true rfl)) ?_
        refine wa_if_ne 95 dX3_order_2_69 rfl (fun c69 => ?_) (fun c69 => absurd c69 (by decide))
        refine wa_iinc 0 [(6, _), (5, _), (0, _), (1, _), (2, _), (3, _), (4, _)] dX3_order_2_95 rfl (w_inc k) (Nat.le_of_ble_eq_true rfl) rfl ?_
        refine wa_goto 52 dX3_order_2_98 rfl ?_
        refine wa_locals [(6, _), (5, _), (0, _), (1, _), (2, _), (3, _), (4, _)] [0, 1, 2, 3, 4, 5, 6] rfl ?_
        exact nxt (fun z => by rw [hik] at z; cases z.1)
      | none =>
        refine wa_iload 0 dX3_order_2_52 rfl ?_
        refine wa_iconst (3) dX3_order_2_54 (by decide) ?_
        refine wa_icmp_ge 101 dX3_order_2_55 rfl (fun c55 => absurd c55 (nI_lt_not (b := 3) (by omega) (by decide))) (fun c55 => ?_)
        refine wa_aload_n 2 dX3_order_2_58 rfl rfl ?_
        refine wa_aload_n 2 dX3_order_2_59 rfl rfl ?_
        refine wa_getf dX3_order_2_60 gX3_19 hmN rfl ?_
        refine wa_iload 0 dX3_order_2_63 rfl ?_
        refine wa_iald dX3_order_2_65 hlN (vp_in_nI (by omega) (by omega)) ?_
        rw [nI_clamp (by omega)]
        refine wc_isI (wr_V dX3_order_2_66 mX3_86 (sp_misCellZ HN hr hs hik) hmN rfl rfl rfl (Nat.le_of_ble_eq_true rfl)) ?_
        refine wa_if_ne 95 dX3_order_2_69 rfl (fun c69 => absurd (by decide) c69) (fun c69 => ?_)
        refine wa_iload 0 dX3_order_2_72 rfl ?_
        refine wa_if_eq 88 dX3_order_2_74 rfl (fun c74 => ?_) (fun c74 => ?_)
        ·
          refine wa_aload_n 2 dX3_order_2_88 rfl rfl ?_
          refine wa_iconst (1) dX3_order_2_89 (by decide) ?_
          refine wa_iconst (0) dX3_order_2_90 (by decide) ?_
          refine wc_I (wr_V dX3_order_2_91 mX3_90 (sp_mrefuse hmd (by decide)) hmN rfl rfl rfl (Nat.le_of_ble_eq_true rfl)) (fun r91 M91 h91 => ?_)
          refine wa_iret FieldType.int dX3_order_2_94 rfl rfl (Nat.le_of_ble_eq_true rfl) (Nat.le_of_ble_eq_true rfl) ?_
          rw [hbad k (by omega) hik (Or.inl ((nI_eq (b := 0) (by omega) (by decide)).mp c74))]
          exact ⟨_, rfl, hfr0.trans (z_frE h91.2.1 (fun q e => by rw [e]; exact z_mEm)), h91.2.2.md⟩
        ·
          refine wa_aload_n 2 dX3_order_2_77 rfl rfl ?_
          refine wa_getf dX3_order_2_78 gX3_19 hmN rfl ?_
          refine wa_iload 0 dX3_order_2_81 rfl ?_
          refine wa_iald dX3_order_2_83 hlN (vp_in_nI (by omega) (by omega)) ?_
          rw [nI_clamp (by omega)]
          refine wa_iconst (-1) dX3_order_2_84 (by decide) ?_
          refine wa_icmp_eq 95 dX3_order_2_85 rfl (fun c85 => ?_) (fun c85 => ?_)
          ·
            refine wa_iinc 0 [(6, _), (5, _), (0, _), (1, _), (2, _), (3, _), (4, _)] dX3_order_2_95 rfl (w_inc k) (Nat.le_of_ble_eq_true rfl) rfl ?_
            refine wa_goto 52 dX3_order_2_98 rfl ?_
            refine wa_locals [(6, _), (5, _), (0, _), (1, _), (2, _), (3, _), (4, _)] [0, 1, 2, 3, 4, 5, 6] rfl ?_
            exact nxt (fun z => z.2.elim (fun e => c74 (by rw [e]; rfl)) (fun e => e c85))
          ·
            refine wa_aload_n 2 dX3_order_2_88 rfl rfl ?_
            refine wa_iconst (1) dX3_order_2_89 (by decide) ?_
            refine wa_iconst (0) dX3_order_2_90 (by decide) ?_
            refine wc_I (wr_V dX3_order_2_91 mX3_90 (sp_mrefuse hmd (by decide)) hmN rfl rfl rfl (Nat.le_of_ble_eq_true rfl)) (fun r91 M91 h91 => ?_)
            refine wa_iret FieldType.int dX3_order_2_94 rfl rfl (Nat.le_of_ble_eq_true rfl) (Nat.le_of_ble_eq_true rfl) ?_
            rw [hbad k (by omega) hik (Or.inr c85)]
            exact ⟨_, rfl, hfr0.trans (z_frE h91.2.1 (fun q e => by rw [e]; exact z_mEm)), h91.2.2.md⟩
  have FIN : ∀ (mn : Nat), (a2 = -1 → mn = 1) → (a2 ≠ -1 → a3 = -1 → mn = 2) → (a2 ≠ -1 → a3 ≠ -1 → mn = 3) → w_A l G tX3_order_2 (6, 0, 0) X 0 0 N0 52 [(6, .int (nI 0)), (5, .int (nI mn)), (0, .ref m), (1, .int due), (2, .int a1), (3, .int a2), (4, .int a3)] [] (z_mO b M m S (z_orderX (z_cur S) due a1 a2 a3)) := by
    intro mn m1 m2 m3
    refine L1 mn (fun hall v6 => ?_) 3 0 rfl (fun i hi => absurd hi (Nat.not_lt_zero _))
    have i1 : z_idx a1 (z_size (z_cur S)) ≠ none := fun e => hall 0 (by decide) (by rw [v0]; exact e) (Or.inl rfl)
    have i2 : a2 ≠ -1 → z_idx a2 (z_size (z_cur S)) ≠ none := fun h2 e => hall 1 (by decide) (by rw [v1]; exact e) (Or.inr (by rw [v1]; exact h2))
    have i3 : a3 ≠ -1 → z_idx a3 (z_size (z_cur S)) ≠ none := fun h2 e => hall 2 (by decide) (by rw [v2]; exact e) (Or.inr (by rw [v2]; exact h2))
    by_cases hnn : a2 = -1 ∧ ¬ a3 = -1
    · have eX : z_orderX (z_cur S) due a1 a2 a3 = .inr (2, 0) := by
        unfold z_orderX
        rw [if_neg (fun z => z.elim i1 (fun z => i3 hnn.2 z.2)), if_pos hnn]
      rw [eX]
      by_cases hdu : 0 ≤ due ∧ due ≤ 999
      ·
        refine wa_iload_n 3 dX3_order_2_101 rfl rfl ?_
        refine wa_iconst (0) dX3_order_2_102 (by decide) ?_
        refine wa_sipush (999) dX3_order_2_103 (by decide) ?_
        refine wc_isI (wr_S dX3_order_2_106 mX3_71 (sp_mminY hdu) rfl rfl rfl (Nat.le_of_ble_eq_true rfl)) ?_
        refine wa_if_eq 123 dX3_order_2_109 rfl (fun c109 => absurd c109 (by decide)) (fun c109 => ?_)
        refine wa_iload_n 5 dX3_order_2_112 rfl rfl ?_
        refine wa_iconst (-1) dX3_order_2_113 (by decide) ?_
        refine wa_icmp_ne 130 dX3_order_2_114 rfl (fun c114 => absurd hnn.1 c114) (fun c114 => ?_)
        refine wa_iload 6 dX3_order_2_117 rfl ?_
        refine wa_iconst (-1) dX3_order_2_119 (by decide) ?_
        refine wa_icmp_eq 130 dX3_order_2_120 rfl (fun c120 => absurd c120 hnn.2) (fun c120 => ?_)
        refine wa_aload_n 2 dX3_order_2_123 rfl rfl ?_
        refine wa_iconst (2) dX3_order_2_124 (by decide) ?_
        refine wa_iconst (0) dX3_order_2_125 (by decide) ?_
        refine wc_I (wr_V dX3_order_2_126 mX3_90 (sp_mrefuse hmd (by decide)) hmN rfl rfl rfl (Nat.le_of_ble_eq_true rfl)) (fun r126 M126 h126 => ?_)
        refine wa_iret FieldType.int dX3_order_2_129 rfl rfl (Nat.le_of_ble_eq_true rfl) (Nat.le_of_ble_eq_true rfl) ?_
        exact ⟨_, rfl, hfr0.trans (z_frE h126.2.1 (fun q e => by rw [e]; exact z_mEm)), h126.2.2.md⟩
      ·
        refine wa_iload_n 3 dX3_order_2_101 rfl rfl ?_
        refine wa_iconst (0) dX3_order_2_102 (by decide) ?_
        refine wa_sipush (999) dX3_order_2_103 (by decide) ?_
        refine wc_isI (wr_S dX3_order_2_106 mX3_71 (sp_mminZ hdu) rfl rfl rfl (Nat.le_of_ble_eq_true rfl)) ?_
        refine wa_if_eq 123 dX3_order_2_109 rfl (fun c109 => ?_) (fun c109 => absurd (by decide) c109)
        refine wa_aload_n 2 dX3_order_2_123 rfl rfl ?_
        refine wa_iconst (2) dX3_order_2_124 (by decide) ?_
        refine wa_iconst (0) dX3_order_2_125 (by decide) ?_
        refine wc_I (wr_V dX3_order_2_126 mX3_90 (sp_mrefuse hmd (by decide)) hmN rfl rfl rfl (Nat.le_of_ble_eq_true rfl)) (fun r126 M126 h126 => ?_)
        refine wa_iret FieldType.int dX3_order_2_129 rfl rfl (Nat.le_of_ble_eq_true rfl) (Nat.le_of_ble_eq_true rfl) ?_
        exact ⟨_, rfl, hfr0.trans (z_frE h126.2.1 (fun q e => by rw [e]; exact z_mEm)), h126.2.2.md⟩
    · have hall2 : ∀ x ∈ z_linesL a1 a2 a3, ∃ k, z_idx x (z_size (z_cur S)) = some k := by
        intro x hx
        refine Option.ne_none_iff_exists'.mp ?_
        unfold z_linesL at hx
        by_cases h2 : a2 = -1
        · rw [if_pos h2] at hx
          rw [List.mem_singleton.mp hx]
          exact i1
        · rw [if_neg h2] at hx
          by_cases h3 : a3 = -1
          · rw [if_pos h3] at hx
            rcases List.mem_cons.mp hx with e | hx
            · rw [e]; exact i1
            · rw [List.mem_singleton.mp hx]; exact i2 h2
          · rw [if_neg h3] at hx
            rcases List.mem_cons.mp hx with e | hx
            · rw [e]; exact i1
            · rcases List.mem_cons.mp hx with e | hx
              · rw [e]; exact i2 h2
              · rw [List.mem_singleton.mp hx]; exact i3 h3
      obtain ⟨js, hj1, hj2, hj3, hj4⟩ := z_idxs_yes (n := z_size (z_cur S)) (by omega) _ hall2
      have hmn : mn = js.length := by
        rw [hj2]
        unfold z_linesL
        by_cases h2 : a2 = -1
        · rw [if_pos h2]; exact m1 h2
        · rw [if_neg h2]
          by_cases h3 : a3 = -1
          · rw [if_pos h3]; exact m2 h2 h3
          · rw [if_neg h3]; exact m3 h2 h3
      subst hmn
      have hLl : (z_linesL a1 a2 a3).length ≤ 3 ∧ 0 < (z_linesL a1 a2 a3).length := by unfold z_linesL; split <;> (try split) <;> exact ⟨by simp, by simp⟩
      refine REST js v6 (by omega) (by omega) hj3 (fun i q hi => ?_) hnn ?_
      · have hgi : (z_linesL a1 a2 a3)[i]? = some (nI q) := by rw [hj4, List.getElem?_map, hi]; rfl
        unfold z_linesL at hgi
        by_cases h2 : a2 = -1
        · rw [if_pos h2] at hgi
          match i, hgi with
          | 0, hgi => rw [v0]; exact Option.some.inj hgi
          | i + 1, hgi => simp at hgi
        · rw [if_neg h2] at hgi
          by_cases h3 : a3 = -1
          · rw [if_pos h3] at hgi
            match i, hgi with
            | 0, hgi => rw [v0]; exact Option.some.inj hgi
            | 1, hgi => rw [v1]; exact Option.some.inj hgi
            | i + 2, hgi => simp at hgi
          · rw [if_neg h3] at hgi
            match i, hgi with
            | 0, hgi => rw [v0]; exact Option.some.inj hgi
            | 1, hgi => rw [v1]; exact Option.some.inj hgi
            | 2, hgi => rw [v2]; exact Option.some.inj hgi
            | i + 3, hgi => simp at hgi
      · unfold z_orderX
        rw [if_neg (fun z => z.elim i1 (fun z => hnn z.1)), if_neg hnn]
        unfold z_orderC
        rw [hj1]
        rfl
  refine wa_aload_n 0 dX3_order_2_0 rfl rfl ?_
  refine wa_iconst (0) dX3_order_2_1 (by decide) ?_
  refine wa_putf [_, _, _, _, _, _, _, _, _, _, _, _, _, _, _, _, _, _, _, _] dX3_order_2_2 pX3_49 hm (Nat.le_of_ble_eq_true rfl) rfl rfl rfl ?_
  refine wa_aload_n 0 dX3_order_2_5 rfl rfl ?_
  refine wa_getf dX3_order_2_6 gX3_19 (w_set_self hm) rfl ?_
  refine wa_iconst (0) dX3_order_2_9 (by decide) ?_
  refine wa_iload_n 2 dX3_order_2_10 rfl rfl ?_
  refine wa_iast dX3_order_2_11 hg4 (vp_in_nI (n := 0) (by omega) (by omega)) ?_
  refine wa_aload_n 0 dX3_order_2_12 rfl rfl ?_
  refine wa_getf dX3_order_2_13 gX3_19 (w_sne (w_set_self hm) (by omega)) rfl ?_
  refine wa_iconst (1) dX3_order_2_16 (by decide) ?_
  refine wa_iload_n 3 dX3_order_2_17 rfl rfl ?_
  refine wa_iast dX3_order_2_18 (w_set_self hg4) (vp_in_nI (n := 1) (by omega) (by omega)) ?_
  refine wa_aload_n 0 dX3_order_2_19 rfl rfl ?_
  refine wa_getf dX3_order_2_20 gX3_19 (w_sne (w_sne (w_set_self hm) (by omega)) (by omega)) rfl ?_
  refine wa_iconst (2) dX3_order_2_23 (by decide) ?_
  refine wa_iload 4 dX3_order_2_24 rfl ?_
  refine wa_iast dX3_order_2_26 (w_set_self (w_set_self hg4)) (vp_in_nI (n := 2) (by omega) (by omega)) ?_
  refine Eq.mp (congrArg (fun z => w_A l G tX3_order_2 (6, 0, 0) X 0 0 z 27 [(0, .ref m), (1, .int due), (2, .int a1), (3, .int a2), (4, .int a3)] [] (z_mO b M m S (z_orderX (z_cur S) due a1 a2 a3))) (show N0 = _ from (hN0e.trans (by rw [hvv]; rfl)))) ?_
  refine wa_iload_n 3 dX3_order_2_27 rfl rfl ?_
  refine wa_iconst (-1) dX3_order_2_28 (by decide) ?_
  refine wa_icmp_ne 36 dX3_order_2_29 rfl (fun c29 => ?_) (fun c29 => ?_)
  ·
    refine wa_iload 4 dX3_order_2_36 rfl ?_
    refine wa_iconst (-1) dX3_order_2_38 (by decide) ?_
    refine wa_icmp_ne 46 dX3_order_2_39 rfl (fun c39 => ?_) (fun c39 => ?_)
    ·
      refine wa_iconst (3) dX3_order_2_46 (by decide) ?_
      refine wa_istore [(5, _), (0, _), (1, _), (2, _), (3, _), (4, _)] dX3_order_2_47 (Nat.le_of_ble_eq_true rfl) rfl ?_
      refine wa_iconst (0) dX3_order_2_49 (by decide) ?_
      refine wa_istore [(6, _), (5, _), (0, _), (1, _), (2, _), (3, _), (4, _)] dX3_order_2_50 (Nat.le_of_ble_eq_true rfl) rfl ?_
      refine wa_locals [(6, _), (5, _), (0, _), (1, _), (2, _), (3, _), (4, _)] [0, 1, 2, 3, 4, 5, 6] rfl ?_
      exact FIN 3 (fun z => absurd z c29) (fun _ z => absurd z c39) (fun _ _ => rfl)
    ·
      refine wa_iconst (2) dX3_order_2_42 (by decide) ?_
      refine wa_goto 47 dX3_order_2_43 rfl ?_
      refine wa_istore [(5, _), (0, _), (1, _), (2, _), (3, _), (4, _)] dX3_order_2_47 (Nat.le_of_ble_eq_true rfl) rfl ?_
      refine wa_iconst (0) dX3_order_2_49 (by decide) ?_
      refine wa_istore [(6, _), (5, _), (0, _), (1, _), (2, _), (3, _), (4, _)] dX3_order_2_50 (Nat.le_of_ble_eq_true rfl) rfl ?_
      refine wa_locals [(6, _), (5, _), (0, _), (1, _), (2, _), (3, _), (4, _)] [0, 1, 2, 3, 4, 5, 6] rfl ?_
      exact FIN 2 (fun z => absurd z c29) (fun _ _ => rfl) (fun _ z => absurd c39 z)
  ·
    refine wa_iconst (1) dX3_order_2_32 (by decide) ?_
    refine wa_goto 47 dX3_order_2_33 rfl ?_
    refine wa_istore [(5, _), (0, _), (1, _), (2, _), (3, _), (4, _)] dX3_order_2_47 (Nat.le_of_ble_eq_true rfl) rfl ?_
    refine wa_iconst (0) dX3_order_2_49 (by decide) ?_
    refine wa_istore [(6, _), (5, _), (0, _), (1, _), (2, _), (3, _), (4, _)] dX3_order_2_50 (Nat.le_of_ble_eq_true rfl) rfl ?_
    refine wa_locals [(6, _), (5, _), (0, _), (1, _), (2, _), (3, _), (4, _)] [0, 1, 2, 3, 4, 5, 6] rfl ?_
    exact FIN 1 (fun _ => rfl) (fun z => absurd c29 z) (fun z => absurd c29 z)
end MP
