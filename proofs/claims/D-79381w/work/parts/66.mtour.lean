/-! ===== the Model: tours; who suits ===== -/
set_option maxRecDepth 100000
section MT
variable {b : Nat} {M N : w_M} {m : Nat} {S : z_S} {th is rr rc : Int32} {f sv pf ip : Nat → Int32} {l : Launch} {G : w_G} {c : z_C}
theorem sp_msuited (h : z_mod b M m S th) {x : Int32} : w_S l G tX3_suited (7, 0, 0) [.ref m, .int x] M (z_mA b M m S (z_suitedA (z_cur S) x)) := by
  obtain ⟨is, rr, rc, f, sv, pf, ip, h⟩ := h
  obtain ⟨hm, hf, -⟩ := id h
  have H := h.mh
  have hr := h.mr
  have hg := h.gd
  have hs := hg.1
  have hh := hg.2.2.2.2.2.2.2
  have hsz := hs.size
  have hR6 : (z_robs (z_cur S)).length ≤ 6 := hs.2.2.2.2.1
  have hO10 : (z_ords (z_cur S)).length ≤ 10 := hs.2.2.2.2.2.1
  cases i1 : z_idx x (z_ords (z_cur S)).length with
  | none =>
    have ea : z_suitedA (z_cur S) x = .inr 1 := by unfold z_suitedA; rw [i1]
    rw [ea]
    refine w_start (by decide) (Nat.le_of_ble_eq_true rfl) (fun X => ?_)
    refine wa_locals [(0, _), (1, _)] [0, 1] rfl ?_
    refine wa_aload_n 0 dX3_suited_0 rfl rfl ?_
    refine wa_aload_n 0 dX3_suited_1 rfl rfl ?_
    refine wa_iload_n 1 dX3_suited_2 rfl rfl ?_
    refine wc_isI (wr_V dX3_suited_3 mX3_112 (sp_misOrderZ H hr hs i1) hm rfl rfl rfl (Nat.le_of_ble_eq_true rfl)) ?_
    refine wa_if_eq 13 dX3_suited_6 rfl (fun c6 => ?_) (fun c6 => absurd (by decide) c6)
    refine wa_iconst (1) dX3_suited_13 (by decide) ?_
    refine wa_putf [_, _, _, _, _, _, _, _, _, _, _, _, _, _, _, _, _, _, _, _] dX3_suited_14 pX3_49 hm (Nat.le_of_ble_eq_true rfl) rfl rfl rfl ?_
    refine wa_aload_n 0 dX3_suited_17 rfl rfl ?_
    refine wa_getf dX3_suited_18 gX3_49 (w_set_self hm) rfl ?_
    refine wa_if_le 26 dX3_suited_21 rfl (fun c21 => absurd c21 (by decide)) (fun c21 => ?_)
    refine wa_iconst (0) dX3_suited_24 (by decide) ?_
    refine wa_iret FieldType.int dX3_suited_25 rfl rfl (Nat.le_of_ble_eq_true rfl) (Nat.le_of_ble_eq_true rfl) ?_
    exact ⟨_, rfl, (w_fr.rf.set z_mEm), (h.thr 1).md⟩
  | some i =>
    have hil := z_idx_lt (by omega) i1
    have e1 := z_idx_eq (by omega) i1
    subst e1
    have hi10 : i < 10 := by omega
    obtain ⟨o, ho⟩ : ∃ o, (z_ords (z_cur S))[i]? = some o := ⟨_, List.getElem?_eq_getElem hil⟩
    obtain ⟨p1, p2, p3, p4, p5, p6⟩ := hr.ord ho
    obtain ⟨-, hl3, hl0, hlq, -⟩ := hs.2.2.2.2.2.2.2 o (List.mem_of_getElem? ho)
    obtain ⟨ln, hln⟩ : ∃ ln, (z_lines o)[0]? = some ln := ⟨_, List.getElem?_eq_getElem hl0⟩
    have hlns := hlq ln (List.mem_of_getElem? hln)
    have p6' : f (320 + 8 * i + 5) = nI ln := p6 0 ln hln
    have ea : z_suitedA (z_cur S) (nI i) = match z_suit (z_cur S) ln (z_robs (z_cur S)).length with
        | none => .inr 2
        | some k => .inl (nI k) := by unfold z_suitedA; rw [i1]; simp only [ho, hln]; rfl
    have h0 := h.thr 0
    have H0 := h0.mh
    refine w_start (by decide) (Nat.le_of_ble_eq_true rfl) (fun X => ?_)
    refine wa_locals [(0, _), (1, _)] [0, 1] rfl ?_
    have LP : ∀ (n k : Nat) (N : w_M) (v : Int32), k + n = (z_robs (z_cur S)).length → w_fr M N (z_mE m) → z_modL b N m S 0 is rr rc f sv pf ip → (∀ j r' m', z_suit (z_cur S) ln k = some j → (z_robs (z_cur S))[j]? = some r' → z_far (z_cur S) (z_cell r') ln = some m' → v = nI m') → w_A l G tX3_suited (7, 0, 0) X 0 0 N 33 [(4, .int (nI k)), (3, .int v), (2, .int (z_enc (z_suit (z_cur S) ln k))), (0, .ref m), (1, .int (nI i))] [] (z_mA b M m S (z_suitedA (z_cur S) (nI i))) := by
      intro n
      induction n with
      | zero =>
        intro k N v hn hfr hN hv
        have hk : k = (z_robs (z_cur S)).length := by omega
        subst hk
        have hN1 := hN.1
        have hN2 := hN.2.1
        rw [ea]
        cases hsu : z_suit (z_cur S) ln (z_robs (z_cur S)).length with
        | none =>
          refine wa_iload 0 dX3_suited_33 rfl ?_
          refine wa_aload_n 3 dX3_suited_35 rfl rfl ?_
          refine wa_getf dX3_suited_36 gX3_9 hN1 rfl ?_
          refine wa_iconst (3) dX3_suited_39 (by decide) ?_
          refine wa_iald dX3_suited_40 hN2 (vp_in_nI (n := 3) (by omega) (by omega)) ?_
          rw [hr.rn]
          refine wa_icmp_ge 126 dX3_suited_41 rfl (fun c41 => ?_) (fun c41 => absurd (nI_le (by omega) (by omega)) c41)
          refine wa_aload_n 3 dX3_suited_126 rfl rfl ?_
          refine wa_iload_n 2 dX3_suited_127 rfl rfl ?_
          refine wa_if_ge 135 dX3_suited_128 rfl (fun c128 => absurd c128 (by decide)) (fun c128 => ?_)
          refine wa_iconst (2) dX3_suited_131 (by decide) ?_
          refine wa_goto 136 dX3_suited_132 rfl ?_
          refine wa_putf [_, _, _, _, _, _, _, _, _, _, _, _, _, _, _, _, _, _, _, _] dX3_suited_136 pX3_49 hN1 (Nat.le_of_ble_eq_true rfl) rfl rfl rfl ?_
          refine wa_aload_n 3 dX3_suited_139 rfl rfl ?_
          refine wa_getf dX3_suited_140 gX3_49 (w_set_self hN1) rfl ?_
          refine wa_if_le 150 dX3_suited_143 rfl (fun c143 => absurd c143 (by decide)) (fun c143 => ?_)
          refine wa_iconst (0) dX3_suited_146 (by decide) ?_
          refine wa_goto 151 dX3_suited_147 rfl ?_
          refine wa_iret FieldType.int dX3_suited_151 rfl rfl (Nat.le_of_ble_eq_true rfl) (Nat.le_of_ble_eq_true rfl) ?_
          exact ⟨_, rfl, hfr.set z_mEm, (hN.thr 2).md⟩
        | some j =>
          have hj := (z_suit_at _ _ hsu).1
          refine wa_iload 0 dX3_suited_33 rfl ?_
          refine wa_aload_n 3 dX3_suited_35 rfl rfl ?_
          refine wa_getf dX3_suited_36 gX3_9 hN1 rfl ?_
          refine wa_iconst (3) dX3_suited_39 (by decide) ?_
          refine wa_iald dX3_suited_40 hN2 (vp_in_nI (n := 3) (by omega) (by omega)) ?_
          rw [hr.rn]
          refine wa_icmp_ge 126 dX3_suited_41 rfl (fun c41 => ?_) (fun c41 => absurd (nI_le (by omega) (by omega)) c41)
          refine wa_aload_n 3 dX3_suited_126 rfl rfl ?_
          refine wa_iload_n 2 dX3_suited_127 rfl rfl ?_
          refine wa_if_ge 135 dX3_suited_128 rfl (fun c128 => ?_) (fun c128 => absurd (Int32.not_lt.mp (nI_pos (n := j) (by omega))) c128)
          refine wa_iconst (0) dX3_suited_135 (by decide) ?_
          refine wa_putf [_, _, _, _, _, _, _, _, _, _, _, _, _, _, _, _, _, _, _, _] dX3_suited_136 pX3_49 hN1 (Nat.le_of_ble_eq_true rfl) rfl rfl rfl ?_
          refine wa_aload_n 3 dX3_suited_139 rfl rfl ?_
          refine wa_getf dX3_suited_140 gX3_49 (w_set_self hN1) rfl ?_
          refine wa_if_le 150 dX3_suited_143 rfl (fun c143 => ?_) (fun c143 => absurd (by decide) c143)
          refine wa_iload_n 2 dX3_suited_150 rfl rfl ?_
          refine wa_iret FieldType.int dX3_suited_151 rfl rfl (Nat.le_of_ble_eq_true rfl) (Nat.le_of_ble_eq_true rfl) ?_
          exact ⟨_, rfl, hfr.set z_mEm, rfl, (hN.thr 0).md⟩
      | succ n ih =>
        intro k N v hn hfr hN hv
        have hN1 := hN.1
        have hN2 := hN.2.1
        have HN := hN.mh
        have hkl : k < (z_robs (z_cur S)).length := by omega
        have hk6 : k < 6 := by omega
        obtain ⟨r, hk⟩ : ∃ r, (z_robs (z_cur S))[k]? = some r := ⟨_, List.getElem?_eq_getElem hkl⟩
        obtain ⟨q1, q2, q3, q4, q5, q6, q7⟩ := hr.rob hk
        obtain ⟨hrc, -, -, hrh⟩ := hs.2.2.2.2.2.2.1 r (List.mem_of_getElem? hk)
        have hw := z_enc_neg (g := z_has r) (fun y e => by have := hrh y e; omega)
        have hwf := z_enc_neg (g := z_far (z_cur S) (z_cell r) ln) (fun y e => by have := z_far_lt hs hrc e; omega)
        have hwb := z_enc_neg (g := z_suit (z_cur S) ln k) (fun y e => by have := (z_suit_at _ _ e).1; omega)
        have hkf := fun a (ha : some k = some a) => Option.some.inj ha
        have est : z_suit (z_cur S) ln (k + 1) = if z_has r = none then (match z_far (z_cur S) (z_cell r) ln with
            | none => z_suit (z_cur S) ln k
            | some m => match z_suit (z_cur S) ln k with
              | none => some k
              | some j => if z_bet (z_cur S) ln r m j = true then some k else some j) else z_suit (z_cur S) ln k := by rw [z_suit, hk]; rfl
        have keep : ∀ (N' : w_M), w_fr M N' (z_mE m) → z_modL b N' m S 0 is rr rc f sv pf ip → z_suit (z_cur S) ln (k + 1) = z_suit (z_cur S) ln k → w_A l G tX3_suited (7, 0, 0) X 0 0 N' 33 [(4, .int (nI (k + 1))), (3, .int v), (2, .int (z_enc (z_suit (z_cur S) ln k))), (0, .ref m), (1, .int (nI i))] [] (z_mA b M m S (z_suitedA (z_cur S) (nI i))) := fun N' h1 h2 e => by
          have hh := ih (k + 1) N' v (by omega) h1 h2 (by rw [e]; exact hv)
          rw [e] at hh
          exact hh
        have take : ∀ (N' : w_M) (mm : Nat), w_fr M N' (z_mE m) → z_modL b N' m S 0 is rr rc f sv pf ip → z_suit (z_cur S) ln (k + 1) = some k → z_far (z_cur S) (z_cell r) ln = some mm → w_A l G tX3_suited (7, 0, 0) X 0 0 N' 33 [(4, .int (nI (k + 1))), (3, .int (nI mm)), (2, .int (nI k)), (0, .ref m), (1, .int (nI i))] [] (z_mA b M m S (z_suitedA (z_cur S) (nI i))) := fun N' mm h1 h2 e e2 => by
          have hh := ih (k + 1) N' (nI mm) (by omega) h1 h2 (fun j r' m' f1 f2 f3 => by
            rw [e] at f1
            cases f1
            rw [hk] at f2
            cases f2
            rw [e2] at f3
            cases f3
            rfl)
          rw [e] at hh
          exact hh
        by_cases hz : z_has r = none
        ·
          have hq : z_enc (z_has r) < 0 := hw.mpr hz
          rw [if_pos hz] at est
          cases hfq : z_far (z_cur S) (z_cell r) ln with
          | none =>
            rw [hfq] at est
            have est : z_suit (z_cur S) ln (k + 1) = z_suit (z_cur S) ln k := est
            refine wa_iload 0 dX3_suited_33 rfl ?_
            refine wa_aload_n 3 dX3_suited_35 rfl rfl ?_
            refine wa_getf dX3_suited_36 gX3_9 hN1 rfl ?_
            refine wa_iconst (3) dX3_suited_39 (by decide) ?_
            refine wa_iald dX3_suited_40 hN2 (vp_in_nI (n := 3) (by omega) (by omega)) ?_
            rw [hr.rn]
            refine wa_icmp_ge 126 dX3_suited_41 rfl (fun c41 => absurd c41 (nI_lt_not (by omega) (by omega))) (fun c41 => ?_)
            refine wa_aload_n 3 dX3_suited_44 rfl rfl ?_
            refine wa_iload 0 dX3_suited_45 rfl ?_
            refine wa_iconst (2) dX3_suited_47 (by decide) ?_
            refine wc_isI (wr_V dX3_suited_48 mX3_79 (sp_mof HN hk6 (w := 2) (by decide)) hN1 rfl rfl rfl (Nat.le_of_ble_eq_true rfl)) ?_
            rw [q3]
            refine wa_if_lt 58 dX3_suited_51 rfl (fun c51 => ?_) (fun c51 => absurd hq c51)
            refine wa_aload_n 3 dX3_suited_58 rfl rfl ?_
            refine wa_aload_n 3 dX3_suited_59 rfl rfl ?_
            refine wa_iload 0 dX3_suited_60 rfl ?_
            refine wa_iconst (0) dX3_suited_62 (by decide) ?_
            refine wc_isI (wr_V dX3_suited_63 mX3_79 (sp_mof HN hk6 (w := 0) (by decide)) hN1 rfl rfl rfl (Nat.le_of_ble_eq_true rfl)) ?_
            rw [show f (104 + 36 * k + 0) = nI (z_cell r) from q1]
            refine wa_aload_n 3 dX3_suited_66 rfl rfl ?_
            refine wa_iload_n 4 dX3_suited_67 rfl rfl ?_
            refine wa_iconst (5) dX3_suited_68 (by decide) ?_
            refine wc_isI (wr_V dX3_suited_69 mX3_109 (sp_mget HN hi10 (w := 5) (by decide)) hN1 rfl rfl rfl (Nat.le_of_ble_eq_true rfl)) ?_
            rw [p6']
            refine wc_I (wr_V dX3_suited_72 mX3_165 (sp_mfarOf hN hrc hlns) hN1 rfl rfl rfl (Nat.le_of_ble_eq_true rfl)) (fun r72 M72 h72 => ?_)
            obtain ⟨g1, g2, g3, -⟩ := h72
            subst g1
            rw [hfq]
            refine wa_istore [(5, _), (4, _), (3, _), (2, _), (0, _), (1, _)] dX3_suited_75 (Nat.le_of_ble_eq_true rfl) rfl ?_
            refine wa_iload 0 dX3_suited_77 rfl ?_
            refine wa_if_lt 120 dX3_suited_79 rfl (fun c79 => ?_) (fun c79 => absurd (by decide) c79)
            refine wa_iinc 1 [(4, _), (5, _), (3, _), (2, _), (0, _), (1, _)] dX3_suited_120 rfl (w_inc k) (Nat.le_of_ble_eq_true rfl) rfl ?_
            refine wa_goto 33 dX3_suited_123 rfl ?_
            refine wa_locals [(4, _), (3, _), (2, _), (0, _), (1, _)] [0, 2, 3, 4, 5] rfl ?_
            exact keep M72 (hfr.trans (z_frE g2 (fun _ => z_mWE))) g3 est
          | some mm =>
            have hml := z_far_lt hs hrc hfq
            rw [hfq] at est
            have est : z_suit (z_cur S) ln (k + 1) = match z_suit (z_cur S) ln k with
              | none => some k
              | some j => if z_bet (z_cur S) ln r mm j = true then some k else some j := est
            cases hsu : z_suit (z_cur S) ln k with
            | none =>
              rw [hsu] at est
              have est : z_suit (z_cur S) ln (k + 1) = some k := est
              refine wa_iload 0 dX3_suited_33 rfl ?_
              refine wa_aload_n 3 dX3_suited_35 rfl rfl ?_
              refine wa_getf dX3_suited_36 gX3_9 hN1 rfl ?_
              refine wa_iconst (3) dX3_suited_39 (by decide) ?_
              refine wa_iald dX3_suited_40 hN2 (vp_in_nI (n := 3) (by omega) (by omega)) ?_
              rw [hr.rn]
              refine wa_icmp_ge 126 dX3_suited_41 rfl (fun c41 => absurd c41 (nI_lt_not (by omega) (by omega))) (fun c41 => ?_)
              refine wa_aload_n 3 dX3_suited_44 rfl rfl ?_
              refine wa_iload 0 dX3_suited_45 rfl ?_
              refine wa_iconst (2) dX3_suited_47 (by decide) ?_
              refine wc_isI (wr_V dX3_suited_48 mX3_79 (sp_mof HN hk6 (w := 2) (by decide)) hN1 rfl rfl rfl (Nat.le_of_ble_eq_true rfl)) ?_
              rw [q3]
              refine wa_if_lt 58 dX3_suited_51 rfl (fun c51 => ?_) (fun c51 => absurd hq c51)
              refine wa_aload_n 3 dX3_suited_58 rfl rfl ?_
              refine wa_aload_n 3 dX3_suited_59 rfl rfl ?_
              refine wa_iload 0 dX3_suited_60 rfl ?_
              refine wa_iconst (0) dX3_suited_62 (by decide) ?_
              refine wc_isI (wr_V dX3_suited_63 mX3_79 (sp_mof HN hk6 (w := 0) (by decide)) hN1 rfl rfl rfl (Nat.le_of_ble_eq_true rfl)) ?_
              rw [show f (104 + 36 * k + 0) = nI (z_cell r) from q1]
              refine wa_aload_n 3 dX3_suited_66 rfl rfl ?_
              refine wa_iload_n 4 dX3_suited_67 rfl rfl ?_
              refine wa_iconst (5) dX3_suited_68 (by decide) ?_
              refine wc_isI (wr_V dX3_suited_69 mX3_109 (sp_mget HN hi10 (w := 5) (by decide)) hN1 rfl rfl rfl (Nat.le_of_ble_eq_true rfl)) ?_
              rw [p6']
              refine wc_I (wr_V dX3_suited_72 mX3_165 (sp_mfarOf hN hrc hlns) hN1 rfl rfl rfl (Nat.le_of_ble_eq_true rfl)) (fun r72 M72 h72 => ?_)
              obtain ⟨g1, g2, g3, -⟩ := h72
              subst g1
              rw [hfq]
              refine wa_istore [(5, _), (4, _), (3, _), (2, _), (0, _), (1, _)] dX3_suited_75 (Nat.le_of_ble_eq_true rfl) rfl ?_
              refine wa_iload 0 dX3_suited_77 rfl ?_
              refine wa_if_lt 120 dX3_suited_79 rfl (fun c79 => absurd c79 (nI_pos (n := mm) (by omega))) (fun c79 => ?_)
              refine wa_iload_n 3 dX3_suited_82 rfl rfl ?_
              refine wa_if_lt 114 dX3_suited_83 rfl (fun c83 => ?_) (fun c83 => absurd (by decide) c83)
              refine wa_iload 1 dX3_suited_114 rfl ?_
              refine wa_istore_n [(2, _), (5, _), (4, _), (3, _), (0, _), (1, _)] dX3_suited_116 rfl (Nat.le_of_ble_eq_true rfl) rfl ?_
              refine wa_iload 1 dX3_suited_117 rfl ?_
              refine wa_istore_n [(3, _), (2, _), (5, _), (4, _), (0, _), (1, _)] dX3_suited_119 rfl (Nat.le_of_ble_eq_true rfl) rfl ?_
              refine wa_iinc 3 [(4, _), (3, _), (2, _), (5, _), (0, _), (1, _)] dX3_suited_120 rfl (w_inc k) (Nat.le_of_ble_eq_true rfl) rfl ?_
              refine wa_goto 33 dX3_suited_123 rfl ?_
              refine wa_locals [(4, _), (3, _), (2, _), (0, _), (1, _)] [0, 1, 2, 4, 5] rfl ?_
              exact take M72 mm (hfr.trans (z_frE g2 (fun _ => z_mWE))) g3 est hfq
            | some j =>
              obtain ⟨hj, r', m', hjr, hjm⟩ := z_suit_at _ _ hsu
              have hjc := (hs.2.2.2.2.2.2.1 r' (List.mem_of_getElem? hjr)).1
              have hml' := z_far_lt hs hjc hjm
              have hve := hv j r' m' hsu hjr hjm
              subst hve
              have hj6 : j < 6 := by omega
              obtain ⟨-, t2, -⟩ := hr.rob hjr
              have hbet : z_bet (z_cur S) ln r mm j = decide (mm < m' ∨ (mm = m' ∧ z_batt r' < z_batt r)) := by unfold z_bet; rw [hjr]; simp only [hjm]
              rw [hsu] at est
              have est : z_suit (z_cur S) ln (k + 1) = if z_bet (z_cur S) ln r mm j = true then some k else some j := est
              rw [hbet] at est
              simp only [decide_eq_true_eq] at est
              refine wa_iload 0 dX3_suited_33 rfl ?_
              refine wa_aload_n 3 dX3_suited_35 rfl rfl ?_
              refine wa_getf dX3_suited_36 gX3_9 hN1 rfl ?_
              refine wa_iconst (3) dX3_suited_39 (by decide) ?_
              refine wa_iald dX3_suited_40 hN2 (vp_in_nI (n := 3) (by omega) (by omega)) ?_
              rw [hr.rn]
              refine wa_icmp_ge 126 dX3_suited_41 rfl (fun c41 => absurd c41 (nI_lt_not (by omega) (by omega))) (fun c41 => ?_)
              refine wa_aload_n 3 dX3_suited_44 rfl rfl ?_
              refine wa_iload 0 dX3_suited_45 rfl ?_
              refine wa_iconst (2) dX3_suited_47 (by decide) ?_
              refine wc_isI (wr_V dX3_suited_48 mX3_79 (sp_mof HN hk6 (w := 2) (by decide)) hN1 rfl rfl rfl (Nat.le_of_ble_eq_true rfl)) ?_
              rw [q3]
              refine wa_if_lt 58 dX3_suited_51 rfl (fun c51 => ?_) (fun c51 => absurd hq c51)
              refine wa_aload_n 3 dX3_suited_58 rfl rfl ?_
              refine wa_aload_n 3 dX3_suited_59 rfl rfl ?_
              refine wa_iload 0 dX3_suited_60 rfl ?_
              refine wa_iconst (0) dX3_suited_62 (by decide) ?_
              refine wc_isI (wr_V dX3_suited_63 mX3_79 (sp_mof HN hk6 (w := 0) (by decide)) hN1 rfl rfl rfl (Nat.le_of_ble_eq_true rfl)) ?_
              rw [show f (104 + 36 * k + 0) = nI (z_cell r) from q1]
              refine wa_aload_n 3 dX3_suited_66 rfl rfl ?_
              refine wa_iload_n 4 dX3_suited_67 rfl rfl ?_
              refine wa_iconst (5) dX3_suited_68 (by decide) ?_
              refine wc_isI (wr_V dX3_suited_69 mX3_109 (sp_mget HN hi10 (w := 5) (by decide)) hN1 rfl rfl rfl (Nat.le_of_ble_eq_true rfl)) ?_
              rw [p6']
              refine wc_I (wr_V dX3_suited_72 mX3_165 (sp_mfarOf hN hrc hlns) hN1 rfl rfl rfl (Nat.le_of_ble_eq_true rfl)) (fun r72 M72 h72 => ?_)
              obtain ⟨g1, g2, g3, -⟩ := h72
              subst g1
              rw [hfq]
              refine wa_istore [(5, _), (4, _), (3, _), (2, _), (0, _), (1, _)] dX3_suited_75 (Nat.le_of_ble_eq_true rfl) rfl ?_
              refine wa_iload 0 dX3_suited_77 rfl ?_
              refine wa_if_lt 120 dX3_suited_79 rfl (fun c79 => absurd c79 (nI_pos (n := mm) (by omega))) (fun c79 => ?_)
              refine wa_iload_n 3 dX3_suited_82 rfl rfl ?_
              refine wa_if_lt 114 dX3_suited_83 rfl (fun c83 => absurd c83 (nI_pos (n := j) (by omega))) (fun c83 => ?_)
              refine wa_iload 0 dX3_suited_86 rfl ?_
              refine wa_iload_n 2 dX3_suited_88 rfl rfl ?_
              refine wa_icmp_lt 114 dX3_suited_89 rfl (fun c89 => ?_) (fun c89 => ?_)
              ·
                refine wa_iload 1 dX3_suited_114 rfl ?_
                refine wa_istore_n [(2, _), (5, _), (4, _), (3, _), (0, _), (1, _)] dX3_suited_116 rfl (Nat.le_of_ble_eq_true rfl) rfl ?_
                refine wa_iload 1 dX3_suited_117 rfl ?_
                refine wa_istore_n [(3, _), (2, _), (5, _), (4, _), (0, _), (1, _)] dX3_suited_119 rfl (Nat.le_of_ble_eq_true rfl) rfl ?_
                refine wa_iinc 3 [(4, _), (3, _), (2, _), (5, _), (0, _), (1, _)] dX3_suited_120 rfl (w_inc k) (Nat.le_of_ble_eq_true rfl) rfl ?_
                refine wa_goto 33 dX3_suited_123 rfl ?_
                refine wa_locals [(4, _), (3, _), (2, _), (0, _), (1, _)] [0, 1, 2, 4, 5] rfl ?_
                rw [if_pos (Or.inl ((nI_ltI (by omega) (by omega)).mp c89))] at est
                exact take M72 mm (hfr.trans (z_frE g2 (fun _ => z_mWE))) g3 est hfq
              ·
                refine wa_iload 0 dX3_suited_92 rfl ?_
                refine wa_iload_n 2 dX3_suited_94 rfl rfl ?_
                refine wa_icmp_ne 120 dX3_suited_95 rfl (fun c95 => ?_) (fun c95 => ?_)
                ·
                  refine wa_iinc 1 [(4, _), (5, _), (3, _), (2, _), (0, _), (1, _)] dX3_suited_120 rfl (w_inc k) (Nat.le_of_ble_eq_true rfl) rfl ?_
                  refine wa_goto 33 dX3_suited_123 rfl ?_
                  refine wa_locals [(4, _), (3, _), (2, _), (0, _), (1, _)] [0, 2, 3, 4, 5] rfl ?_
                  have hnlt : ¬ mm < m' := fun z => c89 (nI_lt z (by omega))
                  rw [if_neg (fun z => z.elim hnlt (fun z => c95 (congrArg nI z.1))), ← hsu] at est
                  have hh := keep M72 (hfr.trans (z_frE g2 (fun _ => z_mWE))) g3 est
                  rw [hsu] at hh
                  exact hh
                ·
                  refine wa_aload_n 4 dX3_suited_98 rfl rfl ?_
                  refine wa_iload 1 dX3_suited_99 rfl ?_
                  refine wa_iconst (1) dX3_suited_101 (by decide) ?_
                  refine wc_isI (wr_V dX3_suited_102 mX3_79 (sp_mof g3.mh hk6 (w := 1) (by decide)) g3.1 rfl rfl rfl (Nat.le_of_ble_eq_true rfl)) ?_
                  rw [q2]
                  refine wa_aload_n 4 dX3_suited_105 rfl rfl ?_
                  refine wa_iload_n 3 dX3_suited_106 rfl rfl ?_
                  refine wa_iconst (1) dX3_suited_107 (by decide) ?_
                  refine wc_isI (wr_V dX3_suited_108 mX3_79 (sp_mof g3.mh hj6 (w := 1) (by decide)) g3.1 rfl rfl rfl (Nat.le_of_ble_eq_true rfl)) ?_
                  rw [t2]
                  refine wa_icmp_le 120 dX3_suited_111 rfl (fun c111 => ?_) (fun c111 => ?_)
                  ·
                    refine wa_iinc 1 [(4, _), (5, _), (3, _), (2, _), (0, _), (1, _)] dX3_suited_120 rfl (w_inc k) (Nat.le_of_ble_eq_true rfl) rfl ?_
                    refine wa_goto 33 dX3_suited_123 rfl ?_
                    refine wa_locals [(4, _), (3, _), (2, _), (0, _), (1, _)] [0, 2, 3, 4, 5] rfl ?_
                    have hnlt : ¬ mm < m' := fun z => c89 (nI_lt z (by omega))
                    rw [if_neg (fun z => z.elim hnlt (fun z => absurd z.2 (Int32.not_lt.mpr c111))), ← hsu] at est
                    have hh := keep M72 (hfr.trans (z_frE g2 (fun _ => z_mWE))) g3 est
                    rw [hsu] at hh
                    exact hh
                  ·
                    refine wa_iload 1 dX3_suited_114 rfl ?_
                    refine wa_istore_n [(2, _), (5, _), (4, _), (3, _), (0, _), (1, _)] dX3_suited_116 rfl (Nat.le_of_ble_eq_true rfl) rfl ?_
                    refine wa_iload 1 dX3_suited_117 rfl ?_
                    refine wa_istore_n [(3, _), (2, _), (5, _), (4, _), (0, _), (1, _)] dX3_suited_119 rfl (Nat.le_of_ble_eq_true rfl) rfl ?_
                    refine wa_iinc 3 [(4, _), (3, _), (2, _), (5, _), (0, _), (1, _)] dX3_suited_120 rfl (w_inc k) (Nat.le_of_ble_eq_true rfl) rfl ?_
                    refine wa_goto 33 dX3_suited_123 rfl ?_
                    refine wa_locals [(4, _), (3, _), (2, _), (0, _), (1, _)] [0, 1, 2, 4, 5] rfl ?_
                    rw [if_pos (Or.inr ⟨(nI_eq (by omega) (by omega)).mp c95, Int32.not_le.mp c111⟩)] at est
                    exact take M72 mm (hfr.trans (z_frE g2 (fun _ => z_mWE))) g3 est hfq
        ·
          have hq : ¬ z_enc (z_has r) < 0 := fun z => hz (hw.mp z)
          rw [if_neg hz] at est
          refine wa_iload 0 dX3_suited_33 rfl ?_
          refine wa_aload_n 3 dX3_suited_35 rfl rfl ?_
          refine wa_getf dX3_suited_36 gX3_9 hN1 rfl ?_
          refine wa_iconst (3) dX3_suited_39 (by decide) ?_
          refine wa_iald dX3_suited_40 hN2 (vp_in_nI (n := 3) (by omega) (by omega)) ?_
          rw [hr.rn]
          refine wa_icmp_ge 126 dX3_suited_41 rfl (fun c41 => absurd c41 (nI_lt_not (by omega) (by omega))) (fun c41 => ?_)
          refine wa_aload_n 3 dX3_suited_44 rfl rfl ?_
          refine wa_iload 0 dX3_suited_45 rfl ?_
          refine wa_iconst (2) dX3_suited_47 (by decide) ?_
          refine wc_isI (wr_V dX3_suited_48 mX3_79 (sp_mof HN hk6 (w := 2) (by decide)) hN1 rfl rfl rfl (Nat.le_of_ble_eq_true rfl)) ?_
          rw [q3]
          refine wa_if_lt 58 dX3_suited_51 rfl (fun c51 => absurd c51 hq) (fun c51 => ?_)
          refine wa_iconst (-1) dX3_suited_54 (by decide) ?_
          refine wa_goto 75 dX3_suited_55 rfl ?_
          refine wa_istore [(5, _), (4, _), (3, _), (2, _), (0, _), (1, _)] dX3_suited_75 (Nat.le_of_ble_eq_true rfl) rfl ?_
          refine wa_iload 0 dX3_suited_77 rfl ?_
          refine wa_if_lt 120 dX3_suited_79 rfl (fun c79 => ?_) (fun c79 => absurd (by decide) c79)
          refine wa_iinc 1 [(4, _), (5, _), (3, _), (2, _), (0, _), (1, _)] dX3_suited_120 rfl (w_inc k) (Nat.le_of_ble_eq_true rfl) rfl ?_
          refine wa_goto 33 dX3_suited_123 rfl ?_
          refine wa_locals [(4, _), (3, _), (2, _), (0, _), (1, _)] [0, 2, 3, 4, 5] rfl ?_
          exact keep N hfr hN est
    refine wa_aload_n 0 dX3_suited_0 rfl rfl ?_
    refine wa_aload_n 0 dX3_suited_1 rfl rfl ?_
    refine wa_iload_n 1 dX3_suited_2 rfl rfl ?_
    refine wc_isI (wr_V dX3_suited_3 mX3_112 (sp_misOrderY H hr hs i1) hm rfl rfl rfl (Nat.le_of_ble_eq_true rfl)) ?_
    refine wa_if_eq 13 dX3_suited_6 rfl (fun c6 => absurd c6 (by decide)) (fun c6 => ?_)
    refine wa_iconst (0) dX3_suited_9 (by decide) ?_
    refine wa_goto 14 dX3_suited_10 rfl ?_
    refine wa_putf [_, _, _, _, _, _, _, _, _, _, _, _, _, _, _, _, _, _, _, _] dX3_suited_14 pX3_49 hm (Nat.le_of_ble_eq_true rfl) rfl rfl rfl ?_
    refine wa_aload_n 0 dX3_suited_17 rfl rfl ?_
    refine wa_getf dX3_suited_18 gX3_49 (w_set_self hm) rfl ?_
    refine wa_if_le 26 dX3_suited_21 rfl (fun c21 => ?_) (fun c21 => absurd (by decide) c21)
    refine wa_iconst (-1) dX3_suited_26 (by decide) ?_
    refine wa_istore_n [(2, _), (0, _), (1, _)] dX3_suited_27 rfl (Nat.le_of_ble_eq_true rfl) rfl ?_
    refine wa_iconst (0) dX3_suited_28 (by decide) ?_
    refine wa_istore_n [(3, _), (2, _), (0, _), (1, _)] dX3_suited_29 rfl (Nat.le_of_ble_eq_true rfl) rfl ?_
    refine wa_iconst (0) dX3_suited_30 (by decide) ?_
    refine wa_istore [(4, _), (3, _), (2, _), (0, _), (1, _)] dX3_suited_31 (Nat.le_of_ble_eq_true rfl) rfl ?_
    refine wa_locals [(4, _), (3, _), (2, _), (0, _), (1, _)] [0, 1, 2, 3, 4] rfl ?_
    exact LP _ 0 _ 0 (Nat.zero_add _) (w_fr.rf.set z_mEm) h0 (fun j r' m' e => by cases e)
theorem z_legs_last {c : z_C} {xs : List Nat} {n q : Nat} (hn : n + 1 = xs.length) (hq : xs[n]? = some q) : z_legs c (xs.drop n) = some 0 := by
  have : xs.drop n = [q] := by
    obtain ⟨h1, h2⟩ := List.getElem?_eq_some_iff.mp hq
    rw [List.drop_eq_getElem_cons h1, List.drop_eq_nil_of_le (by omega), h2]
  rw [this]
  rfl
theorem z_legs_step {c : z_C} {xs : List Nat} {n p q : Nat} (hp : xs[n]? = some p) (hq : xs[n + 1]? = some q) : z_legs c (xs.drop n) = match z_far c p q with
    | none => none
    | some m => (z_legs c (xs.drop (n + 1))).map (m + ·) := by
  obtain ⟨h1, h2⟩ := List.getElem?_eq_some_iff.mp hp
  obtain ⟨h3, h4⟩ := List.getElem?_eq_some_iff.mp hq
  rw [List.drop_eq_getElem_cons h1, List.drop_eq_getElem_cons h3, h2, h4]
  rfl
theorem z_some_of_not_neg {g : Option Nat} (hg : ∀ k, g = some k → k < 2 ^ 31) (h : ¬ z_enc g < 0) : ∃ k, g = some k := Option.ne_none_iff_exists'.mp (fun z => h ((z_enc_neg hg).mpr z))
theorem sp_mtour (h : z_mod b M m S th) {x : Int32} : w_S l G tX3_tour (7, 0, 0) [.ref m, .int x] M (z_mA b M m S (z_tourA (z_cur S) x)) := by
  obtain ⟨is, rr, rc, f, sv, pf, ip, h⟩ := h
  obtain ⟨hm, hf, -⟩ := id h
  have H := h.mh
  have hr := h.mr
  have hg := h.gd
  have hs := hg.1
  have hh := hg.2.2.2.2.2.2.2
  have hsz := hs.size
  have hR6 : (z_robs (z_cur S)).length ≤ 6 := hs.2.2.2.2.1
  have hO10 : (z_ords (z_cur S)).length ≤ 10 := hs.2.2.2.2.2.1
  cases i1 : z_idx x (z_ords (z_cur S)).length with
  | none =>
    have ea : z_tourA (z_cur S) x = .inr 1 := by unfold z_tourA; rw [i1]
    rw [ea]
    refine w_start (by decide) (Nat.le_of_ble_eq_true rfl) (fun X => ?_)
    refine wa_locals [(0, _), (1, _)] [0, 1] rfl ?_
    refine wa_aload_n 0 dX3_tour_0 rfl rfl ?_
    refine wa_aload_n 0 dX3_tour_1 rfl rfl ?_
    refine wa_iload_n 1 dX3_tour_2 rfl rfl ?_
    refine wc_isI (wr_V dX3_tour_3 mX3_112 (sp_misOrderZ H hr hs i1) hm rfl rfl rfl (Nat.le_of_ble_eq_true rfl)) ?_
    refine wa_if_eq 13 dX3_tour_6 rfl (fun c6 => ?_) (fun c6 => absurd (by decide) c6)
    refine wa_iconst (1) dX3_tour_13 (by decide) ?_
    refine wa_putf [_, _, _, _, _, _, _, _, _, _, _, _, _, _, _, _, _, _, _, _] dX3_tour_14 pX3_49 hm (Nat.le_of_ble_eq_true rfl) rfl rfl rfl ?_
    refine wa_aload_n 0 dX3_tour_17 rfl rfl ?_
    refine wa_getf dX3_tour_18 gX3_49 (w_set_self hm) rfl ?_
    refine wa_if_le 26 dX3_tour_21 rfl (fun c21 => absurd c21 (by decide)) (fun c21 => ?_)
    refine wa_iconst (0) dX3_tour_24 (by decide) ?_
    refine wa_iret FieldType.int dX3_tour_25 rfl rfl (Nat.le_of_ble_eq_true rfl) (Nat.le_of_ble_eq_true rfl) ?_
    exact ⟨_, rfl, (w_fr.rf.set z_mEm), (h.thr 1).md⟩
  | some i =>
    have hil := z_idx_lt (by omega) i1
    have e1 := z_idx_eq (by omega) i1
    subst e1
    have hi10 : i < 10 := by omega
    obtain ⟨o, ho⟩ : ∃ o, (z_ords (z_cur S))[i]? = some o := ⟨_, List.getElem?_eq_getElem hil⟩
    obtain ⟨p1, p2, p3, p4, p5, p6⟩ := hr.ord ho
    obtain ⟨-, hl3, hl0, hlq, -⟩ := hs.2.2.2.2.2.2.2 o (List.mem_of_getElem? ho)
    obtain ⟨ln, hln⟩ : ∃ ln, (z_lines o)[0]? = some ln := ⟨_, List.getElem?_eq_getElem hl0⟩
    have p6' : f (320 + 8 * i + 5) = nI ln := p6 0 ln hln
    have h0 := h.thr 0
    have H0 := h0.mh
    refine w_start (by decide) (Nat.le_of_ble_eq_true rfl) (fun X => ?_)
    refine wa_locals [(0, _), (1, _)] [0, 1] rfl ?_
    have LE : ∀ (N : w_M) (bb : Bool) (w q : Nat) (v v6 : Int32), w_fr M N (z_mE m) → z_modL b N m S 0 is rr rc f sv pf ip → (bb = true → v = nI w) → (z_lines o)[(z_lines o).length - 1]? = some q → z_legs (z_cur S) (z_lines o) = (if bb = true then some w else none) → w_A l G tX3_tour (7, 0, 0) X 0 0 N 199 [(6, .int v6), (5, .int (z_enc (z_stN (z_cur S) (z_far (z_cur S) q) (z_size (z_cur S))))), (4, .int (if bb = true then 1 else 0)), (3, .int (nI q)), (2, .int v), (0, .ref m), (1, .int (nI i))] [] (z_mA b M m S (z_tourA (z_cur S) (nI i))) := by
      intro N bb w q v v6 hfr hN hv hq hlg
      have hN1 := hN.1
      have hqs := hlq q (List.mem_of_getElem? hq)
      cases bb with
      | false =>
        have ea : z_tourA (z_cur S) (nI i) = .inr 2 := by unfold z_tourA; rw [i1]; simp only [ho, hlg]; rfl
        rw [ea]
        refine wa_aload_n 5 dX3_tour_199 rfl rfl ?_
        refine wa_iload 2 dX3_tour_200 rfl ?_
        refine wa_if_eq 214 dX3_tour_202 rfl (fun c202 => ?_) (fun c202 => absurd rfl c202)
        refine wa_iconst (2) dX3_tour_214 (by decide) ?_
        refine wa_putf [_, _, _, _, _, _, _, _, _, _, _, _, _, _, _, _, _, _, _, _] dX3_tour_215 pX3_49 hN1 (Nat.le_of_ble_eq_true rfl) rfl rfl rfl ?_
        refine wa_aload_n 5 dX3_tour_218 rfl rfl ?_
        refine wa_getf dX3_tour_219 gX3_49 (w_set_self hN1) rfl ?_
        refine wa_if_le 229 dX3_tour_222 rfl (fun c222 => absurd c222 (by decide)) (fun c222 => ?_)
        refine wa_iconst (0) dX3_tour_225 (by decide) ?_
        refine wa_goto 233 dX3_tour_226 rfl ?_
        refine wa_iret FieldType.int dX3_tour_233 rfl rfl (Nat.le_of_ble_eq_true rfl) (Nat.le_of_ble_eq_true rfl) ?_
        exact ⟨_, rfl, hfr.set z_mEm, (hN.thr 2).md⟩
      | true =>
        have hv := hv rfl
        subst hv
        have hlg : z_legs (z_cur S) (z_lines o) = some w := hlg
        cases hst : z_stN (z_cur S) (z_far (z_cur S) q) (z_size (z_cur S)) with
        | none =>
          have ea : z_tourA (z_cur S) (nI i) = .inr 2 := by unfold z_tourA; rw [i1]; simp only [ho, hlg, hq, hst]
          rw [ea]
          refine wa_aload_n 5 dX3_tour_199 rfl rfl ?_
          refine wa_iload 2 dX3_tour_200 rfl ?_
          refine wa_if_eq 214 dX3_tour_202 rfl (fun c202 => absurd c202 (by decide)) (fun c202 => ?_)
          refine wa_iload 1 dX3_tour_205 rfl ?_
          refine wa_if_lt 214 dX3_tour_207 rfl (fun c207 => ?_) (fun c207 => absurd (by decide) c207)
          refine wa_iconst (2) dX3_tour_214 (by decide) ?_
          refine wa_putf [_, _, _, _, _, _, _, _, _, _, _, _, _, _, _, _, _, _, _, _] dX3_tour_215 pX3_49 hN1 (Nat.le_of_ble_eq_true rfl) rfl rfl rfl ?_
          refine wa_aload_n 5 dX3_tour_218 rfl rfl ?_
          refine wa_getf dX3_tour_219 gX3_49 (w_set_self hN1) rfl ?_
          refine wa_if_le 229 dX3_tour_222 rfl (fun c222 => absurd c222 (by decide)) (fun c222 => ?_)
          refine wa_iconst (0) dX3_tour_225 (by decide) ?_
          refine wa_goto 233 dX3_tour_226 rfl ?_
          refine wa_iret FieldType.int dX3_tour_233 rfl rfl (Nat.le_of_ble_eq_true rfl) (Nat.le_of_ble_eq_true rfl) ?_
          exact ⟨_, rfl, hfr.set z_mEm, (hN.thr 2).md⟩
        | some mm =>
          have hml := z_stN_lt (c := z_cur S) (fun k m e => z_far_lt hs hqs e) _ _ hst
          have ea : z_tourA (z_cur S) (nI i) = .inl (nI (w + mm)) := by unfold z_tourA; rw [i1]; simp only [ho, hlg, hq, hst]
          rw [ea]
          refine wa_aload_n 5 dX3_tour_199 rfl rfl ?_
          refine wa_iload 2 dX3_tour_200 rfl ?_
          refine wa_if_eq 214 dX3_tour_202 rfl (fun c202 => absurd c202 (by decide)) (fun c202 => ?_)
          refine wa_iload 1 dX3_tour_205 rfl ?_
          refine wa_if_lt 214 dX3_tour_207 rfl (fun c207 => absurd c207 (nI_pos (n := mm) (by omega))) (fun c207 => ?_)
          refine wa_iconst (0) dX3_tour_210 (by decide) ?_
          refine wa_goto 215 dX3_tour_211 rfl ?_
          refine wa_putf [_, _, _, _, _, _, _, _, _, _, _, _, _, _, _, _, _, _, _, _] dX3_tour_215 pX3_49 hN1 (Nat.le_of_ble_eq_true rfl) rfl rfl rfl ?_
          refine wa_aload_n 5 dX3_tour_218 rfl rfl ?_
          refine wa_getf dX3_tour_219 gX3_49 (w_set_self hN1) rfl ?_
          refine wa_if_le 229 dX3_tour_222 rfl (fun c222 => ?_) (fun c222 => absurd (by decide) c222)
          refine wa_iload_n 4 dX3_tour_229 rfl rfl ?_
          refine wa_iload 1 dX3_tour_230 rfl ?_
          refine wa_iadd dX3_tour_232 ?_
          refine wa_iret FieldType.int dX3_tour_233 rfl rfl (Nat.le_of_ble_eq_true rfl) (Nat.le_of_ble_eq_true rfl) ?_
          exact ⟨_, rfl, hfr.set z_mEm, nI_add w mm, (hN.thr 0).md⟩
    have LS : ∀ (N : w_M) (g : Nat → Int32) (q : Nat) (hqs : q < z_size (z_cur S)) (hN : z_modL b N m S 0 is rr rc f sv pf ip) (hg8 : N.get (m + 8) = some (.inl (.int, 48, .inl g))) (hgv : ∀ t, t < z_size (z_cur S) → g t = z_enc (z_far (z_cur S) q t)) (v4 v : Int32)
        (K : ∀ v6, w_A l G tX3_tour (7, 0, 0) X 0 0 N 199 [(6, .int v6), (5, .int (z_enc (z_stN (z_cur S) (z_far (z_cur S) q) (z_size (z_cur S))))), (4, .int v4), (3, .int (nI q)), (2, .int v), (0, .ref m), (1, .int (nI i))] [] (z_mA b M m S (z_tourA (z_cur S) (nI i)))) (n k : Nat), k + n = z_size (z_cur S) →
        w_A l G tX3_tour (7, 0, 0) X 0 0 N 117 [(6, .int (nI k)), (5, .int (z_enc (z_stN (z_cur S) (z_far (z_cur S) q) k))), (4, .int v4), (3, .int (nI q)), (2, .int v), (0, .ref m), (1, .int (nI i))] [] (z_mA b M m S (z_tourA (z_cur S) (nI i))) := by
      intro N g q hqs hN hg8 hgv v4 v K n
      have hN1 := hN.1
      have hN2 := hN.2.1
      induction n with
      | zero =>
        intro k hn
        have hk : k = z_size (z_cur S) := by omega
        subst hk
        refine wa_iload 0 dX3_tour_117 rfl ?_
        refine wa_aload_n 5 dX3_tour_119 rfl rfl ?_
        refine wc_isI (wr_V dX3_tour_120 mX3_67 (sp_mcells hN.mh hr) hN1 rfl rfl rfl (Nat.le_of_ble_eq_true rfl)) ?_
        refine wa_icmp_ge 199 dX3_tour_123 rfl (fun c123 => ?_) (fun c123 => absurd (nI_le (by omega) (by omega)) c123)
        exact K _
      | succ n ih =>
        intro k hn
        have hkl : k < z_size (z_cur S) := by omega
        have hwf := z_enc_neg (g := z_far (z_cur S) q k) (fun y e => by have := z_far_lt hs hqs e; omega)
        have hstl := z_stN_lt (c := z_cur S) (d := z_far (z_cur S) q) (fun k m e => z_far_lt hs hqs e) k
        have hws := z_enc_neg (g := z_stN (z_cur S) (z_far (z_cur S) q) k) (fun y e => by have := hstl y e; omega)
        have ih := ih (k + 1) (by omega)
        rw [z_stN] at ih
        cases hfq : z_far (z_cur S) q k with
        | none =>
          rw [hfq] at ih
          dsimp only at ih
          refine wa_iload 0 dX3_tour_117 rfl ?_
          refine wa_aload_n 5 dX3_tour_119 rfl rfl ?_
          refine wc_isI (wr_V dX3_tour_120 mX3_67 (sp_mcells hN.mh hr) hN1 rfl rfl rfl (Nat.le_of_ble_eq_true rfl)) ?_
          refine wa_icmp_ge 199 dX3_tour_123 rfl (fun c123 => absurd c123 (nI_lt_not (by omega) (by omega))) (fun c123 => ?_)
          refine wa_aload_n 5 dX3_tour_126 rfl rfl ?_
          refine wa_getf dX3_tour_127 gX3_9 hN1 rfl ?_
          refine wa_bipush (8) dX3_tour_130 (by decide) ?_
          refine wa_iload 0 dX3_tour_132 rfl ?_
          refine wa_iadd dX3_tour_134 ?_
          rw [show (8 : Int32) + nI k = nI (8 + k) from nI_add 8 k]
          refine wa_iald dX3_tour_135 hN2 (vp_in_nI (by omega) (by omega)) ?_
          rw [nI_clamp (by omega), hr.kind hkl]
          refine wa_iconst (3) dX3_tour_136 (by decide) ?_
          refine wa_icmp_ne 154 dX3_tour_137 rfl (fun c137 => ?_) (fun c137 => ?_)
          ·
            refine wa_iconst (0) dX3_tour_154 (by decide) ?_
            refine wa_istore [(7, _), (6, _), (5, _), (4, _), (3, _), (2, _), (0, _), (1, _)] dX3_tour_155 (Nat.le_of_ble_eq_true rfl) rfl ?_
            refine wa_iload 0 dX3_tour_157 rfl ?_
            refine wa_if_eq 189 dX3_tour_159 rfl (fun c159 => ?_) (fun c159 => absurd (by decide) c159)
            refine wa_iload 2 dX3_tour_189 rfl ?_
            refine wa_istore [(5, _), (7, _), (6, _), (4, _), (3, _), (2, _), (0, _), (1, _)] dX3_tour_191 (Nat.le_of_ble_eq_true rfl) rfl ?_
            refine wa_iinc 2 [(6, _), (5, _), (7, _), (4, _), (3, _), (2, _), (0, _), (1, _)] dX3_tour_193 rfl (w_inc k) (Nat.le_of_ble_eq_true rfl) rfl ?_
            refine wa_goto 117 dX3_tour_196 rfl ?_
            refine wa_locals [(6, _), (5, _), (4, _), (3, _), (2, _), (0, _), (1, _)] [0, 1, 3, 4, 5, 6, 7] rfl ?_
            exact ih
          ·
            refine wa_aload_n 5 dX3_tour_140 rfl rfl ?_
            refine wa_getf dX3_tour_141 gX3_32 hN1 rfl ?_
            refine wa_iload 0 dX3_tour_144 rfl ?_
            refine wa_iald dX3_tour_146 hg8 (vp_in_nI (by omega) (by omega)) ?_
            rw [nI_clamp (by omega), hgv k hkl, hfq]
            refine wa_if_lt 154 dX3_tour_147 rfl (fun c147 => ?_) (fun c147 => absurd (by decide) c147)
            refine wa_iconst (0) dX3_tour_154 (by decide) ?_
            refine wa_istore [(7, _), (6, _), (5, _), (4, _), (3, _), (2, _), (0, _), (1, _)] dX3_tour_155 (Nat.le_of_ble_eq_true rfl) rfl ?_
            refine wa_iload 0 dX3_tour_157 rfl ?_
            refine wa_if_eq 189 dX3_tour_159 rfl (fun c159 => ?_) (fun c159 => absurd (by decide) c159)
            refine wa_iload 2 dX3_tour_189 rfl ?_
            refine wa_istore [(5, _), (7, _), (6, _), (4, _), (3, _), (2, _), (0, _), (1, _)] dX3_tour_191 (Nat.le_of_ble_eq_true rfl) rfl ?_
            refine wa_iinc 2 [(6, _), (5, _), (7, _), (4, _), (3, _), (2, _), (0, _), (1, _)] dX3_tour_193 rfl (w_inc k) (Nat.le_of_ble_eq_true rfl) rfl ?_
            refine wa_goto 117 dX3_tour_196 rfl ?_
            refine wa_locals [(6, _), (5, _), (4, _), (3, _), (2, _), (0, _), (1, _)] [0, 1, 3, 4, 5, 6, 7] rfl ?_
            exact ih
        | some mm =>
          have hml := z_far_lt hs hqs hfq
          rw [hfq] at ih
          dsimp only at ih
          by_cases h3 : z_kinds (z_cur S) k = 3
          ·
            rw [if_pos h3] at ih
            cases hst : z_stN (z_cur S) (z_far (z_cur S) q) k with
            | none =>
              rw [hst] at ih
              dsimp only at ih
              refine wa_iload 0 dX3_tour_117 rfl ?_
              refine wa_aload_n 5 dX3_tour_119 rfl rfl ?_
              refine wc_isI (wr_V dX3_tour_120 mX3_67 (sp_mcells hN.mh hr) hN1 rfl rfl rfl (Nat.le_of_ble_eq_true rfl)) ?_
              refine wa_icmp_ge 199 dX3_tour_123 rfl (fun c123 => absurd c123 (nI_lt_not (by omega) (by omega))) (fun c123 => ?_)
              refine wa_aload_n 5 dX3_tour_126 rfl rfl ?_
              refine wa_getf dX3_tour_127 gX3_9 hN1 rfl ?_
              refine wa_bipush (8) dX3_tour_130 (by decide) ?_
              refine wa_iload 0 dX3_tour_132 rfl ?_
              refine wa_iadd dX3_tour_134 ?_
              rw [show (8 : Int32) + nI k = nI (8 + k) from nI_add 8 k]
              refine wa_iald dX3_tour_135 hN2 (vp_in_nI (by omega) (by omega)) ?_
              rw [nI_clamp (by omega), hr.kind hkl]
              refine wa_iconst (3) dX3_tour_136 (by decide) ?_
              refine wa_icmp_ne 154 dX3_tour_137 rfl (fun c137 => absurd h3 c137) (fun c137 => ?_)
              refine wa_aload_n 5 dX3_tour_140 rfl rfl ?_
              refine wa_getf dX3_tour_141 gX3_32 hN1 rfl ?_
              refine wa_iload 0 dX3_tour_144 rfl ?_
              refine wa_iald dX3_tour_146 hg8 (vp_in_nI (by omega) (by omega)) ?_
              rw [nI_clamp (by omega), hgv k hkl, hfq]
              refine wa_if_lt 154 dX3_tour_147 rfl (fun c147 => absurd c147 (nI_pos (n := mm) (by omega))) (fun c147 => ?_)
              refine wa_iconst (1) dX3_tour_150 (by decide) ?_
              refine wa_goto 155 dX3_tour_151 rfl ?_
              refine wa_istore [(7, _), (6, _), (5, _), (4, _), (3, _), (2, _), (0, _), (1, _)] dX3_tour_155 (Nat.le_of_ble_eq_true rfl) rfl ?_
              refine wa_iload 0 dX3_tour_157 rfl ?_
              refine wa_if_eq 189 dX3_tour_159 rfl (fun c159 => absurd c159 (by decide)) (fun c159 => ?_)
              refine wa_iload 2 dX3_tour_162 rfl ?_
              refine wa_if_lt 179 dX3_tour_164 rfl (fun c164 => ?_) (fun c164 => absurd (by decide) c164)
              refine wa_aload_n 6 dX3_tour_179 rfl rfl ?_
              refine wa_getf dX3_tour_180 gX3_32 hN1 rfl ?_
              refine wa_iload 1 dX3_tour_183 rfl ?_
              refine wa_iald dX3_tour_185 hg8 (vp_in_nI (by omega) (by omega)) ?_
              rw [nI_clamp (by omega), hgv k hkl, hfq]
              refine wa_goto 191 dX3_tour_186 rfl ?_
              refine wa_istore [(5, _), (7, _), (6, _), (4, _), (3, _), (2, _), (0, _), (1, _)] dX3_tour_191 (Nat.le_of_ble_eq_true rfl) rfl ?_
              refine wa_iinc 2 [(6, _), (5, _), (7, _), (4, _), (3, _), (2, _), (0, _), (1, _)] dX3_tour_193 rfl (w_inc k) (Nat.le_of_ble_eq_true rfl) rfl ?_
              refine wa_goto 117 dX3_tour_196 rfl ?_
              refine wa_locals [(6, _), (5, _), (4, _), (3, _), (2, _), (0, _), (1, _)] [0, 1, 3, 4, 5, 6, 7] rfl ?_
              exact ih
            | some bb =>
              have hbl := hstl bb hst
              rw [hst] at ih
              dsimp only at ih
              refine wa_iload 0 dX3_tour_117 rfl ?_
              refine wa_aload_n 5 dX3_tour_119 rfl rfl ?_
              refine wc_isI (wr_V dX3_tour_120 mX3_67 (sp_mcells hN.mh hr) hN1 rfl rfl rfl (Nat.le_of_ble_eq_true rfl)) ?_
              refine wa_icmp_ge 199 dX3_tour_123 rfl (fun c123 => absurd c123 (nI_lt_not (by omega) (by omega))) (fun c123 => ?_)
              refine wa_aload_n 5 dX3_tour_126 rfl rfl ?_
              refine wa_getf dX3_tour_127 gX3_9 hN1 rfl ?_
              refine wa_bipush (8) dX3_tour_130 (by decide) ?_
              refine wa_iload 0 dX3_tour_132 rfl ?_
              refine wa_iadd dX3_tour_134 ?_
              rw [show (8 : Int32) + nI k = nI (8 + k) from nI_add 8 k]
              refine wa_iald dX3_tour_135 hN2 (vp_in_nI (by omega) (by omega)) ?_
              rw [nI_clamp (by omega), hr.kind hkl]
              refine wa_iconst (3) dX3_tour_136 (by decide) ?_
              refine wa_icmp_ne 154 dX3_tour_137 rfl (fun c137 => absurd h3 c137) (fun c137 => ?_)
              refine wa_aload_n 5 dX3_tour_140 rfl rfl ?_
              refine wa_getf dX3_tour_141 gX3_32 hN1 rfl ?_
              refine wa_iload 0 dX3_tour_144 rfl ?_
              refine wa_iald dX3_tour_146 hg8 (vp_in_nI (by omega) (by omega)) ?_
              rw [nI_clamp (by omega), hgv k hkl, hfq]
              refine wa_if_lt 154 dX3_tour_147 rfl (fun c147 => absurd c147 (nI_pos (n := mm) (by omega))) (fun c147 => ?_)
              refine wa_iconst (1) dX3_tour_150 (by decide) ?_
              refine wa_goto 155 dX3_tour_151 rfl ?_
              refine wa_istore [(7, _), (6, _), (5, _), (4, _), (3, _), (2, _), (0, _), (1, _)] dX3_tour_155 (Nat.le_of_ble_eq_true rfl) rfl ?_
              refine wa_iload 0 dX3_tour_157 rfl ?_
              refine wa_if_eq 189 dX3_tour_159 rfl (fun c159 => absurd c159 (by decide)) (fun c159 => ?_)
              refine wa_iload 2 dX3_tour_162 rfl ?_
              refine wa_if_lt 179 dX3_tour_164 rfl (fun c164 => absurd c164 (nI_pos (n := bb) (by omega))) (fun c164 => ?_)
              refine wa_aload_n 6 dX3_tour_167 rfl rfl ?_
              refine wa_getf dX3_tour_168 gX3_32 hN1 rfl ?_
              refine wa_iload 1 dX3_tour_171 rfl ?_
              refine wa_iald dX3_tour_173 hg8 (vp_in_nI (by omega) (by omega)) ?_
              rw [nI_clamp (by omega), hgv k hkl, hfq]
              refine wa_iload 2 dX3_tour_174 rfl ?_
              refine wa_icmp_ge 189 dX3_tour_176 rfl (fun c176 => ?_) (fun c176 => ?_)
              ·
                refine wa_iload 2 dX3_tour_189 rfl ?_
                refine wa_istore [(5, _), (7, _), (6, _), (4, _), (3, _), (2, _), (0, _), (1, _)] dX3_tour_191 (Nat.le_of_ble_eq_true rfl) rfl ?_
                refine wa_iinc 2 [(6, _), (5, _), (7, _), (4, _), (3, _), (2, _), (0, _), (1, _)] dX3_tour_193 rfl (w_inc k) (Nat.le_of_ble_eq_true rfl) rfl ?_
                refine wa_goto 117 dX3_tour_196 rfl ?_
                refine wa_locals [(6, _), (5, _), (4, _), (3, _), (2, _), (0, _), (1, _)] [0, 1, 3, 4, 5, 6, 7] rfl ?_
                rw [if_neg (fun z => absurd (nI_lt z (by omega)) (Int32.not_lt.mpr c176))] at ih
                exact ih
              ·
                refine wa_aload_n 6 dX3_tour_179 rfl rfl ?_
                refine wa_getf dX3_tour_180 gX3_32 hN1 rfl ?_
                refine wa_iload 1 dX3_tour_183 rfl ?_
                refine wa_iald dX3_tour_185 hg8 (vp_in_nI (by omega) (by omega)) ?_
                rw [nI_clamp (by omega), hgv k hkl, hfq]
                refine wa_goto 191 dX3_tour_186 rfl ?_
                refine wa_istore [(5, _), (7, _), (6, _), (4, _), (3, _), (2, _), (0, _), (1, _)] dX3_tour_191 (Nat.le_of_ble_eq_true rfl) rfl ?_
                refine wa_iinc 2 [(6, _), (5, _), (7, _), (4, _), (3, _), (2, _), (0, _), (1, _)] dX3_tour_193 rfl (w_inc k) (Nat.le_of_ble_eq_true rfl) rfl ?_
                refine wa_goto 117 dX3_tour_196 rfl ?_
                refine wa_locals [(6, _), (5, _), (4, _), (3, _), (2, _), (0, _), (1, _)] [0, 1, 3, 4, 5, 6, 7] rfl ?_
                rw [if_pos ((nI_ltI (by omega) (by omega)).mp (Int32.not_le.mp c176))] at ih
                exact ih
          ·
            rw [if_neg h3] at ih
            refine wa_iload 0 dX3_tour_117 rfl ?_
            refine wa_aload_n 5 dX3_tour_119 rfl rfl ?_
            refine wc_isI (wr_V dX3_tour_120 mX3_67 (sp_mcells hN.mh hr) hN1 rfl rfl rfl (Nat.le_of_ble_eq_true rfl)) ?_
            refine wa_icmp_ge 199 dX3_tour_123 rfl (fun c123 => absurd c123 (nI_lt_not (by omega) (by omega))) (fun c123 => ?_)
            refine wa_aload_n 5 dX3_tour_126 rfl rfl ?_
            refine wa_getf dX3_tour_127 gX3_9 hN1 rfl ?_
            refine wa_bipush (8) dX3_tour_130 (by decide) ?_
            refine wa_iload 0 dX3_tour_132 rfl ?_
            refine wa_iadd dX3_tour_134 ?_
            rw [show (8 : Int32) + nI k = nI (8 + k) from nI_add 8 k]
            refine wa_iald dX3_tour_135 hN2 (vp_in_nI (by omega) (by omega)) ?_
            rw [nI_clamp (by omega), hr.kind hkl]
            refine wa_iconst (3) dX3_tour_136 (by decide) ?_
            refine wa_icmp_ne 154 dX3_tour_137 rfl (fun c137 => ?_) (fun c137 => absurd c137 h3)
            refine wa_iconst (0) dX3_tour_154 (by decide) ?_
            refine wa_istore [(7, _), (6, _), (5, _), (4, _), (3, _), (2, _), (0, _), (1, _)] dX3_tour_155 (Nat.le_of_ble_eq_true rfl) rfl ?_
            refine wa_iload 0 dX3_tour_157 rfl ?_
            refine wa_if_eq 189 dX3_tour_159 rfl (fun c159 => ?_) (fun c159 => absurd (by decide) c159)
            refine wa_iload 2 dX3_tour_189 rfl ?_
            refine wa_istore [(5, _), (7, _), (6, _), (4, _), (3, _), (2, _), (0, _), (1, _)] dX3_tour_191 (Nat.le_of_ble_eq_true rfl) rfl ?_
            refine wa_iinc 2 [(6, _), (5, _), (7, _), (4, _), (3, _), (2, _), (0, _), (1, _)] dX3_tour_193 rfl (w_inc k) (Nat.le_of_ble_eq_true rfl) rfl ?_
            refine wa_goto 117 dX3_tour_196 rfl ?_
            refine wa_locals [(6, _), (5, _), (4, _), (3, _), (2, _), (0, _), (1, _)] [0, 1, 3, 4, 5, 6, 7] rfl ?_
            exact ih
    have LP : ∀ (n k : Nat) (N : w_M) (bb : Bool) (w q : Nat) (v : Int32), k + n = (z_lines o).length → 0 < k → w_fr M N (z_mE m) → z_modL b N m S 0 is rr rc f sv pf ip → (bb = true → v = nI w) → (z_lines o)[k - 1]? = some q → z_legs (z_cur S) (z_lines o) = (if bb = true then (z_legs (z_cur S) ((z_lines o).drop (k - 1))).map (w + ·) else none) → w_A l G tX3_tour (7, 0, 0) X 0 0 N 41 [(5, .int (nI k)), (4, .int (if bb = true then 1 else 0)), (3, .int (nI q)), (2, .int v), (0, .ref m), (1, .int (nI i))] [] (z_mA b M m S (z_tourA (z_cur S) (nI i))) := by
      intro n
      induction n with
      | zero =>
        intro k N bb w q v hn hk0 hfr hN hv hq hlg
        have hN1 := hN.1
        have HN := hN.mh
        have hk : k = (z_lines o).length := by omega
        subst hk
        have hps := hlq q (List.mem_of_getElem? hq)
        rw [z_legs_last (by omega) hq] at hlg
        refine wa_iload 0 dX3_tour_41 rfl ?_
        refine wa_aload_n 4 dX3_tour_43 rfl rfl ?_
        refine wa_iload_n 5 dX3_tour_44 rfl rfl ?_
        refine wa_iconst (1) dX3_tour_45 (by decide) ?_
        refine wc_isI (wr_V dX3_tour_46 mX3_109 (sp_mget HN hi10 (w := 1) (by decide)) hN1 rfl rfl rfl (Nat.le_of_ble_eq_true rfl)) ?_
        rw [p2]
        refine wa_icmp_ge 106 dX3_tour_49 rfl (fun c49 => ?_) (fun c49 => absurd (nI_le (by omega) (by omega)) c49)
        refine wa_aload_n 4 dX3_tour_106 rfl rfl ?_
        refine wa_iload_n 2 dX3_tour_107 rfl rfl ?_
        refine wc_V (wr_V dX3_tour_108 mX3_162 (sp_mfindFar hN hps) hN1 rfl rfl rfl (Nat.le_of_ble_eq_true rfl)) (fun M108 h108 => ?_)
        obtain ⟨g2, g3, g, g4, g5⟩ := h108
        refine wa_iconst (-1) dX3_tour_111 (by decide) ?_
        refine wa_istore [(5, _), (4, _), (3, _), (2, _), (0, _), (1, _)] dX3_tour_112 (Nat.le_of_ble_eq_true rfl) rfl ?_
        refine wa_iconst (0) dX3_tour_114 (by decide) ?_
        refine wa_istore [(6, _), (5, _), (4, _), (3, _), (2, _), (0, _), (1, _)] dX3_tour_115 (Nat.le_of_ble_eq_true rfl) rfl ?_
        refine wa_locals [(6, _), (5, _), (4, _), (3, _), (2, _), (0, _), (1, _)] [0, 1, 2, 3, 4, 5, 6] rfl ?_
        exact LS M108 g q hps g3 g4 g5 _ v (fun v6 => LE M108 bb w q v v6 (hfr.trans (z_frE g2 (fun _ => z_mWE))) g3 hv hq hlg) _ 0 (Nat.zero_add _)
      | succ n ih =>
        intro k N bb w q v hn hk0 hfr hN hv hq hlg
        have hN1 := hN.1
        have HN := hN.mh
        have hps := hlq q (List.mem_of_getElem? hq)
        obtain ⟨q2, hq2⟩ : ∃ q2, (z_lines o)[k]? = some q2 := ⟨_, List.getElem?_eq_getElem (by omega)⟩
        have hqs := hlq q2 (List.mem_of_getElem? hq2)
        have hwf := z_enc_neg (g := z_far (z_cur S) q q2) (fun y e => by have := z_far_lt hs hps e; omega)
        have hst := z_legs_step (c := z_cur S) hq (show (z_lines o)[k - 1 + 1]? = some q2 by rw [show k - 1 + 1 = k by omega]; exact hq2)
        have hk1 : k + 1 - 1 = k - 1 + 1 := by omega
        refine wa_iload 0 dX3_tour_41 rfl ?_
        refine wa_aload_n 4 dX3_tour_43 rfl rfl ?_
        refine wa_iload_n 5 dX3_tour_44 rfl rfl ?_
        refine wa_iconst (1) dX3_tour_45 (by decide) ?_
        refine wc_isI (wr_V dX3_tour_46 mX3_109 (sp_mget HN hi10 (w := 1) (by decide)) hN1 rfl rfl rfl (Nat.le_of_ble_eq_true rfl)) ?_
        rw [p2]
        refine wa_icmp_ge 106 dX3_tour_49 rfl (fun c49 => absurd c49 (nI_lt_not (by omega) (by omega))) (fun c49 => ?_)
        refine wa_aload_n 4 dX3_tour_52 rfl rfl ?_
        refine wa_iload_n 2 dX3_tour_53 rfl rfl ?_
        refine wa_aload_n 4 dX3_tour_54 rfl rfl ?_
        refine wa_iload_n 5 dX3_tour_55 rfl rfl ?_
        refine wa_iconst (5) dX3_tour_56 (by decide) ?_
        refine wa_iload 0 dX3_tour_57 rfl ?_
        refine wa_iadd dX3_tour_59 ?_
        rw [show (5 : Int32) + nI k = nI (5 + k) from nI_add 5 k]
        refine wc_isI (wr_V dX3_tour_60 mX3_109 (sp_mget HN hi10 (w := 5 + k) (by omega)) hN1 rfl rfl rfl (Nat.le_of_ble_eq_true rfl)) ?_
        rw [← Nat.add_assoc, p6 k q2 hq2]
        refine wc_I (wr_V dX3_tour_63 mX3_165 (sp_mfarOf hN hps hqs) hN1 rfl rfl rfl (Nat.le_of_ble_eq_true rfl)) (fun r63 M63 h63 => ?_)
        obtain ⟨g1, g2, g3, -⟩ := h63
        subst g1
        refine wa_istore [(6, _), (5, _), (4, _), (3, _), (2, _), (0, _), (1, _)] dX3_tour_66 (Nat.le_of_ble_eq_true rfl) rfl ?_
        refine wa_iload 2 dX3_tour_68 rfl ?_
        refine wa_if_eq 82 dX3_tour_70 rfl (fun c70 => ?_) (fun c70 => ?_)
        ·
          refine wa_iconst (0) dX3_tour_82 (by decide) ?_
          refine wa_istore [(4, _), (6, _), (5, _), (3, _), (2, _), (0, _), (1, _)] dX3_tour_83 (Nat.le_of_ble_eq_true rfl) rfl ?_
          refine wa_iload_n 4 dX3_tour_85 rfl rfl ?_
          refine wa_iload 1 dX3_tour_86 rfl ?_
          refine wa_iadd dX3_tour_88 ?_
          refine wa_istore_n [(2, _), (4, _), (6, _), (5, _), (3, _), (0, _), (1, _)] dX3_tour_89 rfl (Nat.le_of_ble_eq_true rfl) rfl ?_
          refine wa_aload_n 5 dX3_tour_90 rfl rfl ?_
          refine wa_iload_n 6 dX3_tour_91 rfl rfl ?_
          refine wa_iconst (5) dX3_tour_92 (by decide) ?_
          refine wa_iload 3 dX3_tour_93 rfl ?_
          refine wa_iadd dX3_tour_95 ?_
          rw [show (5 : Int32) + nI k = nI (5 + k) from nI_add 5 k]
          refine wc_isI (wr_V dX3_tour_96 mX3_109 (sp_mget g3.mh hi10 (w := 5 + k) (by omega)) g3.1 rfl rfl rfl (Nat.le_of_ble_eq_true rfl)) ?_
          rw [← Nat.add_assoc, p6 k q2 hq2]
          refine wa_istore_n [(3, _), (2, _), (4, _), (6, _), (5, _), (0, _), (1, _)] dX3_tour_99 rfl (Nat.le_of_ble_eq_true rfl) rfl ?_
          refine wa_iinc 4 [(5, _), (3, _), (2, _), (4, _), (6, _), (0, _), (1, _)] dX3_tour_100 rfl (w_inc k) (Nat.le_of_ble_eq_true rfl) rfl ?_
          refine wa_goto 41 dX3_tour_103 rfl ?_
          refine wa_locals [(5, _), (4, _), (3, _), (2, _), (0, _), (1, _)] [0, 3, 1, 2, 5, 6] rfl ?_
          have hb0 : bb = false := by cases bb; rfl; exact absurd c70 (by decide)
          subst hb0
          exact ih (k + 1) M63 false w q2 _ (by omega) (by omega) (hfr.trans (z_frE g2 (fun _ => z_mWE))) g3 (fun z => by cases z) hq2 hlg
        ·
          refine wa_iload 0 dX3_tour_73 rfl ?_
          refine wa_if_lt 82 dX3_tour_75 rfl (fun c75 => ?_) (fun c75 => ?_)
          ·
            refine wa_iconst (0) dX3_tour_82 (by decide) ?_
            refine wa_istore [(4, _), (6, _), (5, _), (3, _), (2, _), (0, _), (1, _)] dX3_tour_83 (Nat.le_of_ble_eq_true rfl) rfl ?_
            refine wa_iload_n 4 dX3_tour_85 rfl rfl ?_
            refine wa_iload 1 dX3_tour_86 rfl ?_
            refine wa_iadd dX3_tour_88 ?_
            refine wa_istore_n [(2, _), (4, _), (6, _), (5, _), (3, _), (0, _), (1, _)] dX3_tour_89 rfl (Nat.le_of_ble_eq_true rfl) rfl ?_
            refine wa_aload_n 5 dX3_tour_90 rfl rfl ?_
            refine wa_iload_n 6 dX3_tour_91 rfl rfl ?_
            refine wa_iconst (5) dX3_tour_92 (by decide) ?_
            refine wa_iload 3 dX3_tour_93 rfl ?_
            refine wa_iadd dX3_tour_95 ?_
            rw [show (5 : Int32) + nI k = nI (5 + k) from nI_add 5 k]
            refine wc_isI (wr_V dX3_tour_96 mX3_109 (sp_mget g3.mh hi10 (w := 5 + k) (by omega)) g3.1 rfl rfl rfl (Nat.le_of_ble_eq_true rfl)) ?_
            rw [← Nat.add_assoc, p6 k q2 hq2]
            refine wa_istore_n [(3, _), (2, _), (4, _), (6, _), (5, _), (0, _), (1, _)] dX3_tour_99 rfl (Nat.le_of_ble_eq_true rfl) rfl ?_
            refine wa_iinc 4 [(5, _), (3, _), (2, _), (4, _), (6, _), (0, _), (1, _)] dX3_tour_100 rfl (w_inc k) (Nat.le_of_ble_eq_true rfl) rfl ?_
            refine wa_goto 41 dX3_tour_103 rfl ?_
            refine wa_locals [(5, _), (4, _), (3, _), (2, _), (0, _), (1, _)] [0, 3, 1, 2, 5, 6] rfl ?_
            have hb1 : bb = true := by cases bb; exact absurd rfl c70; rfl
            subst hb1
            rw [hst, hwf.mp c75] at hlg
            exact ih (k + 1) M63 false w q2 _ (by omega) (by omega) (hfr.trans (z_frE g2 (fun _ => z_mWE))) g3 (fun z => by cases z) hq2 hlg
          ·
            refine wa_iconst (1) dX3_tour_78 (by decide) ?_
            refine wa_goto 83 dX3_tour_79 rfl ?_
            refine wa_istore [(4, _), (6, _), (5, _), (3, _), (2, _), (0, _), (1, _)] dX3_tour_83 (Nat.le_of_ble_eq_true rfl) rfl ?_
            refine wa_iload_n 4 dX3_tour_85 rfl rfl ?_
            refine wa_iload 1 dX3_tour_86 rfl ?_
            refine wa_iadd dX3_tour_88 ?_
            refine wa_istore_n [(2, _), (4, _), (6, _), (5, _), (3, _), (0, _), (1, _)] dX3_tour_89 rfl (Nat.le_of_ble_eq_true rfl) rfl ?_
            refine wa_aload_n 5 dX3_tour_90 rfl rfl ?_
            refine wa_iload_n 6 dX3_tour_91 rfl rfl ?_
            refine wa_iconst (5) dX3_tour_92 (by decide) ?_
            refine wa_iload 3 dX3_tour_93 rfl ?_
            refine wa_iadd dX3_tour_95 ?_
            rw [show (5 : Int32) + nI k = nI (5 + k) from nI_add 5 k]
            refine wc_isI (wr_V dX3_tour_96 mX3_109 (sp_mget g3.mh hi10 (w := 5 + k) (by omega)) g3.1 rfl rfl rfl (Nat.le_of_ble_eq_true rfl)) ?_
            rw [← Nat.add_assoc, p6 k q2 hq2]
            refine wa_istore_n [(3, _), (2, _), (4, _), (6, _), (5, _), (0, _), (1, _)] dX3_tour_99 rfl (Nat.le_of_ble_eq_true rfl) rfl ?_
            refine wa_iinc 4 [(5, _), (3, _), (2, _), (4, _), (6, _), (0, _), (1, _)] dX3_tour_100 rfl (w_inc k) (Nat.le_of_ble_eq_true rfl) rfl ?_
            refine wa_goto 41 dX3_tour_103 rfl ?_
            refine wa_locals [(5, _), (4, _), (3, _), (2, _), (0, _), (1, _)] [0, 3, 1, 2, 5, 6] rfl ?_
            have hb1 : bb = true := by cases bb; exact absurd rfl c70; rfl
            subst hb1
            have hv := hv rfl
            subst hv
            obtain ⟨mm, hmm⟩ := z_some_of_not_neg (fun y e => by have := z_far_lt hs hps e; omega) c75
            rw [hst, hmm] at hlg
            refine ih (k + 1) M63 true (w + mm) q2 _ (by omega) (by omega) (hfr.trans (z_frE g2 (fun _ => z_mWE))) g3 (fun _ => by rw [hmm]; exact nI_add w mm) hq2 ?_
            rw [hk1]
            refine hlg.trans ?_
            show Option.map _ (Option.map _ _) = Option.map _ _
            rw [Option.map_map]
            congr 1
            funext z
            show w + (mm + z) = w + mm + z
            omega
    refine wa_aload_n 0 dX3_tour_0 rfl rfl ?_
    refine wa_aload_n 0 dX3_tour_1 rfl rfl ?_
    refine wa_iload_n 1 dX3_tour_2 rfl rfl ?_
    refine wc_isI (wr_V dX3_tour_3 mX3_112 (sp_misOrderY H hr hs i1) hm rfl rfl rfl (Nat.le_of_ble_eq_true rfl)) ?_
    refine wa_if_eq 13 dX3_tour_6 rfl (fun c6 => absurd c6 (by decide)) (fun c6 => ?_)
    refine wa_iconst (0) dX3_tour_9 (by decide) ?_
    refine wa_goto 14 dX3_tour_10 rfl ?_
    refine wa_putf [_, _, _, _, _, _, _, _, _, _, _, _, _, _, _, _, _, _, _, _] dX3_tour_14 pX3_49 hm (Nat.le_of_ble_eq_true rfl) rfl rfl rfl ?_
    refine wa_aload_n 0 dX3_tour_17 rfl rfl ?_
    refine wa_getf dX3_tour_18 gX3_49 (w_set_self hm) rfl ?_
    refine wa_if_le 26 dX3_tour_21 rfl (fun c21 => ?_) (fun c21 => absurd (by decide) c21)
    refine wa_iconst (0) dX3_tour_26 (by decide) ?_
    refine wa_istore_n [(2, _), (0, _), (1, _)] dX3_tour_27 rfl (Nat.le_of_ble_eq_true rfl) rfl ?_
    refine wa_aload_n 1 dX3_tour_28 rfl rfl ?_
    refine wa_iload_n 2 dX3_tour_29 rfl rfl ?_
    refine wa_iconst (5) dX3_tour_30 (by decide) ?_
    refine wc_isI (wr_V dX3_tour_31 mX3_109 (sp_mget H0 hi10 (w := 5) (by decide)) h0.1 rfl rfl rfl (Nat.le_of_ble_eq_true rfl)) ?_
    rw [p6']
    refine wa_istore_n [(3, _), (2, _), (0, _), (1, _)] dX3_tour_34 rfl (Nat.le_of_ble_eq_true rfl) rfl ?_
    refine wa_iconst (1) dX3_tour_35 (by decide) ?_
    refine wa_istore [(4, _), (3, _), (2, _), (0, _), (1, _)] dX3_tour_36 (Nat.le_of_ble_eq_true rfl) rfl ?_
    refine wa_iconst (1) dX3_tour_38 (by decide) ?_
    refine wa_istore [(5, _), (4, _), (3, _), (2, _), (0, _), (1, _)] dX3_tour_39 (Nat.le_of_ble_eq_true rfl) rfl ?_
    refine wa_locals [(5, _), (4, _), (3, _), (2, _), (0, _), (1, _)] [0, 1, 2, 3, 4, 5] rfl ?_
    refine LP ((z_lines o).length - 1) 1 _ true 0 ln 0 (by omega) (by decide) (w_fr.rf.set z_mEm) h0 (fun _ => rfl) hln ?_
    show z_legs (z_cur S) (z_lines o) = (z_legs (z_cur S) (z_lines o)).map (0 + ·)
    cases z_legs (z_cur S) (z_lines o) with
    | none => rfl
    | some y => exact congrArg some (Nat.zero_add y).symm
end MT
