/-! ===== distances asked ===== -/
set_option maxRecDepth 100000
def z_distA (c : z_C) (v w : Int32) : Int32 ⊕ Nat := match z_idx v (z_size c) with
  | none => .inr 1
  | some p => match z_idx w (z_size c) with
    | none => .inr 1
    | some q => match z_far c p q with
      | none => .inr 2
      | some m => .inl (nI m)
def z_rchN (d : Nat → Option Nat) : Nat → Nat
  | 0 => 0
  | n + 1 => z_rchN d n + (if d n = none then 0 else 1)
def z_reachA (c : z_C) (v : Int32) : Int32 ⊕ Nat := match z_idx v (z_size c) with
  | none => .inr 1
  | some p => .inl (nI (z_rchN (z_far c p) (z_size c)))
def z_frth (d : Nat → Option Nat) : Nat → Nat → Nat
  | 0, b => b
  | k + 1, b => z_frth d k (if z_enc (d b) ≤ z_enc (d k) then k else b)
def z_farthestA (c : z_C) (v : Int32) : Int32 ⊕ Nat := match z_idx v (z_size c) with
  | none => .inr 1
  | some p => .inl (nI (z_frth (z_far c p) (z_size c) p))
section DI
variable {l : Launch} {G : w_G} {M : w_M} {E : Nat → Prop} {x bl ba tx ca : Nat} {sv : Option Nat} {bas : List Nat} {S : z_S} {P : Nat → Prop} {kd rl ol sg ra oa : Nat} {ras oas : List Nat}
theorem z_far_m1 {c : z_C} (hs : z_small c) {p q : Nat} (hp : p < z_size c) : z_enc (z_far c p q) = -1 ↔ z_far c p q = none := z_enc_m1 (fun m hm => by have := z_far_lt hs hp hm; have := hs.size; omega)
theorem sp_X1_distance (hS : z_sys G M E x bl tx S) (hs : z_small (z_cur S)) {v w : Int32} : w_S l G tX1_distance (9, 3, 102) [.ref x, .int v, .int w] M (z_anQ G E x bl tx M S (z_ask [z_IO, z_NE] S (z_distA (z_cur S) v w))) := by
  have hS0 := hS
  obtain ⟨ba, ca, sv, bas, h⟩ := hS
  have hg := h.2.1
  obtain ⟨kd, rl, ol, sg, ra, oa, ras, oas, hL⟩ := h.2.2.1
  have hgc := hL.2.1
  obtain ⟨n1, n2, n3⟩ := z_idxL hs
  have hsz := hs.size
  cases i1 : z_idx v (z_size (z_cur S)) with
  | none =>
    have hr : z_distA (z_cur S) v w = .inr 1 := by simp only [z_distA, i1]
    refine w_start (by decide) (Nat.le_of_ble_eq_true rfl) (fun X => ?_)
    refine wa_locals [(0, _), (1, _), (2, _)] [0, 1, 2] rfl ?_
    refine wa_aload_n 0 dX1_distance_0 rfl rfl ?_
    refine wa_iload_n 1 dX1_distance_1 rfl rfl ?_
    refine wc_isx (wr_V dX1_distance_2 mX1_178 (sp_requireCellZ h hL hs i1) hg rfl rfl rfl (Nat.le_of_ble_eq_true rfl)) ?_
    exact wx_out (fun _ h => by cases h) (Nat.le_of_ble_eq_true rfl) (Nat.le_of_ble_eq_true rfl) (z_anN hS0 ((congrArg (z_ask _ S) hr).trans rfl) w_fr.rf.push)
  | some p =>
    have hp := z_idx_lt n3 i1
    have ev := z_idx_eq n3 i1
    subst ev
    cases i2 : z_idx w (z_size (z_cur S)) with
    | none =>
      have hr : z_distA (z_cur S) (nI p) w = .inr 1 := by simp only [z_distA, i1, i2]
      refine w_start (by decide) (Nat.le_of_ble_eq_true rfl) (fun X => ?_)
      refine wa_locals [(0, _), (1, _), (2, _)] [0, 1, 2] rfl ?_
      refine wa_aload_n 0 dX1_distance_0 rfl rfl ?_
      refine wa_iload_n 1 dX1_distance_1 rfl rfl ?_
      refine wc_isV (wr_V dX1_distance_2 mX1_178 (sp_requireCellY h hL hs i1) hg rfl rfl rfl (Nat.le_of_ble_eq_true rfl)) ?_
      refine wa_aload_n 0 dX1_distance_5 rfl rfl ?_
      refine wa_iload_n 2 dX1_distance_6 rfl rfl ?_
      refine wc_isx (wr_V dX1_distance_7 mX1_178 (sp_requireCellZ h hL hs i2) hg rfl rfl rfl (Nat.le_of_ble_eq_true rfl)) ?_
      exact wx_out (fun _ h => by cases h) (Nat.le_of_ble_eq_true rfl) (Nat.le_of_ble_eq_true rfl) (z_anN hS0 ((congrArg (z_ask _ S) hr).trans rfl) w_fr.rf.push)
    | some q =>
      have hq := z_idx_lt n3 i2
      have ew := z_idx_eq n3 i2
      subst ew
      refine w_start (by decide) (Nat.le_of_ble_eq_true rfl) (fun X => ?_)
      refine wa_locals [(0, _), (1, _), (2, _)] [0, 1, 2] rfl ?_
      refine wa_aload_n 0 dX1_distance_0 rfl rfl ?_
      refine wa_iload_n 1 dX1_distance_1 rfl rfl ?_
      refine wc_isV (wr_V dX1_distance_2 mX1_178 (sp_requireCellY h hL hs i1) hg rfl rfl rfl (Nat.le_of_ble_eq_true rfl)) ?_
      refine wa_aload_n 0 dX1_distance_5 rfl rfl ?_
      refine wa_iload_n 2 dX1_distance_6 rfl rfl ?_
      refine wc_isV (wr_V dX1_distance_7 mX1_178 (sp_requireCellY h hL hs i2) hg rfl rfl rfl (Nat.le_of_ble_eq_true rfl)) ?_
      refine wa_aload_n 0 dX1_distance_10 rfl rfl ?_
      refine wa_iload_n 1 dX1_distance_11 rfl rfl ?_
      refine wc_A (wr_V dX1_distance_12 mX1_213 (sp_distancesFrom h hL hs hp) hg rfl rfl rfl (Nat.le_of_ble_eq_true rfl)) (fun r12 M12 h12 => ?_)
      obtain ⟨hfr, f, hf1, hf2⟩ := h12
      refine wa_iload_n 2 dX1_distance_15 rfl rfl ?_
      refine wa_iald dX1_distance_16 hf1 (vp_in_nI hq (by omega)) ?_
      rw [nI_clamp (by omega), hf2 q hq]
      refine wa_istore_n [(3, _), (0, _), (1, _), (2, _)] dX1_distance_17 rfl (Nat.le_of_ble_eq_true rfl) rfl ?_
      refine wa_iload_n 0 dX1_distance_18 rfl rfl ?_
      refine wa_iconst (-1) dX1_distance_19 (by decide) ?_
      refine wa_icmp_eq 27 dX1_distance_20 rfl (fun c20 => ?_) (fun c20 => ?_)
      ·
        have i3 := (z_far_m1 hs hp).mp c20
        have hr : z_distA (z_cur S) (nI p) (nI q) = .inr 2 := by simp only [z_distA, i1, i2, i3]
        refine wa_iconst (0) dX1_distance_27 (by decide) ?_
        refine wc_isx (wr_S dX1_distance_28 mX1_169 sp_requireElementT rfl rfl rfl (Nat.le_of_ble_eq_true rfl)) ?_
        exact wx_out (fun _ h => by cases h) (Nat.le_of_ble_eq_true rfl) (Nat.le_of_ble_eq_true rfl) (z_anN hS0 ((congrArg (z_ask _ S) hr).trans rfl) (w_fr.push hfr))
      ·
        obtain ⟨m, i3⟩ : ∃ m, z_far (z_cur S) p q = some m := Option.ne_none_iff_exists'.mp (fun z => c20 ((z_far_m1 hs hp).mpr z))
        have hr : z_distA (z_cur S) (nI p) (nI q) = .inl (nI m) := by simp only [z_distA, i1, i2, i3]
        rw [i3, show z_enc (some m) = nI m from rfl]
        refine wa_iconst (1) dX1_distance_23 (by decide) ?_
        refine wa_goto 28 dX1_distance_24 rfl ?_
        refine wc_isV (wr_S dX1_distance_28 mX1_169 sp_requireElementN rfl rfl rfl (Nat.le_of_ble_eq_true rfl)) ?_
        refine wa_iload_n 0 dX1_distance_31 rfl rfl ?_
        refine wa_iret FieldType.int dX1_distance_32 rfl rfl (Nat.le_of_ble_eq_true rfl) (Nat.le_of_ble_eq_true rfl) ?_
        exact z_anY (hS0.keepE (hfr.mono (fun _ _ z => z.elim))) ((congrArg (z_ask _ S) hr).trans rfl) (hfr.mono (fun _ _ z => z.elim))
theorem sp_X1_reach (hS : z_sys G M E x bl tx S) (hs : z_small (z_cur S)) {v : Int32} : w_S l G tX1_reach (9, 3, 102) [.ref x, .int v] M (z_anQ G E x bl tx M S (z_ask [z_IO] S (z_reachA (z_cur S) v))) := by
  have hS0 := hS
  obtain ⟨ba, ca, sv, bas, h⟩ := hS
  have hg := h.2.1
  obtain ⟨kd, rl, ol, sg, ra, oa, ras, oas, hL⟩ := h.2.2.1
  have hgc := hL.2.1
  obtain ⟨n1, n2, n3⟩ := z_idxL hs
  have hsz := hs.size
  cases i1 : z_idx v (z_size (z_cur S)) with
  | none =>
    have hr : z_reachA (z_cur S) v = .inr 1 := by simp only [z_reachA, i1]
    refine w_start (by decide) (Nat.le_of_ble_eq_true rfl) (fun X => ?_)
    refine wa_locals [(0, _), (1, _)] [0, 1] rfl ?_
    refine wa_aload_n 0 dX1_reach_0 rfl rfl ?_
    refine wa_iload_n 1 dX1_reach_1 rfl rfl ?_
    refine wc_isx (wr_V dX1_reach_2 mX1_178 (sp_requireCellZ h hL hs i1) hg rfl rfl rfl (Nat.le_of_ble_eq_true rfl)) ?_
    exact wx_out (fun _ h => by cases h) (Nat.le_of_ble_eq_true rfl) (Nat.le_of_ble_eq_true rfl) (z_anN hS0 ((congrArg (z_ask _ S) hr).trans rfl) w_fr.rf.push)
  | some p =>
    have hp := z_idx_lt n3 i1
    have ev := z_idx_eq n3 i1
    subst ev
    have hr : z_reachA (z_cur S) (nI p) = .inl (nI (z_rchN (z_far (z_cur S) p) (z_size (z_cur S)))) := by simp only [z_reachA, i1]
    refine w_start (by decide) (Nat.le_of_ble_eq_true rfl) (fun X => ?_)
    refine wa_locals [(0, _), (1, _)] [0, 1] rfl ?_
    refine wa_aload_n 0 dX1_reach_0 rfl rfl ?_
    refine wa_iload_n 1 dX1_reach_1 rfl rfl ?_
    refine wc_isV (wr_V dX1_reach_2 mX1_178 (sp_requireCellY h hL hs i1) hg rfl rfl rfl (Nat.le_of_ble_eq_true rfl)) ?_
    refine wa_aload_n 0 dX1_reach_5 rfl rfl ?_
    refine wa_iload_n 1 dX1_reach_6 rfl rfl ?_
    refine wc_A (wr_V dX1_reach_7 mX1_213 (sp_distancesFrom h hL hs hp) hg rfl rfl rfl (Nat.le_of_ble_eq_true rfl)) (fun r7 M7 h7 => ?_)
    obtain ⟨hfr, f, hf1, hf2⟩ := h7
    refine wa_astore_n [(2, _), (0, _), (1, _)] dX1_reach_10 rfl (Nat.le_of_ble_eq_true rfl) rfl ?_
    refine wa_iconst (0) dX1_reach_11 (by decide) ?_
    refine wa_istore_n [(3, _), (2, _), (0, _), (1, _)] dX1_reach_12 rfl (Nat.le_of_ble_eq_true rfl) rfl ?_
    refine wa_iconst (0) dX1_reach_13 (by decide) ?_
    refine wa_istore [(4, _), (3, _), (2, _), (0, _), (1, _)] dX1_reach_14 (Nat.le_of_ble_eq_true rfl) rfl ?_
    have LP : ∀ (n k : Nat), k + n = z_size (z_cur S) → w_A l G tX1_reach (9, 3, 102) X 2 96 M7 16 [(4, .int (nI k)), (3, .int (nI (z_rchN (z_far (z_cur S) p) k))), (2, .ref r7)] [] (z_anQ G E x bl tx M S (z_ask [z_IO] S (z_reachA (z_cur S) (nI p)))) := by
      intro n
      induction n with
      | zero =>
        intro k hn
        have ek : k = z_size (z_cur S) := by omega
        subst ek
        refine wa_iload 0 dX1_reach_16 rfl ?_
        refine wa_aload_n 2 dX1_reach_18 rfl rfl ?_
        refine wa_alen 0 dX1_reach_19 hf1 rfl ?_
        refine wa_icmp_ge 45 dX1_reach_20 rfl (fun c20 => ?_) (fun c20 => absurd (nI_le (by omega) (by omega)) c20)
        refine wa_iload_n 1 dX1_reach_45 rfl rfl ?_
        refine wa_iret FieldType.int dX1_reach_46 rfl rfl (Nat.le_of_ble_eq_true rfl) (Nat.le_of_ble_eq_true rfl) ?_
        exact z_anY (hS0.keepE (hfr.mono (fun _ _ z => z.elim))) ((congrArg (z_ask _ S) hr).trans rfl) (hfr.mono (fun _ _ z => z.elim))
      | succ n ih =>
        intro k hn
        refine wa_iload 0 dX1_reach_16 rfl ?_
        refine wa_aload_n 2 dX1_reach_18 rfl rfl ?_
        refine wa_alen 0 dX1_reach_19 hf1 rfl ?_
        refine wa_icmp_ge 45 dX1_reach_20 rfl (fun c20 => absurd c20 (nI_lt_not (by omega) (by omega))) (fun c20 => ?_)
        refine wa_iload_n 1 dX1_reach_23 rfl rfl ?_
        refine wa_aload_n 2 dX1_reach_24 rfl rfl ?_
        refine wa_iload 0 dX1_reach_25 rfl ?_
        refine wa_iald dX1_reach_27 hf1 (vp_in_nI (by omega) (by omega)) ?_
        rw [nI_clamp (by omega), hf2 k (by omega)]
        refine wa_iconst (-1) dX1_reach_28 (by decide) ?_
        refine wa_icmp_eq 36 dX1_reach_29 rfl (fun c29 => ?_) (fun c29 => ?_)
        ·
          have i3 := (z_far_m1 hs hp).mp c29
          refine wa_iconst (0) dX1_reach_36 (by decide) ?_
          refine wa_iadd dX1_reach_37 ?_
          rw [Int32.add_zero]
          refine wa_istore_n [(3, _), (4, _), (2, _)] dX1_reach_38 rfl (Nat.le_of_ble_eq_true rfl) rfl ?_
          refine wa_iinc 1 [(4, _), (3, _), (2, _)] dX1_reach_39 rfl (w_inc k) (Nat.le_of_ble_eq_true rfl) rfl ?_
          refine wa_goto 16 dX1_reach_42 rfl ?_
          refine wa_locals [(4, _), (3, _), (2, _)] [0, 1, 2] rfl ?_
          have hh := ih (k + 1) (by omega)
          rw [show z_rchN (z_far (z_cur S) p) (k + 1) = z_rchN (z_far (z_cur S) p) k + 0 by rw [z_rchN, if_pos i3]] at hh
          exact hh
        ·
          have i3 : ¬ z_far (z_cur S) p k = none := fun z => c29 ((z_far_m1 hs hp).mpr z)
          refine wa_iconst (1) dX1_reach_32 (by decide) ?_
          refine wa_goto 37 dX1_reach_33 rfl ?_
          refine wa_iadd dX1_reach_37 ?_
          rw [nI_1]
          refine wa_istore_n [(3, _), (4, _), (2, _)] dX1_reach_38 rfl (Nat.le_of_ble_eq_true rfl) rfl ?_
          refine wa_iinc 1 [(4, _), (3, _), (2, _)] dX1_reach_39 rfl (w_inc k) (Nat.le_of_ble_eq_true rfl) rfl ?_
          refine wa_goto 16 dX1_reach_42 rfl ?_
          refine wa_locals [(4, _), (3, _), (2, _)] [0, 1, 2] rfl ?_
          have hh := ih (k + 1) (by omega)
          rw [show z_rchN (z_far (z_cur S) p) (k + 1) = z_rchN (z_far (z_cur S) p) k + 1 by rw [z_rchN, if_neg i3]] at hh
          exact hh
    refine wa_locals [(4, _), (3, _), (2, _)] [0, 1, 2] rfl ?_
    exact LP _ 0 (Nat.zero_add _)
theorem sp_X1_farthest (hS : z_sys G M E x bl tx S) (hs : z_small (z_cur S)) {v : Int32} : w_S l G tX1_farthest (9, 3, 102) [.ref x, .int v] M (z_anQ G E x bl tx M S (z_ask [z_IO] S (z_farthestA (z_cur S) v))) := by
  have hS0 := hS
  obtain ⟨ba, ca, sv, bas, h⟩ := hS
  have hg := h.2.1
  obtain ⟨kd, rl, ol, sg, ra, oa, ras, oas, hL⟩ := h.2.2.1
  have hgc := hL.2.1
  obtain ⟨n1, n2, n3⟩ := z_idxL hs
  have hsz := hs.size
  cases i1 : z_idx v (z_size (z_cur S)) with
  | none =>
    have hr : z_farthestA (z_cur S) v = .inr 1 := by simp only [z_farthestA, i1]
    refine w_start (by decide) (Nat.le_of_ble_eq_true rfl) (fun X => ?_)
    refine wa_locals [(0, _), (1, _)] [0, 1] rfl ?_
    refine wa_aload_n 0 dX1_farthest_0 rfl rfl ?_
    refine wa_iload_n 1 dX1_farthest_1 rfl rfl ?_
    refine wc_isx (wr_V dX1_farthest_2 mX1_178 (sp_requireCellZ h hL hs i1) hg rfl rfl rfl (Nat.le_of_ble_eq_true rfl)) ?_
    exact wx_out (fun _ h => by cases h) (Nat.le_of_ble_eq_true rfl) (Nat.le_of_ble_eq_true rfl) (z_anN hS0 ((congrArg (z_ask _ S) hr).trans rfl) w_fr.rf.push)
  | some p =>
    have hp := z_idx_lt n3 i1
    have ev := z_idx_eq n3 i1
    subst ev
    have hr : z_farthestA (z_cur S) (nI p) = .inl (nI (z_frth (z_far (z_cur S) p) (z_size (z_cur S)) p)) := by simp only [z_farthestA, i1]
    refine w_start (by decide) (Nat.le_of_ble_eq_true rfl) (fun X => ?_)
    refine wa_locals [(0, _), (1, _)] [0, 1] rfl ?_
    refine wa_aload_n 0 dX1_farthest_0 rfl rfl ?_
    refine wa_iload_n 1 dX1_farthest_1 rfl rfl ?_
    refine wc_isV (wr_V dX1_farthest_2 mX1_178 (sp_requireCellY h hL hs i1) hg rfl rfl rfl (Nat.le_of_ble_eq_true rfl)) ?_
    refine wa_aload_n 0 dX1_farthest_5 rfl rfl ?_
    refine wa_iload_n 1 dX1_farthest_6 rfl rfl ?_
    refine wc_A (wr_V dX1_farthest_7 mX1_213 (sp_distancesFrom h hL hs hp) hg rfl rfl rfl (Nat.le_of_ble_eq_true rfl)) (fun r7 M7 h7 => ?_)
    obtain ⟨hfr, f, hf1, hf2⟩ := h7
    refine wa_astore_n [(2, _), (0, _), (1, _)] dX1_farthest_10 rfl (Nat.le_of_ble_eq_true rfl) rfl ?_
    refine wa_iload_n 2 dX1_farthest_11 rfl rfl ?_
    refine wa_istore_n [(3, _), (2, _), (0, _), (1, _)] dX1_farthest_12 rfl (Nat.le_of_ble_eq_true rfl) rfl ?_
    refine wa_aload_n 1 dX1_farthest_13 rfl rfl ?_
    refine wa_alen 0 dX1_farthest_14 hf1 rfl ?_
    refine wa_iconst (1) dX1_farthest_15 (by decide) ?_
    refine wa_isub dX1_farthest_16 ?_
    refine wa_istore [(4, _), (3, _), (2, _), (0, _), (1, _)] dX1_farthest_17 (Nat.le_of_ble_eq_true rfl) rfl ?_
    have LP : ∀ (k b : Nat), k ≤ z_size (z_cur S) → b < z_size (z_cur S) → z_frth (z_far (z_cur S) p) k b = z_frth (z_far (z_cur S) p) (z_size (z_cur S)) p → w_A l G tX1_farthest (9, 3, 102) X 2 96 M7 19 [(4, .int (nI k - 1)), (3, .int (nI b)), (2, .ref r7)] [] (z_anQ G E x bl tx M S (z_ask [z_IO] S (z_farthestA (z_cur S) (nI p)))) := by
      intro k
      induction k with
      | zero =>
        intro b hk hb e
        have e : b = z_frth (z_far (z_cur S) p) (z_size (z_cur S)) p := e
        rw [← e] at hr
        refine wa_iload 0 dX1_farthest_19 rfl ?_
        refine wa_if_lt 47 dX1_farthest_21 rfl (fun c21 => ?_) (fun c21 => absurd (show nI 0 - 1 < 0 by decide) c21)
        refine wa_iload_n 1 dX1_farthest_47 rfl rfl ?_
        refine wa_iret FieldType.int dX1_farthest_48 rfl rfl (Nat.le_of_ble_eq_true rfl) (Nat.le_of_ble_eq_true rfl) ?_
        exact z_anY (hS0.keepE (hfr.mono (fun _ _ z => z.elim))) ((congrArg (z_ask _ S) hr).trans rfl) (hfr.mono (fun _ _ z => z.elim))
      | succ k ih =>
        intro b hk hb e
        rw [z_frth] at e
        rw [nI_pred k]
        refine wa_iload 0 dX1_farthest_19 rfl ?_
        refine wa_if_lt 47 dX1_farthest_21 rfl (fun c21 => absurd c21 (nI_pos (by omega))) (fun c21 => ?_)
        refine wa_aload_n 2 dX1_farthest_24 rfl rfl ?_
        refine wa_iload 0 dX1_farthest_25 rfl ?_
        refine wa_iald dX1_farthest_27 hf1 (vp_in_nI (by omega) (by omega)) ?_
        rw [nI_clamp (by omega), hf2 k (by omega)]
        refine wa_aload_n 2 dX1_farthest_28 rfl rfl ?_
        refine wa_iload_n 1 dX1_farthest_29 rfl rfl ?_
        refine wa_iald dX1_farthest_30 hf1 (vp_in_nI hb (by omega)) ?_
        rw [nI_clamp (by omega), hf2 b hb]
        refine wa_icmp_lt 39 dX1_farthest_31 rfl (fun c31 => ?_) (fun c31 => ?_)
        ·
          refine wa_iload_n 1 dX1_farthest_39 rfl rfl ?_
          refine wa_istore_n [(3, _), (4, _), (2, _)] dX1_farthest_40 rfl (Nat.le_of_ble_eq_true rfl) rfl ?_
          refine wa_iinc 1 [(4, _), (3, _), (2, _)] dX1_farthest_41 rfl (z_decI _) (Nat.le_of_ble_eq_true rfl) rfl ?_
          refine wa_goto 19 dX1_farthest_44 rfl ?_
          refine wa_locals [(4, _), (3, _), (2, _)] [0, 1, 2] rfl ?_
          rw [if_neg (Int32.not_le.mpr c31)] at e
          exact ih b (by omega) hb e
        ·
          refine wa_iload 0 dX1_farthest_34 rfl ?_
          refine wa_goto 40 dX1_farthest_36 rfl ?_
          refine wa_istore_n [(3, _), (4, _), (2, _)] dX1_farthest_40 rfl (Nat.le_of_ble_eq_true rfl) rfl ?_
          refine wa_iinc 1 [(4, _), (3, _), (2, _)] dX1_farthest_41 rfl (z_decI _) (Nat.le_of_ble_eq_true rfl) rfl ?_
          refine wa_goto 19 dX1_farthest_44 rfl ?_
          refine wa_locals [(4, _), (3, _), (2, _)] [0, 1, 2] rfl ?_
          rw [if_pos (Int32.not_lt.mp c31)] at e
          exact ih k (by omega) (by omega) e
    refine wa_locals [(4, _), (3, _), (2, _)] [0, 1, 2] rfl ?_
    exact LP _ p (Nat.le_refl _) hp rfl
def z_arrA (c : z_C) (v w : Int32) : Int32 ⊕ Nat := match z_idx v (z_robs c).length with
  | none => .inr 1
  | some k => match z_idx w (z_size c) with
    | none => .inr 1
    | some g => match (z_robs c)[k]? with
      | none => .inr 1
      | some r => if z_free c g = true then if z_cell r = g then .inl 0 else match z_first c k (z_cell r) g (z_hor c) 0 with
          | none => .inr 2
          | some u => .inl (nI (u + 1))
        else .inr 2
theorem sp_arrival2L (hS : z_sys G M E x bl tx S) (hs : z_small (z_cur S)) (hH : z_sets (z_cur S) 2 = nI (z_hor (z_cur S))) (hH30 : z_hor (z_cur S) ≤ 30) {v w : Int32} : w_S l G tX1_arrival_2 (9, 4, 2028) [.ref x, .int v, .int w, .int 1] M (z_anQ G E x bl tx M S (z_ask [z_IO, z_NE] S (z_arrA (z_cur S) v w))) := by
  have hS0 := hS
  obtain ⟨ba, ca, sv, bas, h⟩ := hS
  have hg := h.2.1
  obtain ⟨kd, rl, ol, sg, ra, oa, ras, oas, hL⟩ := h.2.2.1
  have hgc := hL.2.1
  obtain ⟨n1, n2, n3⟩ := z_idxL hs
  have hsz := hs.size
  cases i1 : z_idx v (z_robs (z_cur S)).length with
  | none =>
    have hr : z_arrA (z_cur S) v w = .inr 1 := by simp only [z_arrA, i1]
    refine w_start (by decide) (Nat.le_of_ble_eq_true rfl) (fun X => ?_)
    refine wa_locals [(0, _), (1, _), (2, _), (3, _)] [0, 1, 2, 3] rfl ?_
    refine wa_aload_n 0 dX1_arrival_2_0 rfl rfl ?_
    refine wa_iload_n 1 dX1_arrival_2_1 rfl rfl ?_
    refine wc_isx (wr_V dX1_arrival_2_2 mX1_235 (sp_getRobotZ h hL hs i1) hg rfl rfl rfl (Nat.le_of_ble_eq_true rfl)) ?_
    exact wx_out (fun _ h => by cases h) (Nat.le_of_ble_eq_true rfl) (Nat.le_of_ble_eq_true rfl) (z_anN hS0 ((congrArg (z_ask _ S) hr).trans rfl) w_fr.rf.push)
  | some k =>
    have hk := z_idx_lt n1 i1
    have ev := z_idx_eq n1 i1
    subst ev
    obtain ⟨r, hrr⟩ : ∃ r, (z_robs (z_cur S))[k]? = some r := ⟨_, List.getElem?_eq_getElem hk⟩
    obtain ⟨y, hy, pv, hrp, hrn⟩ := z_robAt hL hrr
    obtain ⟨dn, hpy, hob, hrest⟩ := id hrp
    have hsm := hs.2.2.2.2.2.2.1 r (List.mem_of_getElem? hrr)
    have hcs := hsm.1
    cases i2 : z_idx w (z_size (z_cur S)) with
    | none =>
      have hr : z_arrA (z_cur S) (nI k) w = .inr 1 := by simp only [z_arrA, i1, i2]
      refine w_start (by decide) (Nat.le_of_ble_eq_true rfl) (fun X => ?_)
      refine wa_locals [(0, _), (1, _), (2, _), (3, _)] [0, 1, 2, 3] rfl ?_
      refine wa_aload_n 0 dX1_arrival_2_0 rfl rfl ?_
      refine wa_iload_n 1 dX1_arrival_2_1 rfl rfl ?_
      refine wc_isA (wr_V dX1_arrival_2_2 mX1_235 (sp_getRobotY h hL hs i1 hy hob) hg rfl rfl rfl (Nat.le_of_ble_eq_true rfl)) ?_
      refine wa_astore [(4, _), (0, _), (1, _), (2, _), (3, _)] dX1_arrival_2_5 (Nat.le_of_ble_eq_true rfl) rfl ?_
      refine wa_aload_n 1 dX1_arrival_2_7 rfl rfl ?_
      refine wa_iload_n 3 dX1_arrival_2_8 rfl rfl ?_
      refine wc_isx (wr_V dX1_arrival_2_9 mX1_178 (sp_requireCellZ h hL hs i2) hg rfl rfl rfl (Nat.le_of_ble_eq_true rfl)) ?_
      exact wx_out (fun _ h => by cases h) (Nat.le_of_ble_eq_true rfl) (Nat.le_of_ble_eq_true rfl) (z_anN hS0 ((congrArg (z_ask _ S) hr).trans rfl) w_fr.rf.push)
    | some g =>
      have hgs := z_idx_lt n3 i2
      have ew := z_idx_eq n3 i2
      subst ew
      have hfree := sp_isFree (l := l) hL hs hgs
      by_cases i3 : z_free (z_cur S) g = true
      · rw [if_pos i3] at hfree
        refine w_start (by decide) (Nat.le_of_ble_eq_true rfl) (fun X => ?_)
        refine wa_locals [(0, _), (1, _), (2, _), (3, _)] [0, 1, 2, 3] rfl ?_
        refine wa_aload_n 0 dX1_arrival_2_0 rfl rfl ?_
        refine wa_iload_n 1 dX1_arrival_2_1 rfl rfl ?_
        refine wc_isA (wr_V dX1_arrival_2_2 mX1_235 (sp_getRobotY h hL hs i1 hy hob) hg rfl rfl rfl (Nat.le_of_ble_eq_true rfl)) ?_
        refine wa_astore [(4, _), (0, _), (1, _), (2, _), (3, _)] dX1_arrival_2_5 (Nat.le_of_ble_eq_true rfl) rfl ?_
        refine wa_aload_n 1 dX1_arrival_2_7 rfl rfl ?_
        refine wa_iload_n 3 dX1_arrival_2_8 rfl rfl ?_
        refine wc_isV (wr_V dX1_arrival_2_9 mX1_178 (sp_requireCellY h hL hs i2) hg rfl rfl rfl (Nat.le_of_ble_eq_true rfl)) ?_
        refine wa_aload_n 1 dX1_arrival_2_12 rfl rfl ?_
        refine wa_getf dX1_arrival_2_13 gX1_14 hg rfl ?_
        refine wa_iload_n 3 dX1_arrival_2_16 rfl rfl ?_
        refine wc_isI (wr_V dX1_arrival_2_17 mX1_192 hfree hgc rfl rfl rfl (Nat.le_of_ble_eq_true rfl)) ?_
        refine wc_isV (wr_S dX1_arrival_2_20 mX1_169 sp_requireElementN rfl rfl rfl (Nat.le_of_ble_eq_true rfl)) ?_
        refine wa_aload 0 dX1_arrival_2_23 rfl ?_
        refine wa_getf dX1_arrival_2_25 gX1_239 hob rfl ?_
        refine wa_iload_n 3 dX1_arrival_2_28 rfl rfl ?_
        refine wa_icmp_ne 34 dX1_arrival_2_29 rfl (fun c29 => ?_) (fun c29 => ?_)
        ·
          have i4 : ¬ z_cell r = g := fun z => c29 (by rw [z])
          have hg4 := w_push_old (e := .inr (8, [.null, .int 0, .int 0, .int 0, .int 0, .null, .null])) hg
          refine wa_new dX1_arrival_2_34 nX1_266 (Nat.le_of_ble_eq_true rfl) (Nat.le_of_ble_eq_true rfl) ?_
          refine wa_dup dX1_arrival_2_37 rfl ?_
          refine wa_aload_n 1 dX1_arrival_2_38 rfl rfl ?_
          refine wa_getf dX1_arrival_2_39 gX1_14 hg4 rfl ?_
          refine wa_iload_n 2 dX1_arrival_2_42 rfl rfl ?_
          refine wa_iload_n 3 dX1_arrival_2_43 rfl rfl ?_
          refine wa_lo (fun lo hd => ?_)
          have hr0 : ¬ w_ad G 0 = M.sz := fun q => hd _ (by rw [q]; exact w_push_self)
          have hPp : ∀ q, (z_cm E x bl ba tx q ∧ q < M.sz) → ¬ q = M.sz := fun q z e => by omega
          have h1 : z_coreL G (M.push (.inr (8, [.null, .int 0, .int 0, .int 0, .int 0, .null, .null]))) (fun q => z_cm E x bl ba tx q ∧ q < M.sz) ca kd rl ol sg ra oa ras oas (z_cur S) := (hL.mono (P' := fun q => z_cm E x bl ba tx q ∧ q < M.sz) (fun q z1 z2 => ⟨z2, z1⟩)).keep (W := fun _ => False) w_fr.rf.push (fun _ _ z => z) (fun z => z)
          refine wc_V (wr_I dX1_arrival_2_44 mX1_268 (sp_P_init h1 hs hrr hH w_push_self hPp) rfl rfl rfl (Nat.le_of_ble_eq_true rfl)) (fun M44 h44 => ?_)
          have hc4 := h1.keep (W := fun q => q = M.sz) h44.2.2 hPp hr0
          have hPr : ∀ q, (z_cm E x bl ba tx q ∧ q < M.sz) → ¬ q = M.sz + 1 + 1 := fun q z e => by omega
          have hp4 := h44.1.1
          refine wa_astore [(5, _), (4, _), (0, _), (1, _), (2, _), (3, _)] dX1_arrival_2_47 (Nat.le_of_ble_eq_true rfl) rfl ?_
          refine wa_iload_n 5 dX1_arrival_2_49 rfl rfl ?_
          refine wa_if_eq 61 dX1_arrival_2_50 rfl (fun c50 => absurd c50 (by decide)) (fun c50 => ?_)
          refine wa_aload 0 dX1_arrival_2_53 rfl ?_
          refine wc_I (wr_V dX1_arrival_2_55 mX1_271 (sp_layers h44.1 hc4 hs h44.2.1 hPr hcs hgs hH30) hp4 rfl rfl rfl (Nat.le_of_ble_eq_true rfl)) (fun r55 M55 h55 => ?_)
          obtain ⟨e5, hf5, -⟩ := h55
          subst e5
          have hfN : w_fr M M55 (fun _ => False) := z_frN (z_frN w_fr.rf (w_fr.trans (w_fr.rf.push (e := .inr (8, [.null, .int 0, .int 0, .int 0, .int 0, .null, .null]))) (h44.2.2.mono (W' := fun q => M.sz ≤ q) (fun q _ e => by rw [e]; exact Nat.le_refl _)))) (hf5.mono (W' := fun q => M.sz ≤ q) (fun q _ e => by rw [e]; show M.sz ≤ M.sz + 1 + 1; omega))
          refine wa_goto 66 dX1_arrival_2_58 rfl ?_
          refine wa_istore [(6, _), (5, _), (4, _), (0, _), (1, _), (2, _), (3, _)] dX1_arrival_2_66 (Nat.le_of_ble_eq_true rfl) rfl ?_
          refine wa_iload 0 dX1_arrival_2_68 rfl ?_
          refine wa_iconst (-1) dX1_arrival_2_70 (by decide) ?_
          refine wa_icmp_eq 78 dX1_arrival_2_71 rfl (fun c71 => ?_) (fun c71 => ?_)
          ·
            have i5 : z_first (z_cur S) k (z_cell r) g (z_hor (z_cur S)) 0 = none := by
              cases hq : z_first (z_cur S) k (z_cell r) g (z_hor (z_cur S)) 0 with
              | none => rfl
              | some u =>
                rw [hq] at c71
                have hu := (z_first_at _ 0 u hq).2.1
                have := (z_enc_m1 (g := some (u + 1)) (fun j e => by cases e; omega)).mp c71
                cases this
            have hr : z_arrA (z_cur S) (nI k) (nI g) = .inr 2 := by simp only [z_arrA, i1, i2, hrr, if_pos i3, if_neg i4, i5]
            refine wa_iconst (0) dX1_arrival_2_78 (by decide) ?_
            refine wc_isx (wr_S dX1_arrival_2_79 mX1_169 sp_requireElementT rfl rfl rfl (Nat.le_of_ble_eq_true rfl)) ?_
            exact wx_out (fun _ h => by cases h) (Nat.le_of_ble_eq_true rfl) (Nat.le_of_ble_eq_true rfl) (z_anN hS0 ((congrArg (z_ask _ S) hr).trans rfl) (w_fr.push hfN))
          ·
            obtain ⟨u, i5⟩ : ∃ u, z_first (z_cur S) k (z_cell r) g (z_hor (z_cur S)) 0 = some u := Option.ne_none_iff_exists'.mp (fun z => c71 (by rw [z]; rfl))
            have hr : z_arrA (z_cur S) (nI k) (nI g) = .inl (nI (u + 1)) := by simp only [z_arrA, i1, i2, hrr, if_pos i3, if_neg i4, i5]
            rw [i5, show z_enc ((some u).map (· + 1)) = nI (u + 1) from rfl]
            refine wa_iconst (1) dX1_arrival_2_74 (by decide) ?_
            refine wa_goto 79 dX1_arrival_2_75 rfl ?_
            refine wc_isV (wr_S dX1_arrival_2_79 mX1_169 sp_requireElementN rfl rfl rfl (Nat.le_of_ble_eq_true rfl)) ?_
            refine wa_iload 0 dX1_arrival_2_82 rfl ?_
            refine wa_iret FieldType.int dX1_arrival_2_84 rfl rfl (Nat.le_of_ble_eq_true rfl) (Nat.le_of_ble_eq_true rfl) ?_
            exact z_anY (hS0.keepE (hfN.mono (fun _ _ z => z.elim))) ((congrArg (z_ask _ S) hr).trans rfl) (hfN.mono (fun _ _ z => z.elim))
        ·
          have i4 : z_cell r = g := (nI_eq (by omega) (by omega)).mp c29
          have hr : z_arrA (z_cur S) (nI k) (nI g) = .inl 0 := by simp only [z_arrA, i1, i2, hrr, if_pos i3, if_pos i4]
          refine wa_iconst (0) dX1_arrival_2_32 (by decide) ?_
          refine wa_iret FieldType.int dX1_arrival_2_33 rfl rfl (Nat.le_of_ble_eq_true rfl) (Nat.le_of_ble_eq_true rfl) ?_
          exact z_anY hS0 ((congrArg (z_ask _ S) hr).trans rfl) w_fr.rf
      · rw [if_neg i3] at hfree
        have hr : z_arrA (z_cur S) (nI k) (nI g) = .inr 2 := by simp only [z_arrA, i1, i2, hrr, if_neg i3]
        refine w_start (by decide) (Nat.le_of_ble_eq_true rfl) (fun X => ?_)
        refine wa_locals [(0, _), (1, _), (2, _), (3, _)] [0, 1, 2, 3] rfl ?_
        refine wa_aload_n 0 dX1_arrival_2_0 rfl rfl ?_
        refine wa_iload_n 1 dX1_arrival_2_1 rfl rfl ?_
        refine wc_isA (wr_V dX1_arrival_2_2 mX1_235 (sp_getRobotY h hL hs i1 hy hob) hg rfl rfl rfl (Nat.le_of_ble_eq_true rfl)) ?_
        refine wa_astore [(4, _), (0, _), (1, _), (2, _), (3, _)] dX1_arrival_2_5 (Nat.le_of_ble_eq_true rfl) rfl ?_
        refine wa_aload_n 1 dX1_arrival_2_7 rfl rfl ?_
        refine wa_iload_n 3 dX1_arrival_2_8 rfl rfl ?_
        refine wc_isV (wr_V dX1_arrival_2_9 mX1_178 (sp_requireCellY h hL hs i2) hg rfl rfl rfl (Nat.le_of_ble_eq_true rfl)) ?_
        refine wa_aload_n 1 dX1_arrival_2_12 rfl rfl ?_
        refine wa_getf dX1_arrival_2_13 gX1_14 hg rfl ?_
        refine wa_iload_n 3 dX1_arrival_2_16 rfl rfl ?_
        refine wc_isI (wr_V dX1_arrival_2_17 mX1_192 hfree hgc rfl rfl rfl (Nat.le_of_ble_eq_true rfl)) ?_
        refine wc_isx (wr_S dX1_arrival_2_20 mX1_169 sp_requireElementT rfl rfl rfl (Nat.le_of_ble_eq_true rfl)) ?_
        exact wx_out (fun _ h => by cases h) (Nat.le_of_ble_eq_true rfl) (Nat.le_of_ble_eq_true rfl) (z_anN hS0 ((congrArg (z_ask _ S) hr).trans rfl) w_fr.rf.push)
theorem sp_X1_arrivalAgain (hS : z_sys G M E x bl tx S) (hs : z_small (z_cur S)) (hH : z_sets (z_cur S) 2 = nI (z_hor (z_cur S))) (hH30 : z_hor (z_cur S) ≤ 30) {v w : Int32} : w_S l G tX1_arrivalAgain (10, 4, 2028) [.ref x, .int v, .int w] M (z_anQ G E x bl tx M S (z_ask [z_IO, z_NE] S (z_arrA (z_cur S) v w))) := by
  have hS0 := hS
  obtain ⟨ba, ca, sv, bas, h⟩ := hS
  have hg := h.2.1
  have hc := sp_arrival2L (l := l) hS0 hs hH hH30 (v := v) (w := w)
  cases hr : z_ask [z_IO, z_NE] S (z_arrA (z_cur S) v w) with
  | inl p =>
    obtain ⟨vv, S'⟩ := p
    obtain ⟨z, hz, hS'⟩ : ∃ z, vv = .int z ∧ S' = S := by
      cases ha : z_arrA (z_cur S) v w with
      | inl z => rw [ha] at hr; cases hr; exact ⟨z, rfl, rfl⟩
      | inr n => rw [ha] at hr; cases hr
    subst hz
    subst hS'
    have hc2 : w_S l G tX1_arrival_2 _ _ _ (w_rI (fun r N => r = z ∧ w_fr M N (fun q => ¬ E q) ∧ z_sys G N E x bl tx S')) := hc.mono (fun o N q => by obtain ⟨q1, q2⟩ := q; rw [hr] at q2; exact ⟨z, q2.1, rfl, q1, q2.2⟩)
    refine w_start (by decide) (Nat.le_of_ble_eq_true rfl) (fun X => ?_)
    refine wa_locals [(0, _), (1, _), (2, _)] [0, 1, 2] rfl ?_
    refine wa_aload_n 0 dX1_arrivalAgain_0 rfl rfl ?_
    refine wa_iload_n 1 dX1_arrivalAgain_1 rfl rfl ?_
    refine wa_iload_n 2 dX1_arrivalAgain_2 rfl rfl ?_
    refine wa_iconst (1) dX1_arrivalAgain_3 (by decide) ?_
    refine wc_I (wr_V dX1_arrivalAgain_4 mX1_277 hc2 hg rfl rfl rfl (Nat.le_of_ble_eq_true rfl)) (fun r4 M4 h4 => ?_)
    obtain ⟨e4, hf4, hs4⟩ := h4
    subst e4
    refine wa_iret FieldType.int dX1_arrivalAgain_7 rfl rfl (Nat.le_of_ble_eq_true rfl) (Nat.le_of_ble_eq_true rfl) ?_
    exact ⟨hf4, rfl, hs4⟩
  | inr e =>
    have hc2 : w_S l G tX1_arrival_2 _ _ _ (w_rX e (fun q N => w_fr M N (fun q => ¬ E q) ∧ z_sys G N E x bl tx S)) := hc.mono (fun o N q => by obtain ⟨q1, q2⟩ := q; rw [hr] at q2; obtain ⟨⟨b, q3⟩, q4⟩ := q2; exact ⟨b, q3, q1, q4⟩)
    refine w_start (by decide) (Nat.le_of_ble_eq_true rfl) (fun X => ?_)
    refine wa_locals [(0, _), (1, _), (2, _)] [0, 1, 2] rfl ?_
    refine wa_aload_n 0 dX1_arrivalAgain_0 rfl rfl ?_
    refine wa_iload_n 1 dX1_arrivalAgain_1 rfl rfl ?_
    refine wa_iload_n 2 dX1_arrivalAgain_2 rfl rfl ?_
    refine wa_iconst (1) dX1_arrivalAgain_3 (by decide) ?_
    refine wc_X (wr_V dX1_arrivalAgain_4 mX1_277 hc2 hg rfl rfl rfl (Nat.le_of_ble_eq_true rfl)) (fun q4 M4 h4 => ?_)
    exact wx_out (fun _ h => by cases h) (Nat.le_of_ble_eq_true rfl) (Nat.le_of_ble_eq_true rfl) ⟨h4.1, ⟨_, rfl⟩, h4.2⟩
end DI
