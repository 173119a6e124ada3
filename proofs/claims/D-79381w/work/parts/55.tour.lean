/-! ===== tours; who suits ===== -/
set_option maxRecDepth 100000
def z_stN (c : z_C) (d : Nat → Option Nat) : Nat → Option Nat
  | 0 => none
  | k + 1 => match d k with
    | none => z_stN c d k
    | some m => if z_kinds c k = 3 then (match z_stN c d k with
        | none => some m
        | some b => if m < b then some m else some b) else z_stN c d k
theorem z_stN_lt {c : z_C} {d : Nat → Option Nat} {B : Nat} (hd : ∀ k m, d k = some m → m < B) : ∀ n m, z_stN c d n = some m → m < B := by
  intro n
  induction n with
  | zero => intro m h; cases h
  | succ n ih =>
    intro m h
    rw [z_stN] at h
    cases hk : d n with
    | none => rw [hk] at h; exact ih m h
    | some q =>
      rw [hk] at h
      simp only at h
      split at h
      · cases hb : z_stN c d n with
        | none => rw [hb] at h; have e := Option.some.inj h; rw [← e]; exact hd n q hk
        | some b =>
          rw [hb] at h
          simp only at h
          split at h
          · have e := Option.some.inj h; rw [← e]; exact hd n q hk
          · have e := Option.some.inj h; rw [← e]; exact ih b hb
      · exact ih m h
def z_legs (c : z_C) : List Nat → Option Nat
  | [] => some 0
  | [_] => some 0
  | a :: b :: r => match z_far c a b with
    | none => none
    | some m => (z_legs c (b :: r)).map (m + ·)
def z_tourA (c : z_C) (v : Int32) : Int32 ⊕ Nat := match z_idx v (z_ords c).length with
  | none => .inr 1
  | some i => match (z_ords c)[i]? with
    | none => .inr 1
    | some o => match z_legs c (z_lines o) with
      | none => .inr 2
      | some s => match (z_lines o)[(z_lines o).length - 1]? with
        | none => .inr 2
        | some q => match z_stN c (z_far c q) (z_size c) with
          | none => .inr 2
          | some m => .inl (nI (s + m))
section TO
variable {l : Launch} {G : w_G} {M : w_M} {E : Nat → Prop} {x bl ba tx ca : Nat} {sv : Option Nat} {bas : List Nat} {S : z_S} {P : Nat → Prop} {kd rl ol sg ra oa : Nat} {ras oas : List Nat}
theorem sp_distY (h : z_sysL G M E x bl ba tx ca sv bas S) (hL : z_coreL G M P ca kd rl ol sg ra oa ras oas (z_cur S)) (hs : z_small (z_cur S)) {p q m : Nat} (hp : p < z_size (z_cur S)) (hq : q < z_size (z_cur S)) (hm : z_far (z_cur S) p q = some m) : w_S l G tX1_distance (9, 3, 102) [.ref x, .int (nI p), .int (nI q)] M (w_rI (fun r N => r = nI m ∧ w_fr M N (fun _ => False))) := by
  have hg := h.2.1
  have hsz := hs.size
  obtain ⟨n1, n2, n3⟩ := z_idxL hs
  have ia : z_idx (nI p) (z_size (z_cur S)) = some p := (z_idx_some n3).mpr ⟨hp, rfl⟩
  have ib : z_idx (nI q) (z_size (z_cur S)) = some q := (z_idx_some n3).mpr ⟨hq, rfl⟩
  refine w_start (by decide) (Nat.le_of_ble_eq_true rfl) (fun X => ?_)
  refine wa_locals [(0, _), (1, _), (2, _)] [0, 1, 2] rfl ?_
  refine wa_aload_n 0 dX1_distance_0 rfl rfl ?_
  refine wa_iload_n 1 dX1_distance_1 rfl rfl ?_
  refine wc_isV (wr_V dX1_distance_2 mX1_178 (sp_requireCellY h hL hs ia) hg rfl rfl rfl (Nat.le_of_ble_eq_true rfl)) ?_
  refine wa_aload_n 0 dX1_distance_5 rfl rfl ?_
  refine wa_iload_n 2 dX1_distance_6 rfl rfl ?_
  refine wc_isV (wr_V dX1_distance_7 mX1_178 (sp_requireCellY h hL hs ib) hg rfl rfl rfl (Nat.le_of_ble_eq_true rfl)) ?_
  refine wa_aload_n 0 dX1_distance_10 rfl rfl ?_
  refine wa_iload_n 1 dX1_distance_11 rfl rfl ?_
  refine wc_A (wr_V dX1_distance_12 mX1_213 (sp_distancesFrom h hL hs hp) hg rfl rfl rfl (Nat.le_of_ble_eq_true rfl)) (fun r12 M12 h12 => ?_)
  obtain ⟨hfr, f, hf1, hf2⟩ := h12
  refine wa_iload_n 2 dX1_distance_15 rfl rfl ?_
  refine wa_iald dX1_distance_16 hf1 (vp_in_nI hq (by omega)) ?_
  rw [nI_clamp (by omega), hf2 q hq, hm, show z_enc (some m) = nI m from rfl]
  refine wa_istore_n [(3, _), (0, _), (1, _), (2, _)] dX1_distance_17 rfl (Nat.le_of_ble_eq_true rfl) rfl ?_
  refine wa_iload_n 0 dX1_distance_18 rfl rfl ?_
  refine wa_iconst (-1) dX1_distance_19 (by decide) ?_
  refine wa_icmp_eq 27 dX1_distance_20 rfl (fun c20 => absurd ((z_enc_m1 (g := some m) (fun j e => by cases e; have := z_far_lt hs hp hm; omega)).mp c20) (fun z => by cases z)) (fun c20 => ?_)
  refine wa_iconst (1) dX1_distance_23 (by decide) ?_
  refine wa_goto 28 dX1_distance_24 rfl ?_
  refine wc_isV (wr_S dX1_distance_28 mX1_169 sp_requireElementN rfl rfl rfl (Nat.le_of_ble_eq_true rfl)) ?_
  refine wa_iload_n 0 dX1_distance_31 rfl rfl ?_
  refine wa_iret FieldType.int dX1_distance_32 rfl rfl (Nat.le_of_ble_eq_true rfl) (Nat.le_of_ble_eq_true rfl) ?_
  exact ⟨_, rfl, rfl, hfr⟩
theorem sp_distZ (h : z_sysL G M E x bl ba tx ca sv bas S) (hL : z_coreL G M P ca kd rl ol sg ra oa ras oas (z_cur S)) (hs : z_small (z_cur S)) {p q : Nat} (hp : p < z_size (z_cur S)) (hq : q < z_size (z_cur S)) (hm : z_far (z_cur S) p q = none) : w_S l G tX1_distance (9, 3, 102) [.ref x, .int (nI p), .int (nI q)] M (w_rX z_NE (fun _ N => w_fr M N (fun _ => False))) := by
  have hg := h.2.1
  have hsz := hs.size
  obtain ⟨n1, n2, n3⟩ := z_idxL hs
  have ia : z_idx (nI p) (z_size (z_cur S)) = some p := (z_idx_some n3).mpr ⟨hp, rfl⟩
  have ib : z_idx (nI q) (z_size (z_cur S)) = some q := (z_idx_some n3).mpr ⟨hq, rfl⟩
  refine w_start (by decide) (Nat.le_of_ble_eq_true rfl) (fun X => ?_)
  refine wa_locals [(0, _), (1, _), (2, _)] [0, 1, 2] rfl ?_
  refine wa_aload_n 0 dX1_distance_0 rfl rfl ?_
  refine wa_iload_n 1 dX1_distance_1 rfl rfl ?_
  refine wc_isV (wr_V dX1_distance_2 mX1_178 (sp_requireCellY h hL hs ia) hg rfl rfl rfl (Nat.le_of_ble_eq_true rfl)) ?_
  refine wa_aload_n 0 dX1_distance_5 rfl rfl ?_
  refine wa_iload_n 2 dX1_distance_6 rfl rfl ?_
  refine wc_isV (wr_V dX1_distance_7 mX1_178 (sp_requireCellY h hL hs ib) hg rfl rfl rfl (Nat.le_of_ble_eq_true rfl)) ?_
  refine wa_aload_n 0 dX1_distance_10 rfl rfl ?_
  refine wa_iload_n 1 dX1_distance_11 rfl rfl ?_
  refine wc_A (wr_V dX1_distance_12 mX1_213 (sp_distancesFrom h hL hs hp) hg rfl rfl rfl (Nat.le_of_ble_eq_true rfl)) (fun r12 M12 h12 => ?_)
  obtain ⟨hfr, f, hf1, hf2⟩ := h12
  refine wa_iload_n 2 dX1_distance_15 rfl rfl ?_
  refine wa_iald dX1_distance_16 hf1 (vp_in_nI hq (by omega)) ?_
  rw [nI_clamp (by omega), hf2 q hq, hm]
  refine wa_istore_n [(3, _), (0, _), (1, _), (2, _)] dX1_distance_17 rfl (Nat.le_of_ble_eq_true rfl) rfl ?_
  refine wa_iload_n 0 dX1_distance_18 rfl rfl ?_
  refine wa_iconst (-1) dX1_distance_19 (by decide) ?_
  refine wa_icmp_eq 27 dX1_distance_20 rfl (fun c20 => ?_) (fun c20 => absurd rfl c20)
  refine wa_iconst (0) dX1_distance_27 (by decide) ?_
  refine wc_isx (wr_S dX1_distance_28 mX1_169 sp_requireElementT rfl rfl rfl (Nat.le_of_ble_eq_true rfl)) ?_
  exact wx_out (fun _ h => by cases h) (Nat.le_of_ble_eq_true rfl) (Nat.le_of_ble_eq_true rfl) ⟨_, rfl, hfr.push⟩
theorem sp_toStation (h : z_sysL G M E x bl ba tx ca sv bas S) (hL : z_coreL G M P ca kd rl ol sg ra oa ras oas (z_cur S)) (hs : z_small (z_cur S)) {p : Nat} (hp : p < z_size (z_cur S)) : w_S l G tX1_toStation (8, 3, 102) [.ref x, .int (nI p)] M (fun o N => w_fr M N (fun _ => False) ∧ match z_stN (z_cur S) (z_far (z_cur S) p) (z_size (z_cur S)) with | none => ∃ q, o = .inr (z_NE, q) | some m => o = .inl (some (.int (nI m)))) := by
  have hg := h.2.1
  have hsz := hs.size
  refine w_start (by decide) (Nat.le_of_ble_eq_true rfl) (fun X => ?_)
  refine wa_locals [(0, _), (1, _)] [0, 1] rfl ?_
  refine wa_aload_n 0 dX1_toStation_0 rfl rfl ?_
  refine wa_iload_n 1 dX1_toStation_1 rfl rfl ?_
  refine wc_A (wr_V dX1_toStation_2 mX1_213 (sp_distancesFrom h hL hs hp) hg rfl rfl rfl (Nat.le_of_ble_eq_true rfl)) (fun r2 M2 h2 => ?_)
  obtain ⟨hfr, f, hf1, hf2⟩ := h2
  have hcN := hL.keep (W := fun _ => False) hfr (fun _ _ z => z) (fun z => z)
  have hgN := hfr.2 _ _ hg id
  have hgc := hcN.2.1
  obtain ⟨kf, hk1, hk2⟩ := hcN.2.2.1
  have hdl : ∀ k m, z_far (z_cur S) p k = some m → m < 64 := fun k m hm => by have := z_far_lt hs hp hm; omega
  have hstl := z_stN_lt (c := z_cur S) hdl
  refine wa_astore_n [(2, _), (0, _), (1, _)] dX1_toStation_5 rfl (Nat.le_of_ble_eq_true rfl) rfl ?_
  refine wa_iconst (-1) dX1_toStation_6 (by decide) ?_
  refine wa_istore_n [(3, _), (2, _), (0, _), (1, _)] dX1_toStation_7 rfl (Nat.le_of_ble_eq_true rfl) rfl ?_
  refine wa_iconst (0) dX1_toStation_8 (by decide) ?_
  refine wa_istore [(4, _), (3, _), (2, _), (0, _), (1, _)] dX1_toStation_9 (Nat.le_of_ble_eq_true rfl) rfl ?_
  have LP : ∀ (n k : Nat), k + n = z_size (z_cur S) → w_A l G tX1_toStation (8, 3, 102) X 2 96 M2 11 [(4, .int (nI k)), (3, .int (z_enc (z_stN (z_cur S) (z_far (z_cur S) p) k))), (2, .ref r2), (0, .ref x)] [] (fun o N => w_fr M N (fun _ => False) ∧ match z_stN (z_cur S) (z_far (z_cur S) p) (z_size (z_cur S)) with | none => ∃ q, o = .inr (z_NE, q) | some m => o = .inl (some (.int (nI m)))) := by
    intro n
    induction n with
    | zero =>
      intro k hn
      have ek : k = z_size (z_cur S) := by omega
      subst ek
      have hm1 := z_enc_m1 (g := z_stN (z_cur S) (z_far (z_cur S) p) (z_size (z_cur S))) (fun j e => by have := hstl _ j e; omega)
      refine wa_iload 0 dX1_toStation_11 rfl ?_
      refine wa_aload_n 2 dX1_toStation_13 rfl rfl ?_
      refine wa_alen 0 dX1_toStation_14 hf1 rfl ?_
      refine wa_icmp_ge 80 dX1_toStation_15 rfl (fun c15 => ?_) (fun c15 => absurd (nI_le (by omega) (by omega)) c15)
      refine wa_iload_n 1 dX1_toStation_80 rfl rfl ?_
      refine wa_iconst (-1) dX1_toStation_81 (by decide) ?_
      refine wa_icmp_eq 89 dX1_toStation_82 rfl (fun c82 => ?_) (fun c82 => ?_)
      ·
        have i1 := hm1.mp c82
        refine wa_iconst (0) dX1_toStation_89 (by decide) ?_
        refine wc_isx (wr_S dX1_toStation_90 mX1_169 sp_requireElementT rfl rfl rfl (Nat.le_of_ble_eq_true rfl)) ?_
        exact wx_out (fun _ h => by cases h) (Nat.le_of_ble_eq_true rfl) (Nat.le_of_ble_eq_true rfl) ⟨w_fr.push hfr, by rw [i1]; exact ⟨_, rfl⟩⟩
      ·
        obtain ⟨m, i1⟩ : ∃ m, z_stN (z_cur S) (z_far (z_cur S) p) (z_size (z_cur S)) = some m := Option.ne_none_iff_exists'.mp (fun z => c82 (hm1.mpr z))
        refine wa_iconst (1) dX1_toStation_85 (by decide) ?_
        refine wa_goto 90 dX1_toStation_86 rfl ?_
        refine wc_isV (wr_S dX1_toStation_90 mX1_169 sp_requireElementN rfl rfl rfl (Nat.le_of_ble_eq_true rfl)) ?_
        refine wa_iload_n 1 dX1_toStation_93 rfl rfl ?_
        refine wa_iret FieldType.int dX1_toStation_94 rfl rfl (Nat.le_of_ble_eq_true rfl) (Nat.le_of_ble_eq_true rfl) ?_
        exact ⟨hfr, by rw [i1]; rfl⟩
    | succ n ih =>
      intro k hn
      have hm1 := z_enc_m1 (g := z_stN (z_cur S) (z_far (z_cur S) p) k) (fun j e => by have := hstl _ j e; omega)
      have hd1 := z_enc_m1 (g := z_far (z_cur S) p k) (fun j e => by have := hdl _ j e; omega)
      have ih := ih (k + 1) (by omega)
      rw [z_stN] at ih
      refine wa_iload 0 dX1_toStation_11 rfl ?_
      refine wa_aload_n 2 dX1_toStation_13 rfl rfl ?_
      refine wa_alen 0 dX1_toStation_14 hf1 rfl ?_
      refine wa_icmp_ge 80 dX1_toStation_15 rfl (fun c15 => absurd c15 (nI_lt_not (by omega) (by omega))) (fun c15 => ?_)
      refine wa_aload_n 3 dX1_toStation_18 rfl rfl ?_
      refine wa_getf dX1_toStation_19 gX1_14 hgN rfl ?_
      refine wa_getf dX1_toStation_22 gX1_189 hgc rfl ?_
      refine wa_iload 0 dX1_toStation_25 rfl ?_
      refine wa_iald dX1_toStation_27 hk1 (vp_in_nI (by omega) (by omega)) ?_
      rw [nI_clamp (by omega), hk2 k (by omega)]
      refine wa_iconst (3) dX1_toStation_28 (by decide) ?_
      refine wa_icmp_ne 44 dX1_toStation_29 rfl (fun c29 => ?_) (fun c29 => ?_)
      ·
        have i3 : (match z_far (z_cur S) p k with | none => z_stN (z_cur S) (z_far (z_cur S) p) k | some m => if z_kinds (z_cur S) k = 3 then (match z_stN (z_cur S) (z_far (z_cur S) p) k with | none => some m | some b => if m < b then some m else some b) else z_stN (z_cur S) (z_far (z_cur S) p) k) = z_stN (z_cur S) (z_far (z_cur S) p) k := by
          cases hq : z_far (z_cur S) p k with
          | none => rfl
          | some q => exact if_neg c29
        rw [i3] at ih
        refine wa_iconst (0) dX1_toStation_44 (by decide) ?_
        refine wa_istore [(5, _), (4, _), (3, _), (2, _), (0, _)] dX1_toStation_45 (Nat.le_of_ble_eq_true rfl) rfl ?_
        refine wa_iload 0 dX1_toStation_47 rfl ?_
        refine wa_if_eq 72 dX1_toStation_49 rfl (fun c49 => ?_) (fun c49 => absurd (by decide) c49)
        refine wa_iload_n 2 dX1_toStation_72 rfl rfl ?_
        refine wa_istore_n [(3, _), (5, _), (4, _), (2, _), (0, _)] dX1_toStation_73 rfl (Nat.le_of_ble_eq_true rfl) rfl ?_
        refine wa_iinc 2 [(4, _), (3, _), (5, _), (2, _), (0, _)] dX1_toStation_74 rfl (w_inc k) (Nat.le_of_ble_eq_true rfl) rfl ?_
        refine wa_goto 11 dX1_toStation_77 rfl ?_
        refine wa_locals [(4, _), (3, _), (2, _), (0, _)] [0, 1, 3, 4] rfl ?_
        exact ih
      ·
        refine wa_aload_n 2 dX1_toStation_32 rfl rfl ?_
        refine wa_iload 0 dX1_toStation_33 rfl ?_
        refine wa_iald dX1_toStation_35 hf1 (vp_in_nI (by omega) (by omega)) ?_
        rw [nI_clamp (by omega), hf2 k (by omega)]
        refine wa_iconst (-1) dX1_toStation_36 (by decide) ?_
        refine wa_icmp_eq 44 dX1_toStation_37 rfl (fun c37 => ?_) (fun c37 => ?_)
        ·
          have i2 := hd1.mp c37
          simp only [i2] at ih
          refine wa_iconst (0) dX1_toStation_44 (by decide) ?_
          refine wa_istore [(5, _), (4, _), (3, _), (2, _), (0, _)] dX1_toStation_45 (Nat.le_of_ble_eq_true rfl) rfl ?_
          refine wa_iload 0 dX1_toStation_47 rfl ?_
          refine wa_if_eq 72 dX1_toStation_49 rfl (fun c49 => ?_) (fun c49 => absurd (by decide) c49)
          refine wa_iload_n 2 dX1_toStation_72 rfl rfl ?_
          refine wa_istore_n [(3, _), (5, _), (4, _), (2, _), (0, _)] dX1_toStation_73 rfl (Nat.le_of_ble_eq_true rfl) rfl ?_
          refine wa_iinc 2 [(4, _), (3, _), (5, _), (2, _), (0, _)] dX1_toStation_74 rfl (w_inc k) (Nat.le_of_ble_eq_true rfl) rfl ?_
          refine wa_goto 11 dX1_toStation_77 rfl ?_
          refine wa_locals [(4, _), (3, _), (2, _), (0, _)] [0, 1, 3, 4] rfl ?_
          exact ih
        ·
          obtain ⟨m, i2⟩ : ∃ m, z_far (z_cur S) p k = some m := Option.ne_none_iff_exists'.mp (fun z => c37 (hd1.mpr z))
          have hml := hdl k m i2
          simp only [i2] at ih
          rw [if_pos c29] at ih
          refine wa_iconst (1) dX1_toStation_40 (by decide) ?_
          refine wa_goto 45 dX1_toStation_41 rfl ?_
          refine wa_istore [(5, _), (4, _), (3, _), (2, _), (0, _)] dX1_toStation_45 (Nat.le_of_ble_eq_true rfl) rfl ?_
          refine wa_iload 0 dX1_toStation_47 rfl ?_
          refine wa_if_eq 72 dX1_toStation_49 rfl (fun c49 => absurd c49 (by decide)) (fun c49 => ?_)
          refine wa_iload_n 2 dX1_toStation_52 rfl rfl ?_
          refine wa_iconst (-1) dX1_toStation_53 (by decide) ?_
          refine wa_icmp_eq 65 dX1_toStation_54 rfl (fun c54 => ?_) (fun c54 => ?_)
          ·
            refine wa_aload_n 3 dX1_toStation_65 rfl rfl ?_
            refine wa_iload 1 dX1_toStation_66 rfl ?_
            refine wa_iald dX1_toStation_68 hf1 (vp_in_nI (by omega) (by omega)) ?_
            rw [nI_clamp (by omega), hf2 k (by omega)]
            refine wa_goto 73 dX1_toStation_69 rfl ?_
            refine wa_istore_n [(3, _), (5, _), (4, _), (2, _), (0, _)] dX1_toStation_73 rfl (Nat.le_of_ble_eq_true rfl) rfl ?_
            refine wa_iinc 2 [(4, _), (3, _), (5, _), (2, _), (0, _)] dX1_toStation_74 rfl (w_inc k) (Nat.le_of_ble_eq_true rfl) rfl ?_
            refine wa_goto 11 dX1_toStation_77 rfl ?_
            refine wa_locals [(4, _), (3, _), (2, _), (0, _)] [0, 1, 3, 4] rfl ?_
            have i4 := hm1.mp c54
            rw [i4] at ih
            rw [i2]
            exact ih
          ·
            refine wa_aload_n 3 dX1_toStation_57 rfl rfl ?_
            refine wa_iload 1 dX1_toStation_58 rfl ?_
            refine wa_iald dX1_toStation_60 hf1 (vp_in_nI (by omega) (by omega)) ?_
            rw [nI_clamp (by omega), hf2 k (by omega)]
            refine wa_iload_n 2 dX1_toStation_61 rfl rfl ?_
            refine wa_icmp_ge 72 dX1_toStation_62 rfl (fun c62 => ?_) (fun c62 => ?_)
            ·
              refine wa_iload_n 2 dX1_toStation_72 rfl rfl ?_
              refine wa_istore_n [(3, _), (5, _), (4, _), (2, _), (0, _)] dX1_toStation_73 rfl (Nat.le_of_ble_eq_true rfl) rfl ?_
              refine wa_iinc 2 [(4, _), (3, _), (5, _), (2, _), (0, _)] dX1_toStation_74 rfl (w_inc k) (Nat.le_of_ble_eq_true rfl) rfl ?_
              refine wa_goto 11 dX1_toStation_77 rfl ?_
              refine wa_locals [(4, _), (3, _), (2, _), (0, _)] [0, 1, 3, 4] rfl ?_
              obtain ⟨b, i4⟩ : ∃ b, z_stN (z_cur S) (z_far (z_cur S) p) k = some b := Option.ne_none_iff_exists'.mp (fun z => c54 (hm1.mpr z))
              have hbl := hstl _ b i4
              rw [i4] at ih
              simp only at ih
              rw [i2, i4] at c62
              have i5 : ¬ m < b := fun z => by have := (nI_leI (a := b) (b := m) (by omega) (by omega)).mp c62; omega
              rw [if_neg i5] at ih
              rw [i4]
              exact ih
            ·
              refine wa_aload_n 3 dX1_toStation_65 rfl rfl ?_
              refine wa_iload 1 dX1_toStation_66 rfl ?_
              refine wa_iald dX1_toStation_68 hf1 (vp_in_nI (by omega) (by omega)) ?_
              rw [nI_clamp (by omega), hf2 k (by omega)]
              refine wa_goto 73 dX1_toStation_69 rfl ?_
              refine wa_istore_n [(3, _), (5, _), (4, _), (2, _), (0, _)] dX1_toStation_73 rfl (Nat.le_of_ble_eq_true rfl) rfl ?_
              refine wa_iinc 2 [(4, _), (3, _), (5, _), (2, _), (0, _)] dX1_toStation_74 rfl (w_inc k) (Nat.le_of_ble_eq_true rfl) rfl ?_
              refine wa_goto 11 dX1_toStation_77 rfl ?_
              refine wa_locals [(4, _), (3, _), (2, _), (0, _)] [0, 1, 3, 4] rfl ?_
              obtain ⟨b, i4⟩ : ∃ b, z_stN (z_cur S) (z_far (z_cur S) p) k = some b := Option.ne_none_iff_exists'.mp (fun z => c54 (hm1.mpr z))
              have hbl := hstl _ b i4
              rw [i4] at ih
              simp only at ih
              rw [i2, i4] at c62
              have i5 : m < b := Classical.byContradiction fun z => c62 (nI_le (a := b) (b := m) (by omega) (by omega))
              rw [if_pos i5] at ih
              rw [i2]
              exact ih
  refine wa_locals [(4, _), (3, _), (2, _), (0, _)] [0, 1, 2, 3] rfl ?_
  exact LP _ 0 (Nat.zero_add _)
theorem sp_X1_tour (hS : z_sys G M E x bl tx S) (hs : z_small (z_cur S)) {v : Int32} : w_S l G tX1_tour (10, 9, 306) [.ref x, .int v] M (z_anQ G E x bl tx M S (z_ask [z_IO, z_NE] S (z_tourA (z_cur S) v))) := by
  have hS0 := hS
  obtain ⟨ba, ca, sv, bas, h⟩ := hS
  have hg := h.2.1
  obtain ⟨kd, rl, ol, sg, ra, oa, ras, oas, hL⟩ := h.2.2.1
  have hgc := hL.2.1
  obtain ⟨n1, n2, n3⟩ := z_idxL hs
  have hsz := hs.size
  cases i1 : z_idx v (z_ords (z_cur S)).length with
  | none =>
    have hr : z_tourA (z_cur S) v = .inr 1 := by simp only [z_tourA, i1]
    refine w_start (by decide) (Nat.le_of_ble_eq_true rfl) (fun X => ?_)
    refine wa_locals [(0, _), (1, _)] [0, 1] rfl ?_
    refine wa_aload_n 0 dX1_tour_0 rfl rfl ?_
    refine wa_iload_n 1 dX1_tour_1 rfl rfl ?_
    refine wc_isx (wr_V dX1_tour_2 mX1_288 (sp_getOrderZ h hL hs i1) hg rfl rfl rfl (Nat.le_of_ble_eq_true rfl)) ?_
    exact wx_out (fun _ h => by cases h) (Nat.le_of_ble_eq_true rfl) (Nat.le_of_ble_eq_true rfl) (z_anN hS0 ((congrArg (z_ask _ S) hr).trans rfl) w_fr.rf.push)
  | some i =>
    have hi := z_idx_lt n2 i1
    have ev := z_idx_eq n2 i1
    subst ev
    obtain ⟨o, hoo⟩ : ∃ o, (z_ords (z_cur S))[i]? = some o := ⟨_, List.getElem?_eq_getElem hi⟩
    obtain ⟨y, hy, hor⟩ := z_ordAt hL hoo
    obtain ⟨la, hp1, hp2, hob, f, hla, hlf⟩ := id hor
    obtain ⟨hs1, hs2, hs3, hs4, hs5⟩ := hs.2.2.2.2.2.2.2 o (List.mem_of_getElem? hoo)
    refine w_start (by decide) (Nat.le_of_ble_eq_true rfl) (fun X => ?_)
    refine wa_locals [(0, _), (1, _)] [0, 1] rfl ?_
    have LP : ∀ (n j w : Nat) (N : w_M), j + 1 + n = (z_lines o).length → w_fr M N (fun _ => False) → (z_legs (z_cur S) ((z_lines o).drop j)).map (w + ·) = z_legs (z_cur S) (z_lines o) → w_A l G tX1_tour (10, 9, 306) X (3 * j) (102 * j) N 14 [(4, .int (nI (j + 1))), (3, .int (nI w)), (2, .ref la), (0, .ref x)] [] (z_anQ G E x bl tx M S (z_ask [z_IO, z_NE] S (z_tourA (z_cur S) (nI i)))) := by
      intro n
      induction n with
      | zero =>
        intro j w N hn hfr e
        have hSN := h.keepE (hfr.mono (fun _ _ z => z.elim))
        have hgN := hSN.2.1
        have hcN := hL.keep (W := fun _ => False) hfr (fun _ _ z => z) (fun z => z)
        have hlaN := hfr.2 _ _ hla id
        obtain ⟨q, hq⟩ : ∃ q, (z_lines o)[(z_lines o).length - 1]? = some q := ⟨_, List.getElem?_eq_getElem (by omega)⟩
        have hqs := hs4 q (List.mem_of_getElem? hq)
        have hlg : z_legs (z_cur S) (z_lines o) = some w := by
          rw [← e, List.drop_eq_getElem_cons (by omega), List.drop_eq_nil_of_le (by omega)]
          rfl
        have elen : nI (z_lines o).length - 1 = nI ((z_lines o).length - 1) := by
          obtain ⟨m, hm⟩ : ∃ m, (z_lines o).length = m + 1 := ⟨(z_lines o).length - 1, by omega⟩
          rw [hm]
          exact nI_pred m
        have hst := sp_toStation (l := l) hSN hcN hs hqs
        cases hsn : z_stN (z_cur S) (z_far (z_cur S) q) (z_size (z_cur S)) with
        | none =>
          have hst2 : w_S l G tX1_toStation _ _ _ (w_rX z_NE (fun _ N2 => w_fr N N2 (fun _ => False))) := hst.mono (fun o N z => by obtain ⟨z1, z2⟩ := z; rw [hsn] at z2; obtain ⟨b, z2⟩ := z2; exact ⟨b, z2, z1⟩)
          have hr : z_tourA (z_cur S) (nI i) = .inr 2 := by simp only [z_tourA, i1, hoo, hlg, hq, hsn]
          refine wa_iload 0 dX1_tour_14 rfl ?_
          refine wa_aload_n 2 dX1_tour_16 rfl rfl ?_
          refine wa_alen 0 dX1_tour_17 hlaN rfl ?_
          refine wa_icmp_ge 44 dX1_tour_18 rfl (fun c18 => ?_) (fun c18 => absurd (nI_le (by omega) (by omega)) c18)
          refine wa_iload_n 1 dX1_tour_44 rfl rfl ?_
          refine wa_aload_n 3 dX1_tour_45 rfl rfl ?_
          refine wa_aload_n 2 dX1_tour_46 rfl rfl ?_
          refine wa_aload_n 2 dX1_tour_47 rfl rfl ?_
          refine wa_alen 0 dX1_tour_48 hlaN rfl ?_
          refine wa_iconst (1) dX1_tour_49 (by decide) ?_
          refine wa_isub dX1_tour_50 ?_
          rw [elen]
          refine wa_iald dX1_tour_51 hlaN (vp_in_nI (by omega) (by omega)) ?_
          rw [nI_clamp (by omega), hlf _ q hq]
          refine wc_X (wr_V dX1_tour_52 mX1_343 hst2 hgN rfl (w_fit_mk (by (try dsimp only); omega) (by (try dsimp only); omega) rfl) rfl (Nat.le_of_ble_eq_true rfl)) (fun q52 M52 h52 => ?_)
          exact wx_out (fun _ h => by cases h) (by (try dsimp only); omega) (by (try dsimp only); omega) (z_anN hS0 ((congrArg (z_ask _ S) hr).trans rfl) (hfr.trans h52))
        | some m =>
          have hst2 : w_S l G tX1_toStation _ _ _ (w_rI (fun v N2 => v = nI m ∧ w_fr N N2 (fun _ => False))) := hst.mono (fun o N z => by obtain ⟨z1, z2⟩ := z; rw [hsn] at z2; exact ⟨_, z2, rfl, z1⟩)
          have hr : z_tourA (z_cur S) (nI i) = .inl (nI (w + m)) := by simp only [z_tourA, i1, hoo, hlg, hq, hsn]
          refine wa_iload 0 dX1_tour_14 rfl ?_
          refine wa_aload_n 2 dX1_tour_16 rfl rfl ?_
          refine wa_alen 0 dX1_tour_17 hlaN rfl ?_
          refine wa_icmp_ge 44 dX1_tour_18 rfl (fun c18 => ?_) (fun c18 => absurd (nI_le (by omega) (by omega)) c18)
          refine wa_iload_n 1 dX1_tour_44 rfl rfl ?_
          refine wa_aload_n 3 dX1_tour_45 rfl rfl ?_
          refine wa_aload_n 2 dX1_tour_46 rfl rfl ?_
          refine wa_aload_n 2 dX1_tour_47 rfl rfl ?_
          refine wa_alen 0 dX1_tour_48 hlaN rfl ?_
          refine wa_iconst (1) dX1_tour_49 (by decide) ?_
          refine wa_isub dX1_tour_50 ?_
          rw [elen]
          refine wa_iald dX1_tour_51 hlaN (vp_in_nI (by omega) (by omega)) ?_
          rw [nI_clamp (by omega), hlf _ q hq]
          refine wc_I (wr_V dX1_tour_52 mX1_343 hst2 hgN rfl (w_fit_mk (by (try dsimp only); omega) (by (try dsimp only); omega) rfl) rfl (Nat.le_of_ble_eq_true rfl)) (fun r52 M52 h52 => ?_)
          obtain ⟨e52, hf52⟩ := h52
          subst e52
          refine wa_iadd dX1_tour_55 ?_
          rw [nI_add]
          refine wa_iret FieldType.int dX1_tour_56 rfl rfl (by (try dsimp only); omega) (by (try dsimp only); omega) ?_
          exact z_anY (hS0.keepE ((hfr.trans hf52).mono (fun _ _ z => z.elim))) ((congrArg (z_ask _ S) hr).trans rfl) ((hfr.trans hf52).mono (fun _ _ z => z.elim))
      | succ n ih =>
        intro j w N hn hfr e
        have hSN := h.keepE (hfr.mono (fun _ _ z => z.elim))
        have hgN := hSN.2.1
        have hlaN := hfr.2 _ _ hla id
        obtain ⟨a, ha⟩ : ∃ a, (z_lines o)[j]? = some a := ⟨_, List.getElem?_eq_getElem (by omega)⟩
        obtain ⟨b, hb⟩ : ∃ b, (z_lines o)[j + 1]? = some b := ⟨_, List.getElem?_eq_getElem (by omega)⟩
        have has := hs4 a (List.mem_of_getElem? ha)
        have hbs := hs4 b (List.mem_of_getElem? hb)
        have ia : z_idx (nI a) (z_size (z_cur S)) = some a := (z_idx_some n3).mpr ⟨has, rfl⟩
        have ib : z_idx (nI b) (z_size (z_cur S)) = some b := (z_idx_some n3).mpr ⟨hbs, rfl⟩
        have e1 : (z_lines o).drop j = a :: b :: (z_lines o).drop (j + 2) := by
          rw [List.drop_eq_getElem_cons (by omega), List.drop_eq_getElem_cons (by omega), (List.getElem?_eq_some_iff.mp ha).2, (List.getElem?_eq_some_iff.mp hb).2]
        have e2 : (z_lines o).drop (j + 1) = b :: (z_lines o).drop (j + 2) := by
          rw [List.drop_eq_getElem_cons (by omega), (List.getElem?_eq_some_iff.mp hb).2]
        rw [e1, z_legs] at e
        have hcN := hL.keep (W := fun _ => False) hfr (fun _ _ z => z) (fun z => z)
        cases hab : z_far (z_cur S) a b with
        | none =>
          rw [hab] at e
          have hlg : z_legs (z_cur S) (z_lines o) = none := e.symm
          have hr : z_tourA (z_cur S) (nI i) = .inr 2 := by simp only [z_tourA, i1, hoo, hlg]
          refine wa_iload 0 dX1_tour_14 rfl ?_
          refine wa_aload_n 2 dX1_tour_16 rfl rfl ?_
          refine wa_alen 0 dX1_tour_17 hlaN rfl ?_
          refine wa_icmp_ge 44 dX1_tour_18 rfl (fun c18 => absurd c18 (nI_lt_not (by omega) (by omega))) (fun c18 => ?_)
          refine wa_iload_n 1 dX1_tour_21 rfl rfl ?_
          refine wa_aload_n 3 dX1_tour_22 rfl rfl ?_
          refine wa_aload_n 2 dX1_tour_23 rfl rfl ?_
          refine wa_iload 0 dX1_tour_24 rfl ?_
          refine wa_iconst (1) dX1_tour_26 (by decide) ?_
          refine wa_isub dX1_tour_27 ?_
          rw [nI_pred j]
          refine wa_iald dX1_tour_28 hlaN (vp_in_nI (by omega) (by omega)) ?_
          rw [nI_clamp (by omega), hlf _ a ha]
          refine wa_aload_n 2 dX1_tour_29 rfl rfl ?_
          refine wa_iload 0 dX1_tour_30 rfl ?_
          refine wa_iald dX1_tour_32 hlaN (vp_in_nI (by omega) (by omega)) ?_
          rw [nI_clamp (by omega), hlf _ b hb]
          refine wc_X (wr_V dX1_tour_33 mX1_340 (sp_distZ hSN hcN hs has hbs hab) hgN rfl (w_fit_mk (by (try dsimp only); omega) (by (try dsimp only); omega) rfl) rfl (Nat.le_of_ble_eq_true rfl)) (fun q33 M33 h33 => ?_)
          exact wx_out (fun _ h => by cases h) (by (try dsimp only); omega) (by (try dsimp only); omega) (z_anN hS0 ((congrArg (z_ask _ S) hr).trans rfl) (hfr.trans h33))
        | some m =>
          rw [hab] at e
          refine wa_iload 0 dX1_tour_14 rfl ?_
          refine wa_aload_n 2 dX1_tour_16 rfl rfl ?_
          refine wa_alen 0 dX1_tour_17 hlaN rfl ?_
          refine wa_icmp_ge 44 dX1_tour_18 rfl (fun c18 => absurd c18 (nI_lt_not (by omega) (by omega))) (fun c18 => ?_)
          refine wa_iload_n 1 dX1_tour_21 rfl rfl ?_
          refine wa_aload_n 3 dX1_tour_22 rfl rfl ?_
          refine wa_aload_n 2 dX1_tour_23 rfl rfl ?_
          refine wa_iload 0 dX1_tour_24 rfl ?_
          refine wa_iconst (1) dX1_tour_26 (by decide) ?_
          refine wa_isub dX1_tour_27 ?_
          rw [nI_pred j]
          refine wa_iald dX1_tour_28 hlaN (vp_in_nI (by omega) (by omega)) ?_
          rw [nI_clamp (by omega), hlf _ a ha]
          refine wa_aload_n 2 dX1_tour_29 rfl rfl ?_
          refine wa_iload 0 dX1_tour_30 rfl ?_
          refine wa_iald dX1_tour_32 hlaN (vp_in_nI (by omega) (by omega)) ?_
          rw [nI_clamp (by omega), hlf _ b hb]
          refine wc_I (wr_V dX1_tour_33 mX1_340 (sp_distY hSN hcN hs has hbs hab) hgN rfl (w_fit_mk (by (try dsimp only); omega) (by (try dsimp only); omega) rfl) rfl (Nat.le_of_ble_eq_true rfl)) (fun r33 M33 h33 => ?_)
          obtain ⟨e33, hf33⟩ := h33
          subst e33
          refine wa_iadd dX1_tour_36 ?_
          rw [nI_add]
          refine wa_istore_n [(3, _), (4, _), (2, _), (0, _)] dX1_tour_37 rfl (Nat.le_of_ble_eq_true rfl) rfl ?_
          refine wa_iinc 1 [(4, _), (3, _), (2, _), (0, _)] dX1_tour_38 rfl (w_inc _) (Nat.le_of_ble_eq_true rfl) rfl ?_
          refine wa_goto 14 dX1_tour_41 rfl ?_
          refine wa_locals [(4, _), (3, _), (2, _), (0, _)] [0, 1, 2, 3] rfl ?_
          refine wa_costs (k' := 3 * (j + 1)) (n' := 102 * (j + 1)) (by (try dsimp only); omega) (by (try dsimp only); omega) ?_
          refine ih (j + 1) (w + m) M33 (by omega) (hfr.trans hf33) ?_
          rw [e2, ← e]
          cases z_legs (z_cur S) (b :: (z_lines o).drop (j + 2)) with
          | none => rfl
          | some s => exact congrArg some (Nat.add_assoc w m s)
    refine wa_aload_n 0 dX1_tour_0 rfl rfl ?_
    refine wa_iload_n 1 dX1_tour_1 rfl rfl ?_
    refine wc_isA (wr_V dX1_tour_2 mX1_288 (sp_getOrderY h hL hs i1 hy hob) hg rfl rfl rfl (Nat.le_of_ble_eq_true rfl)) ?_
    refine wa_getf dX1_tour_5 gX1_295 hob rfl ?_
    refine wa_astore_n [(2, _), (0, _), (1, _)] dX1_tour_8 rfl (Nat.le_of_ble_eq_true rfl) rfl ?_
    refine wa_iconst (0) dX1_tour_9 (by decide) ?_
    refine wa_istore_n [(3, _), (2, _), (0, _), (1, _)] dX1_tour_10 rfl (Nat.le_of_ble_eq_true rfl) rfl ?_
    refine wa_iconst (1) dX1_tour_11 (by decide) ?_
    refine wa_istore [(4, _), (3, _), (2, _), (0, _), (1, _)] dX1_tour_12 (Nat.le_of_ble_eq_true rfl) rfl ?_
    refine wa_locals [(4, _), (3, _), (2, _), (0, _)] [0, 1, 2, 3] rfl ?_
    refine LP ((z_lines o).length - 1) 0 0 M (by omega) w_fr.rf ?_
    rw [List.drop_zero]
    cases z_legs (z_cur S) (z_lines o) with
    | none => rfl
    | some s => exact congrArg some (Nat.zero_add s)
/-- whether the robot r, m steps off, suits better than the j-th one -/
def z_bet (c : z_C) (ln : Nat) (r : z_R) (m j : Nat) : Bool := match (z_robs c)[j]? with
  | none => false
  | some r' => match z_far c (z_cell r') ln with
    | none => false
    | some m' => decide (m < m' ∨ (m = m' ∧ z_batt r' < z_batt r))
def z_suit (c : z_C) (ln : Nat) : Nat → Option Nat
  | 0 => none
  | k + 1 => match (z_robs c)[k]? with
    | none => z_suit c ln k
    | some r => if z_has r = none then (match z_far c (z_cell r) ln with
        | none => z_suit c ln k
        | some m => match z_suit c ln k with
          | none => some k
          | some j => if z_bet c ln r m j = true then some k else some j) else z_suit c ln k
theorem z_suit_at {c : z_C} {ln : Nat} : ∀ (k j : Nat), z_suit c ln k = some j → j < k ∧ ∃ r m, (z_robs c)[j]? = some r ∧ z_far c (z_cell r) ln = some m := by
  intro k
  induction k with
  | zero => intro j h; cases h
  | succ k ih =>
    intro j h
    have old : z_suit c ln k = some j → j < k + 1 ∧ ∃ r m, (z_robs c)[j]? = some r ∧ z_far c (z_cell r) ln = some m := fun h => ⟨Nat.lt_succ_of_lt (ih j h).1, (ih j h).2⟩
    rw [z_suit] at h
    cases hr : (z_robs c)[k]? with
    | none => rw [hr] at h; exact old h
    | some r =>
      rw [hr] at h
      simp only at h
      split at h
      · cases hm : z_far c (z_cell r) ln with
        | none => rw [hm] at h; exact old h
        | some m =>
          rw [hm] at h
          simp only at h
          cases hs : z_suit c ln k with
          | none =>
            rw [hs] at h
            have e := Option.some.inj h
            rw [← e]
            exact ⟨Nat.lt_succ_self _, r, m, hr, hm⟩
          | some i =>
            rw [hs] at h
            simp only at h
            split at h
            · have e := Option.some.inj h
              rw [← e]
              exact ⟨Nat.lt_succ_self _, r, m, hr, hm⟩
            · exact old (hs.trans h)
      · exact old h
def z_suitedA (c : z_C) (v : Int32) : Int32 ⊕ Nat := match z_idx v (z_ords c).length with
  | none => .inr 1
  | some i => match (z_ords c)[i]? with
    | none => .inr 1
    | some o => match (z_lines o)[0]? with
      | none => .inr 2
      | some ln => match z_suit c ln (z_robs c).length with
        | none => .inr 2
        | some k => .inl (nI k)
theorem sp_isBetter {y1 y2 da n m1 m2 : Nat} {f : Nat → Int32} {P1 P2 : Nat → Prop} {r1 r2 : z_R} {pv1 pv2 : Option Nat} (h1 : z_robP M P1 y1 r1 pv1) (h2 : z_robP M P2 y2 r2 pv2) (hd : M.get da = some (.inl (.int, n, .inl f))) (hn : n < 2 ^ 31) (hc1 : z_cell r1 < n) (hc2 : z_cell r2 < n) (hf1 : f (z_cell r1) = nI m1) (hf2 : f (z_cell r2) = nI m2) (hm1 : m1 < 2 ^ 31) (hm2 : m2 < 2 ^ 31) : w_S l G tX1_isBetter (3, 0, 0) [.ref y1, .ref y2, .ref da] M (w_is (.inl (some (.int (if m1 < m2 ∨ (m1 = m2 ∧ z_batt r2 < z_batt r1) then 1 else 0)))) M) := by
  obtain ⟨dn1, -, o1, -⟩ := h1
  obtain ⟨dn2, -, o2, -⟩ := h2
  have e0 : z_cmp (nI m1) (nI m2) < 0 ↔ m1 < m2 := by
    unfold z_cmp
    constructor
    · intro z
      refine Classical.byContradiction fun w => ?_
      rw [if_neg (fun q => w ((nI_ltI hm1 hm2).mp q))] at z
      split at z <;> exact absurd z (by decide)
    · intro z
      rw [if_pos ((nI_ltI hm1 hm2).mpr z)]
      decide
  have e1 : z_cmp (nI m1) (nI m2) = 0 ↔ m1 = m2 := by
    unfold z_cmp
    constructor
    · intro z
      split at z
      · exact absurd z (by decide)
      · split at z
        · rename_i q; exact (nI_eq hm1 hm2).mp q
        · exact absurd z (by decide)
    · intro z
      rw [z, if_neg (fun q => by have := (nI_ltI hm2 hm2).mp q; omega), if_pos rfl]
  refine w_start (by decide) (Nat.le_of_ble_eq_true rfl) (fun X => ?_)
  refine wa_locals [(0, _), (1, _), (2, _)] [0, 1, 2] rfl ?_
  refine wa_aload_n 2 dX1_isBetter_0 rfl rfl ?_
  refine wa_aload_n 0 dX1_isBetter_1 rfl rfl ?_
  refine wa_getf dX1_isBetter_2 gX1_239 o1 rfl ?_
  refine wa_iald dX1_isBetter_5 hd (vp_in_nI hc1 hn) ?_
  rw [nI_clamp (by omega), hf1]
  refine wa_aload_n 2 dX1_isBetter_6 rfl rfl ?_
  refine wa_aload_n 1 dX1_isBetter_7 rfl rfl ?_
  refine wa_getf dX1_isBetter_8 gX1_239 o2 rfl ?_
  refine wa_iald dX1_isBetter_11 hd (vp_in_nI hc2 hn) ?_
  rw [nI_clamp (by omega), hf2]
  refine wc_isI (wr_S dX1_isBetter_12 mX1_331 sp_compare rfl rfl rfl (Nat.le_of_ble_eq_true rfl)) ?_
  refine wa_istore_n [(3, _), (0, _), (1, _), (2, _)] dX1_isBetter_15 rfl (Nat.le_of_ble_eq_true rfl) rfl ?_
  refine wa_iload_n 0 dX1_isBetter_16 rfl rfl ?_
  refine wa_if_lt 35 dX1_isBetter_17 rfl (fun c17 => ?_) (fun c17 => ?_)
  ·
    refine wa_iconst (1) dX1_isBetter_35 (by decide) ?_
    refine wa_goto 40 dX1_isBetter_36 rfl ?_
    refine wa_iret FieldType.boolean dX1_isBetter_40 rfl rfl (Nat.le_of_ble_eq_true rfl) (Nat.le_of_ble_eq_true rfl) ?_
    refine ⟨congrArg (fun z => Sum.inl (some (Value.int z))) (Eq.symm ?_), rfl⟩
    exact if_pos (Or.inl (e0.mp c17))
  ·
    refine wa_iload_n 0 dX1_isBetter_20 rfl rfl ?_
    refine wa_if_ne 39 dX1_isBetter_21 rfl (fun c21 => ?_) (fun c21 => ?_)
    ·
      refine wa_iconst (0) dX1_isBetter_39 (by decide) ?_
      refine wa_iret FieldType.boolean dX1_isBetter_40 rfl rfl (Nat.le_of_ble_eq_true rfl) (Nat.le_of_ble_eq_true rfl) ?_
      refine ⟨congrArg (fun z => Sum.inl (some (Value.int z))) (Eq.symm ?_), rfl⟩
      exact if_neg (fun z => z.elim (fun z => c17 (e0.mpr z)) (fun z => c21 (e1.mpr z.1)))
    ·
      refine wa_aload_n 1 dX1_isBetter_24 rfl rfl ?_
      refine wa_getf dX1_isBetter_25 gX1_242 o1 rfl ?_
      refine wa_aload_n 2 dX1_isBetter_28 rfl rfl ?_
      refine wa_getf dX1_isBetter_29 gX1_242 o2 rfl ?_
      refine wa_icmp_le 39 dX1_isBetter_32 rfl (fun c32 => ?_) (fun c32 => ?_)
      ·
        refine wa_iconst (0) dX1_isBetter_39 (by decide) ?_
        refine wa_iret FieldType.boolean dX1_isBetter_40 rfl rfl (Nat.le_of_ble_eq_true rfl) (Nat.le_of_ble_eq_true rfl) ?_
        refine ⟨congrArg (fun z => Sum.inl (some (Value.int z))) (Eq.symm ?_), rfl⟩
        exact if_neg (fun z => z.elim (fun z => c17 (e0.mpr z)) (fun z => Int32.not_lt.mpr c32 z.2))
      ·
        refine wa_iconst (1) dX1_isBetter_35 (by decide) ?_
        refine wa_goto 40 dX1_isBetter_36 rfl ?_
        refine wa_iret FieldType.boolean dX1_isBetter_40 rfl rfl (Nat.le_of_ble_eq_true rfl) (Nat.le_of_ble_eq_true rfl) ?_
        refine ⟨congrArg (fun z => Sum.inl (some (Value.int z))) (Eq.symm ?_), rfl⟩
        exact if_pos (Or.inr ⟨e1.mp c21, Int32.not_le.mp c32⟩)
theorem sp_X1_suited (hS : z_sys G M E x bl tx S) (hs : z_small (z_cur S)) {v : Int32} : w_S l G tX1_suited (10, 14, 630) [.ref x, .int v] M (z_anQ G E x bl tx M S (z_ask [z_IO, z_NE] S (z_suitedA (z_cur S) v))) := by
  have hS0 := hS
  obtain ⟨ba, ca, sv, bas, h⟩ := hS
  have hg := h.2.1
  obtain ⟨kd, rl, ol, sg, ra, oa, ras, oas, hL⟩ := h.2.2.1
  have hgc := hL.2.1
  obtain ⟨n1, n2, n3⟩ := z_idxL hs
  have hsz := hs.size
  have h6 : (z_robs (z_cur S)).length ≤ 6 := hs.2.2.2.2.1
  have hlen : ras.length = (z_robs (z_cur S)).length := hL.2.2.2.2.2.2.1
  cases i1 : z_idx v (z_ords (z_cur S)).length with
  | none =>
    have hr : z_suitedA (z_cur S) v = .inr 1 := by simp only [z_suitedA, i1]
    refine w_start (by decide) (Nat.le_of_ble_eq_true rfl) (fun X => ?_)
    refine wa_locals [(0, _), (1, _)] [0, 1] rfl ?_
    refine wa_aload_n 0 dX1_suited_0 rfl rfl ?_
    refine wa_iload_n 1 dX1_suited_1 rfl rfl ?_
    refine wc_isx (wr_V dX1_suited_2 mX1_288 (sp_getOrderZ h hL hs i1) hg rfl rfl rfl (Nat.le_of_ble_eq_true rfl)) ?_
    exact wx_out (fun _ h => by cases h) (Nat.le_of_ble_eq_true rfl) (Nat.le_of_ble_eq_true rfl) (z_anN hS0 ((congrArg (z_ask _ S) hr).trans rfl) w_fr.rf.push)
  | some i =>
    have hi := z_idx_lt n2 i1
    have ev := z_idx_eq n2 i1
    subst ev
    obtain ⟨o, hoo⟩ : ∃ o, (z_ords (z_cur S))[i]? = some o := ⟨_, List.getElem?_eq_getElem hi⟩
    obtain ⟨y, hy, hor⟩ := z_ordAt hL hoo
    obtain ⟨la, hp1, hp2, hob, f, hla, hlf⟩ := id hor
    obtain ⟨hs1, hs2, hs3, hs4, hs5⟩ := hs.2.2.2.2.2.2.2 o (List.mem_of_getElem? hoo)
    obtain ⟨ln, hln⟩ : ∃ ln, (z_lines o)[0]? = some ln := ⟨_, List.getElem?_eq_getElem (by omega)⟩
    have hlns := hs4 ln (List.mem_of_getElem? hln)
    refine w_start (by decide) (Nat.le_of_ble_eq_true rfl) (fun X => ?_)
    refine wa_locals [(0, _), (1, _)] [0, 1] rfl ?_
    have LP : ∀ (n k da : Nat) (N : w_M) (f : Nat → Int32), k + n = (z_robs (z_cur S)).length → M.sz ≤ da → w_fr M N (fun _ => False) → N.get da = some (.inl (.int, z_size (z_cur S), .inl f)) → (∀ (j : Nat) (r : z_R), j < k → (z_robs (z_cur S))[j]? = some r → f (z_cell r) = z_enc (z_far (z_cur S) (z_cell r) ln)) → w_A l G tX1_suited (10, 14, 630) X (1 + 2 * k) (48 + 96 * k) N 27 [(5, .int (nI k)), (4, .ref da), (3, .int (z_enc (z_suit (z_cur S) ln k))), (2, .int (nI ln)), (0, .ref x)] [] (z_anQ G E x bl tx M S (z_ask [z_IO, z_NE] S (z_suitedA (z_cur S) (nI i)))) := by
      intro n
      induction n with
      | zero =>
        intro k da N f hn hda hfr hdaN hff
        have hSN := h.keepE (hfr.mono (fun _ _ z => z.elim))
        have hgN := hSN.2.1
        have hcN := hL.keep (W := fun _ => False) hfr (fun _ _ z => z) (fun z => z)
        have hgcN := hcN.2.1
        have halN := hcN.2.2.2.2.1
        have hglN := halN.choose_spec.1
        have ek : k = (z_robs (z_cur S)).length := by omega
        subst ek
        have hm1 := z_enc_m1 (g := z_suit (z_cur S) ln (z_robs (z_cur S)).length) (fun j e => by have := (z_suit_at _ j e).1; omega)
        refine wa_iload 0 dX1_suited_27 rfl ?_
        refine wa_aload_n 4 dX1_suited_29 rfl rfl ?_
        refine wa_getf dX1_suited_30 gX1_14 hgN rfl ?_
        refine wa_getf dX1_suited_33 gX1_227 hgcN rfl ?_
        refine wc_isI (wr_V dX1_suited_36 mX1_68 (sp_size halN) hglN rfl (w_fit_mk (by (try dsimp only); omega) (by (try dsimp only); omega) rfl) rfl (Nat.le_of_ble_eq_true rfl)) ?_
        refine wa_icmp_ge 173 dX1_suited_39 rfl (fun c39 => ?_) (fun c39 => absurd (nI_le (by omega) (by omega)) c39)
        refine wa_iload_n 2 dX1_suited_173 rfl rfl ?_
        refine wa_iconst (-1) dX1_suited_174 (by decide) ?_
        refine wa_icmp_eq 182 dX1_suited_175 rfl (fun c175 => ?_) (fun c175 => ?_)
        ·
          have i3 := hm1.mp c175
          have hr : z_suitedA (z_cur S) (nI i) = .inr 2 := by simp only [z_suitedA, i1, hoo, hln, i3]
          refine wa_iconst (0) dX1_suited_182 (by decide) ?_
          refine wc_isx (wr_S dX1_suited_183 mX1_169 sp_requireElementT rfl (w_fit_mk (by (try dsimp only); omega) (by (try dsimp only); omega) rfl) rfl (Nat.le_of_ble_eq_true rfl)) ?_
          exact wx_out (fun _ h => by cases h) (by (try dsimp only); omega) (by (try dsimp only); omega) (z_anN hS0 ((congrArg (z_ask _ S) hr).trans rfl) (w_fr.push hfr))
        ·
          obtain ⟨j, i3⟩ : ∃ j, z_suit (z_cur S) ln (z_robs (z_cur S)).length = some j := Option.ne_none_iff_exists'.mp (fun z => c175 (hm1.mpr z))
          have hr : z_suitedA (z_cur S) (nI i) = .inl (nI j) := by simp only [z_suitedA, i1, hoo, hln, i3]
          rw [i3, show z_enc (some j) = nI j from rfl]
          refine wa_iconst (1) dX1_suited_178 (by decide) ?_
          refine wa_goto 183 dX1_suited_179 rfl ?_
          refine wc_isV (wr_S dX1_suited_183 mX1_169 sp_requireElementN rfl (w_fit_mk (by (try dsimp only); omega) (by (try dsimp only); omega) rfl) rfl (Nat.le_of_ble_eq_true rfl)) ?_
          refine wa_iload_n 2 dX1_suited_186 rfl rfl ?_
          refine wa_iret FieldType.int dX1_suited_187 rfl rfl (by (try dsimp only); omega) (by (try dsimp only); omega) ?_
          exact z_anY (hS0.keepE (hfr.mono (fun _ _ z => z.elim))) ((congrArg (z_ask _ S) hr).trans rfl) (hfr.mono (fun _ _ z => z.elim))
      | succ n ih =>
        intro k da N f hn hda hfr hdaN hff
        have hSN := h.keepE (hfr.mono (fun _ _ z => z.elim))
        have hgN := hSN.2.1
        have hcN := hL.keep (W := fun _ => False) hfr (fun _ _ z => z) (fun z => z)
        have hgcN := hcN.2.1
        have halN := hcN.2.2.2.2.1
        have hglN := halN.choose_spec.1
        obtain ⟨r, hrr⟩ : ∃ r, (z_robs (z_cur S))[k]? = some r := ⟨_, List.getElem?_eq_getElem (by omega)⟩
        obtain ⟨yr, hyr, pv, hrp, hrn⟩ := z_robAt hL hrr
        have hrpN : z_robP N _ yr r pv := hrp.keep (W := fun _ => False) hfr (fun _ _ z => z)
        obtain ⟨dn, hpy, hobN, hrest⟩ := id hrpN
        have hcs := (hs.2.2.2.2.2.2.1 r (List.mem_of_getElem? hrr)).1
        have hho := (hs.2.2.2.2.2.2.1 r (List.mem_of_getElem? hrr)).2.2.2
        have hh1 := z_enc_m1 (g := z_has r) (fun j e => by have := hho j e; omega)
        have hs1m := z_enc_m1 (g := z_suit (z_cur S) ln k) (fun j e => by have := (z_suit_at _ j e).1; omega)
        have hfm := z_far_m1 hs hcs (q := ln)
        have ih := ih (k + 1)
        rw [z_suit] at ih
        simp only [hrr] at ih
        refine wa_iload 0 dX1_suited_27 rfl ?_
        refine wa_aload_n 4 dX1_suited_29 rfl rfl ?_
        refine wa_getf dX1_suited_30 gX1_14 hgN rfl ?_
        refine wa_getf dX1_suited_33 gX1_227 hgcN rfl ?_
        refine wc_isI (wr_V dX1_suited_36 mX1_68 (sp_size halN) hglN rfl (w_fit_mk (by (try dsimp only); omega) (by (try dsimp only); omega) rfl) rfl (Nat.le_of_ble_eq_true rfl)) ?_
        refine wa_icmp_ge 173 dX1_suited_39 rfl (fun c39 => absurd c39 (nI_lt_not (by omega) (by omega))) (fun c39 => ?_)
        refine wa_aload_n 4 dX1_suited_42 rfl rfl ?_
        refine wa_getf dX1_suited_43 gX1_14 hgN rfl ?_
        refine wa_getf dX1_suited_46 gX1_227 hgcN rfl ?_
        refine wa_iload 0 dX1_suited_49 rfl ?_
        refine wc_isA (wr_V dX1_suited_51 mX1_230 (sp_get halN hyr) hglN rfl (w_fit_mk (by (try dsimp only); omega) (by (try dsimp only); omega) rfl) rfl (Nat.le_of_ble_eq_true rfl)) ?_
        refine wa_castS dX1_suited_54 q1200 hobN rfl ?_
        refine wa_getf dX1_suited_57 gX1_239 hobN rfl ?_
        refine wa_istore [(6, _), (5, _), (4, _), (3, _), (2, _), (0, _)] dX1_suited_60 (Nat.le_of_ble_eq_true rfl) rfl ?_
        refine wa_aload 2 dX1_suited_62 rfl ?_
        refine wa_iload 0 dX1_suited_64 rfl ?_
        refine wa_aload_n 5 dX1_suited_66 rfl rfl ?_
        refine wa_iload 0 dX1_suited_67 rfl ?_
        refine wc_A (wr_V dX1_suited_69 mX1_213 (sp_distancesFrom hSN hcN hs hcs) hgN rfl (w_fit_mk (by (try dsimp only); omega) (by (try dsimp only); omega) rfl) rfl (Nat.le_of_ble_eq_true rfl)) (fun r69 M69 h69 => ?_)
        obtain ⟨hf69, g, hf1, hg2⟩ := h69
        have hfr6 := hfr.trans hf69
        have hda6 := hf69.2 _ _ hdaN id
        refine wa_iload_n 4 dX1_suited_72 rfl rfl ?_
        refine wa_iald dX1_suited_73 hf1 (vp_in_nI hlns (by omega)) ?_
        rw [nI_clamp (by omega), hg2 ln hlns]
        refine wa_iast dX1_suited_74 hda6 (vp_in_nI hcs (by omega)) ?_
        rw [nI_clamp (by omega)]
        have hfr7 : w_fr M (M69.set da (.inl (.int, z_size (z_cur S), .inl (upd f (z_cell r) (z_enc (z_far (z_cur S) (z_cell r) ln)))))) (fun _ => False) := hfr6.setN hda
        have hda7 := w_set_self (e := .inl (.int, z_size (z_cur S), .inl (upd f (z_cell r) (z_enc (z_far (z_cur S) (z_cell r) ln))))) hda6
        have hS7 := h.keepE (hfr7.mono (fun _ _ z => z.elim))
        have hg7 := hS7.2.1
        have hc7 := hL.keep (W := fun _ => False) hfr7 (fun _ _ z => z) (fun z => z)
        have hrp7 := hrp.keep (W := fun _ => False) hfr7 (fun _ _ z => z)
        obtain ⟨dn7, -, hob7, -⟩ := id hrp7
        have hff7 : ∀ (j : Nat) (r' : z_R), j < k + 1 → (z_robs (z_cur S))[j]? = some r' → upd f (z_cell r) (z_enc (z_far (z_cur S) (z_cell r) ln)) (z_cell r') = z_enc (z_far (z_cur S) (z_cell r') ln) := fun j r' hj hr' => by
          by_cases e : z_cell r' = z_cell r
          · rw [e]; exact if_pos rfl
          · rw [show upd f (z_cell r) (z_enc (z_far (z_cur S) (z_cell r) ln)) (z_cell r') = f (z_cell r') from if_neg e]
            refine hff j r' ?_ hr'
            by_cases ej : j = k
            · subst ej; rw [hrr] at hr'; cases hr'; exact absurd rfl e
            · omega
        have ih := ih da _ _ (by omega) hda hfr7 hda7 hff7
        refine wa_aload_n 5 dX1_suited_75 rfl rfl ?_
        refine wa_getf dX1_suited_76 gX1_14 hg7 rfl ?_
        refine wa_getf dX1_suited_79 gX1_227 hc7.2.1 rfl ?_
        refine wa_iload 1 dX1_suited_82 rfl ?_
        refine wc_isA (wr_V dX1_suited_84 mX1_230 (sp_get hc7.2.2.2.2.1 hyr) hc7.2.2.2.2.1.choose_spec.1 rfl (w_fit_mk (by (try dsimp only); omega) (by (try dsimp only); omega) rfl) rfl (Nat.le_of_ble_eq_true rfl)) ?_
        refine wa_castS dX1_suited_87 q1200 hob7 rfl ?_
        refine wa_getf dX1_suited_90 gX1_245 hob7 rfl ?_
        refine wa_iconst (-1) dX1_suited_93 (by decide) ?_
        refine wa_icmp_ne 110 dX1_suited_94 rfl (fun c94 => ?_) (fun c94 => ?_)
        ·
          have i3 : ¬ z_has r = none := fun z => c94 (hh1.mpr z)
          simp only [if_neg i3] at ih
          refine wa_iconst (0) dX1_suited_110 (by decide) ?_
          refine wa_istore [(7, _), (6, _), (5, _), (4, _), (3, _), (2, _), (0, _)] dX1_suited_111 (Nat.le_of_ble_eq_true rfl) rfl ?_
          refine wa_iload 0 dX1_suited_113 rfl ?_
          refine wa_if_eq 165 dX1_suited_115 rfl (fun c115 => ?_) (fun c115 => absurd (by decide) c115)
          refine wa_iload_n 4 dX1_suited_165 rfl rfl ?_
          refine wa_istore_n [(3, _), (7, _), (6, _), (5, _), (4, _), (2, _), (0, _)] dX1_suited_166 rfl (Nat.le_of_ble_eq_true rfl) rfl ?_
          refine wa_iinc 3 [(5, _), (3, _), (7, _), (6, _), (4, _), (2, _), (0, _)] dX1_suited_167 rfl (w_inc k) (Nat.le_of_ble_eq_true rfl) rfl ?_
          refine wa_goto 27 dX1_suited_170 rfl ?_
          refine wa_locals [(5, _), (4, _), (3, _), (2, _), (0, _)] [0, 4, 1, 5, 6] rfl ?_
          refine wa_costs (k' := 1 + 2 * (k + 1)) (n' := 48 + 96 * (k + 1)) (by (try dsimp only); omega) (by (try dsimp only); omega) ?_
          exact ih
        ·
          have i3 := hh1.mp c94
          simp only [if_pos i3] at ih
          refine wa_aload 2 dX1_suited_97 rfl ?_
          refine wa_iload 0 dX1_suited_99 rfl ?_
          refine wa_iald dX1_suited_101 hda7 (vp_in_nI hcs (by omega)) ?_
          rw [nI_clamp (by omega), hff7 k r (Nat.lt_succ_self k) hrr]
          refine wa_iconst (-1) dX1_suited_102 (by decide) ?_
          refine wa_icmp_eq 110 dX1_suited_103 rfl (fun c103 => ?_) (fun c103 => ?_)
          ·
            have i4 := hfm.mp c103
            simp only [i4] at ih
            refine wa_iconst (0) dX1_suited_110 (by decide) ?_
            refine wa_istore [(7, _), (6, _), (5, _), (4, _), (3, _), (2, _), (0, _)] dX1_suited_111 (Nat.le_of_ble_eq_true rfl) rfl ?_
            refine wa_iload 0 dX1_suited_113 rfl ?_
            refine wa_if_eq 165 dX1_suited_115 rfl (fun c115 => ?_) (fun c115 => absurd (by decide) c115)
            refine wa_iload_n 4 dX1_suited_165 rfl rfl ?_
            refine wa_istore_n [(3, _), (7, _), (6, _), (5, _), (4, _), (2, _), (0, _)] dX1_suited_166 rfl (Nat.le_of_ble_eq_true rfl) rfl ?_
            refine wa_iinc 3 [(5, _), (3, _), (7, _), (6, _), (4, _), (2, _), (0, _)] dX1_suited_167 rfl (w_inc k) (Nat.le_of_ble_eq_true rfl) rfl ?_
            refine wa_goto 27 dX1_suited_170 rfl ?_
            refine wa_locals [(5, _), (4, _), (3, _), (2, _), (0, _)] [0, 4, 1, 5, 6] rfl ?_
            refine wa_costs (k' := 1 + 2 * (k + 1)) (n' := 48 + 96 * (k + 1)) (by (try dsimp only); omega) (by (try dsimp only); omega) ?_
            rw [i4]
            exact ih
          ·
            obtain ⟨m, i4⟩ : ∃ m, z_far (z_cur S) (z_cell r) ln = some m := Option.ne_none_iff_exists'.mp (fun z => c103 (hfm.mpr z))
            have hml := z_far_lt hs hcs i4
            simp only [i4] at ih
            refine wa_iconst (1) dX1_suited_106 (by decide) ?_
            refine wa_goto 111 dX1_suited_107 rfl ?_
            refine wa_istore [(7, _), (6, _), (5, _), (4, _), (3, _), (2, _), (0, _)] dX1_suited_111 (Nat.le_of_ble_eq_true rfl) rfl ?_
            refine wa_iload 0 dX1_suited_113 rfl ?_
            refine wa_if_eq 165 dX1_suited_115 rfl (fun c115 => absurd c115 (by decide)) (fun c115 => ?_)
            refine wa_iload_n 4 dX1_suited_118 rfl rfl ?_
            refine wa_iconst (-1) dX1_suited_119 (by decide) ?_
            refine wa_icmp_eq 160 dX1_suited_120 rfl (fun c120 => ?_) (fun c120 => ?_)
            ·
              refine wa_iload 2 dX1_suited_160 rfl ?_
              refine wa_goto 166 dX1_suited_162 rfl ?_
              refine wa_istore_n [(3, _), (7, _), (6, _), (5, _), (4, _), (2, _), (0, _)] dX1_suited_166 rfl (Nat.le_of_ble_eq_true rfl) rfl ?_
              refine wa_iinc 3 [(5, _), (3, _), (7, _), (6, _), (4, _), (2, _), (0, _)] dX1_suited_167 rfl (w_inc k) (Nat.le_of_ble_eq_true rfl) rfl ?_
              refine wa_goto 27 dX1_suited_170 rfl ?_
              refine wa_locals [(5, _), (4, _), (3, _), (2, _), (0, _)] [0, 4, 1, 5, 6] rfl ?_
              refine wa_costs (k' := 1 + 2 * (k + 1)) (n' := 48 + 96 * (k + 1)) (by (try dsimp only); omega) (by (try dsimp only); omega) ?_
              have i5 := hs1m.mp c120
              simp only [i5] at ih
              rw [i4]
              exact ih
            ·
              obtain ⟨j, i5⟩ : ∃ j, z_suit (z_cur S) ln k = some j := Option.ne_none_iff_exists'.mp (fun z => c120 (hs1m.mpr z))
              obtain ⟨hjk, rj, mj, hrj, hmj⟩ := z_suit_at k j i5
              obtain ⟨yj, hyj, pvj, hrpj0, hrnj⟩ := z_robAt hL hrj
              have hrpj := hrpj0.keep (W := fun _ => False) hfr7 (fun _ _ z => z)
              obtain ⟨dnj, -, hobj, -⟩ := id hrpj
              have hcj := (hs.2.2.2.2.2.2.1 rj (List.mem_of_getElem? hrj)).1
              have hmjl := z_far_lt hs hcj hmj
              have hv1 := (hff7 k r (Nat.lt_succ_self k) hrr).trans (show z_enc (z_far (z_cur S) (z_cell r) ln) = nI m by rw [i4]; rfl)
              have hv2 := (hff7 j rj (Nat.lt_succ_of_lt hjk) hrj).trans (show z_enc (z_far (z_cur S) (z_cell rj) ln) = nI mj by rw [hmj]; rfl)
              have hbe : z_bet (z_cur S) ln r m j = decide (m < mj ∨ (m = mj ∧ z_batt rj < z_batt r)) := by unfold z_bet; rw [hrj]; simp only [hmj]
              simp only [i5] at ih
              rw [hbe] at ih
              rw [i5, show z_enc (some j) = nI j from rfl]
              refine wa_aload_n 6 dX1_suited_123 rfl rfl ?_
              refine wa_getf dX1_suited_124 gX1_14 hg7 rfl ?_
              refine wa_getf dX1_suited_127 gX1_227 hc7.2.1 rfl ?_
              refine wa_iload 2 dX1_suited_130 rfl ?_
              refine wc_isA (wr_V dX1_suited_132 mX1_230 (sp_get hc7.2.2.2.2.1 hyr) hc7.2.2.2.2.1.choose_spec.1 rfl (w_fit_mk (by (try dsimp only); omega) (by (try dsimp only); omega) rfl) rfl (Nat.le_of_ble_eq_true rfl)) ?_
              refine wa_castS dX1_suited_135 q1200 hob7 rfl ?_
              refine wa_aload_n 6 dX1_suited_138 rfl rfl ?_
              refine wa_getf dX1_suited_139 gX1_14 hg7 rfl ?_
              refine wa_getf dX1_suited_142 gX1_227 hc7.2.1 rfl ?_
              refine wa_iload_n 4 dX1_suited_145 rfl rfl ?_
              refine wc_isA (wr_V dX1_suited_146 mX1_230 (sp_get hc7.2.2.2.2.1 hyj) hc7.2.2.2.2.1.choose_spec.1 rfl (w_fit_mk (by (try dsimp only); omega) (by (try dsimp only); omega) rfl) rfl (Nat.le_of_ble_eq_true rfl)) ?_
              refine wa_castS dX1_suited_149 q1200 hobj rfl ?_
              refine wa_aload 3 dX1_suited_152 rfl ?_
              refine wc_isI (wr_S dX1_suited_154 mX1_336 (sp_isBetter hrp7 hrpj hda7 (by omega) hcs hcj hv1 hv2 (by omega) (by omega)) rfl (w_fit_mk (by (try dsimp only); omega) (by (try dsimp only); omega) rfl) rfl (Nat.le_of_ble_eq_true rfl)) ?_
              refine wa_if_eq 165 dX1_suited_157 rfl (fun c157 => ?_) (fun c157 => ?_)
              ·
                refine wa_iload_n 4 dX1_suited_165 rfl rfl ?_
                refine wa_istore_n [(3, _), (7, _), (6, _), (5, _), (4, _), (2, _), (0, _)] dX1_suited_166 rfl (Nat.le_of_ble_eq_true rfl) rfl ?_
                refine wa_iinc 3 [(5, _), (3, _), (7, _), (6, _), (4, _), (2, _), (0, _)] dX1_suited_167 rfl (w_inc k) (Nat.le_of_ble_eq_true rfl) rfl ?_
                refine wa_goto 27 dX1_suited_170 rfl ?_
                refine wa_locals [(5, _), (4, _), (3, _), (2, _), (0, _)] [0, 4, 1, 5, 6] rfl ?_
                refine wa_costs (k' := 1 + 2 * (k + 1)) (n' := 48 + 96 * (k + 1)) (by (try dsimp only); omega) (by (try dsimp only); omega) ?_
                rw [decide_eq_false (z_n c157), if_neg (by decide)] at ih
                rw [i4]
                exact ih
              ·
                refine wa_iload 2 dX1_suited_160 rfl ?_
                refine wa_goto 166 dX1_suited_162 rfl ?_
                refine wa_istore_n [(3, _), (7, _), (6, _), (5, _), (4, _), (2, _), (0, _)] dX1_suited_166 rfl (Nat.le_of_ble_eq_true rfl) rfl ?_
                refine wa_iinc 3 [(5, _), (3, _), (7, _), (6, _), (4, _), (2, _), (0, _)] dX1_suited_167 rfl (w_inc k) (Nat.le_of_ble_eq_true rfl) rfl ?_
                refine wa_goto 27 dX1_suited_170 rfl ?_
                refine wa_locals [(5, _), (4, _), (3, _), (2, _), (0, _)] [0, 4, 1, 5, 6] rfl ?_
                refine wa_costs (k' := 1 + 2 * (k + 1)) (n' := 48 + 96 * (k + 1)) (by (try dsimp only); omega) (by (try dsimp only); omega) ?_
                rw [decide_eq_true (z_y c157), if_pos rfl] at ih
                rw [i4]
                exact ih
    refine wa_aload_n 0 dX1_suited_0 rfl rfl ?_
    refine wa_iload_n 1 dX1_suited_1 rfl rfl ?_
    refine wc_isA (wr_V dX1_suited_2 mX1_288 (sp_getOrderY h hL hs i1 hy hob) hg rfl rfl rfl (Nat.le_of_ble_eq_true rfl)) ?_
    refine wa_getf dX1_suited_5 gX1_295 hob rfl ?_
    refine wa_iconst (0) dX1_suited_8 (by decide) ?_
    refine wa_iald dX1_suited_9 hla (vp_in_nI (n := 0) (by omega) (by omega)) ?_
    rw [show f (Int32.toNatClampNeg 0) = nI ln from hlf 0 ln hln]
    refine wa_istore_n [(2, _), (0, _), (1, _)] dX1_suited_10 rfl (Nat.le_of_ble_eq_true rfl) rfl ?_
    refine wa_iconst (-1) dX1_suited_11 (by decide) ?_
    refine wa_istore_n [(3, _), (2, _), (0, _), (1, _)] dX1_suited_12 rfl (Nat.le_of_ble_eq_true rfl) rfl ?_
    refine wa_aload_n 2 dX1_suited_13 rfl rfl ?_
    refine wa_getf dX1_suited_14 gX1_14 hg rfl ?_
    refine wc_isI (wr_V dX1_suited_17 mX1_163 (sp_C_size hL) hgc rfl rfl rfl (Nat.le_of_ble_eq_true rfl)) ?_
    refine wa_newi (z_size (z_cur S)) dX1_suited_20 q160 rfl (by omega) (by (try dsimp only); omega) (by (try dsimp only); omega) ?_
    refine wa_pad (k' := 1 + 2 * 0) (n' := 48 + 96 * 0) (by (try dsimp only); omega) (by (try dsimp only); omega) ?_
    refine wa_astore [(4, _), (3, _), (2, _), (0, _), (1, _)] dX1_suited_22 (Nat.le_of_ble_eq_true rfl) rfl ?_
    refine wa_iconst (0) dX1_suited_24 (by decide) ?_
    refine wa_istore [(5, _), (4, _), (3, _), (2, _), (0, _), (1, _)] dX1_suited_25 (Nat.le_of_ble_eq_true rfl) rfl ?_
    refine wa_locals [(5, _), (4, _), (3, _), (2, _), (0, _)] [0, 1, 2, 3, 4] rfl ?_
    exact LP _ 0 M.sz _ (fun _ => 0) (Nat.zero_add _) (Nat.le_refl _) w_fr.rf.push w_push_self (fun j r hj => absurd hj (Nat.not_lt_zero j))
end TO
