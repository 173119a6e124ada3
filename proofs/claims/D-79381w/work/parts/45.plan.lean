/-! ===== the planner made; the core's plan ===== -/
set_option maxRecDepth 100000
def z_stepsN : Nat → List Nat → Nat
  | _, [] => 0
  | p, q :: qs => (if q = p then 0 else 1) + z_stepsN q qs
theorem z_stepsN_le : ∀ (qs : List Nat) (p : Nat), z_stepsN p qs ≤ qs.length := by
  intro qs
  induction qs with
  | nil => intro p; exact Nat.le_refl _
  | cons q qs ih =>
    intro p
    rw [z_stepsN]
    have := ih q
    simp only [List.length_cons]
    split <;> omega
def z_planR (r : z_R) (p : List Nat) (w : Int32) : z_R := (z_cell r, z_batt r, z_has r, z_steps r, p, w)
def z_hor (c : z_C) : Nat := (z_sets c 2).toNatClampNeg
def z_planC (c : z_C) (x y : Int32) : z_res := match z_idx x (z_robs c).length with
  | none => .inr (1, 0)
  | some k => match z_idx y (z_size c) with
    | none => .inr (1, 0)
    | some g => match (z_robs c)[k]? with
      | none => .inr (1, 0)
      | some r => if z_plan r = [] then if z_cell r = g then .inr (9, 0) else if z_free c g = true then match z_first c k (z_cell r) g (z_hor c) 0 with
          | none => .inr (10, 0)
          | some u => if z_batt r < (if z_loaded c r = true then z_sets c 1 else 1) * nI (z_stepsN (z_cell r) (z_trail c k (z_cell r) g (u + 1) (u + 1) 0 (z_cell r))) then .inr (11, (if z_loaded c r = true then z_sets c 1 else 1) * nI (z_stepsN (z_cell r) (z_trail c k (z_cell r) g (u + 1) (u + 1) 0 (z_cell r))))
            else .inl (nI (u + 1), z_setR c ((z_robs c).set k (z_planR r (z_trail c k (z_cell r) g (u + 1) (u + 1) 0 (z_cell r)) (if z_loaded c r = true then z_sets c 1 else 1))))
        else .inr (4, nI g) else .inr (6, nI (z_plan r).length)
theorem z_cellIx {j t A q : Nat} (hA : A < 64) (hq : q < 64) (h : 64 * t + q = 64 * j + A) : t = j ∧ q = A := by omega
section PN
variable {l : Launch} {G : w_G} {M : w_M} {P : Nat → Prop} {a kd rl ol sg ra oa p0 k g H s0 : Nat} {ras oas : List Nat} {c : z_C}
theorem sp_stepsOf {x p m : Nat} {f : Nat → Int32} {qs : List Nat} (hx : M.get x = some (.inl (.int, m, .inl f))) (hm : m ≤ 30) (hl : qs.length = m) (hp : p < 64) (hq : ∀ i q, qs[i]? = some q → f i = nI q ∧ q < 64) : w_S l G tX2_stepsOf (1, 0, 0) [.int (nI p), .ref x] M (w_is (.inl (some (.int (nI (z_stepsN p qs))))) M) := by
  refine w_start (by decide) (Nat.le_of_ble_eq_true rfl) (fun X => ?_)
  refine wa_locals [(0, _), (1, _)] [0, 1] rfl ?_
  have LP : ∀ (n i v p' : Nat), i + n = m → p' < 64 → v + z_stepsN p' (qs.drop i) = z_stepsN p qs → w_A l G tX2_stepsOf (1, 0, 0) X 0 0 M 7 [(4, .int (nI i)), (3, .int (nI p')), (2, .int (nI v)), (1, .ref x)] [] (w_is (.inl (some (.int (nI (z_stepsN p qs))))) M) := by
    intro n
    induction n with
    | zero =>
      intro i v p' hin hp' he
      refine wa_iload 0 dX2_stepsOf_7 rfl ?_
      refine wa_aload_n 3 dX2_stepsOf_9 rfl rfl ?_
      refine wa_alen 0 dX2_stepsOf_10 hx rfl ?_
      refine wa_icmp_ge 41 dX2_stepsOf_11 rfl (fun c11 => ?_) (fun c11 => absurd (nI_le (by omega) (by omega)) c11)
      refine wa_iload_n 2 dX2_stepsOf_41 rfl rfl ?_
      refine wa_iret FieldType.int dX2_stepsOf_42 rfl rfl (Nat.le_of_ble_eq_true rfl) (Nat.le_of_ble_eq_true rfl) ?_
      exact ⟨by rw [← he, List.drop_eq_nil_of_le (by omega)]; rfl, rfl⟩
    | succ n ih =>
      intro i v p' hin hp' he
      obtain ⟨q, hqi⟩ : ∃ q, qs[i]? = some q := ⟨_, List.getElem?_eq_getElem (by omega)⟩
      obtain ⟨hf, hq64⟩ := hq i q hqi
      rw [List.drop_eq_getElem_cons (by omega), (List.getElem?_eq_some_iff.mp hqi).2, z_stepsN] at he
      refine wa_iload 0 dX2_stepsOf_7 rfl ?_
      refine wa_aload_n 3 dX2_stepsOf_9 rfl rfl ?_
      refine wa_alen 0 dX2_stepsOf_10 hx rfl ?_
      refine wa_icmp_ge 41 dX2_stepsOf_11 rfl (fun c11 => absurd c11 (nI_lt_not (by omega) (by omega))) (fun c11 => ?_)
      refine wa_iload_n 2 dX2_stepsOf_14 rfl rfl ?_
      refine wa_aload_n 3 dX2_stepsOf_15 rfl rfl ?_
      refine wa_iload 0 dX2_stepsOf_16 rfl ?_
      refine wa_iald dX2_stepsOf_18 hx (vp_in_nI (by omega) (by omega)) ?_
      rw [nI_clamp (by omega), hf]
      refine wa_iload_n 1 dX2_stepsOf_19 rfl rfl ?_
      refine wa_icmp_eq 27 dX2_stepsOf_20 rfl (fun c20 => ?_) (fun c20 => ?_)
      ·
        have i1 : q = p' := (nI_eq (by omega) (by omega)).mp c20
        refine wa_iconst (0) dX2_stepsOf_27 (by decide) ?_
        refine wa_iadd dX2_stepsOf_28 ?_
        rw [Int32.add_zero]
        refine wa_istore_n [(2, _), (4, _), (3, _), (1, _)] dX2_stepsOf_29 rfl (Nat.le_of_ble_eq_true rfl) rfl ?_
        refine wa_aload_n 3 dX2_stepsOf_30 rfl rfl ?_
        refine wa_iload 1 dX2_stepsOf_31 rfl ?_
        refine wa_iald dX2_stepsOf_33 hx (vp_in_nI (by omega) (by omega)) ?_
        rw [nI_clamp (by omega), hf]
        refine wa_istore_n [(3, _), (2, _), (4, _), (1, _)] dX2_stepsOf_34 rfl (Nat.le_of_ble_eq_true rfl) rfl ?_
        refine wa_iinc 2 [(4, _), (3, _), (2, _), (1, _)] dX2_stepsOf_35 rfl (w_inc i) (Nat.le_of_ble_eq_true rfl) rfl ?_
        refine wa_goto 7 dX2_stepsOf_38 rfl ?_
        refine wa_locals [(4, _), (3, _), (2, _), (1, _)] [0, 1, 2, 3] rfl ?_
        rw [if_pos i1] at he
        exact ih (i + 1) v q (by omega) hq64 (by omega)
      ·
        have i1 : ¬ q = p' := fun z => c20 (by rw [z])
        refine wa_iconst (1) dX2_stepsOf_23 (by decide) ?_
        refine wa_goto 28 dX2_stepsOf_24 rfl ?_
        refine wa_iadd dX2_stepsOf_28 ?_
        rw [nI_1]
        refine wa_istore_n [(2, _), (4, _), (3, _), (1, _)] dX2_stepsOf_29 rfl (Nat.le_of_ble_eq_true rfl) rfl ?_
        refine wa_aload_n 3 dX2_stepsOf_30 rfl rfl ?_
        refine wa_iload 1 dX2_stepsOf_31 rfl ?_
        refine wa_iald dX2_stepsOf_33 hx (vp_in_nI (by omega) (by omega)) ?_
        rw [nI_clamp (by omega), hf]
        refine wa_istore_n [(3, _), (2, _), (4, _), (1, _)] dX2_stepsOf_34 rfl (Nat.le_of_ble_eq_true rfl) rfl ?_
        refine wa_iinc 2 [(4, _), (3, _), (2, _), (1, _)] dX2_stepsOf_35 rfl (w_inc i) (Nat.le_of_ble_eq_true rfl) rfl ?_
        refine wa_goto 7 dX2_stepsOf_38 rfl ?_
        refine wa_locals [(4, _), (3, _), (2, _), (1, _)] [0, 1, 2, 3] rfl ?_
        rw [if_neg i1] at he
        exact ih (i + 1) (v + 1) q (by omega) hq64 (by omega)
  refine wa_iconst (0) dX2_stepsOf_0 (by decide) ?_
  refine wa_istore_n [(2, _), (0, _), (1, _)] dX2_stepsOf_1 rfl (Nat.le_of_ble_eq_true rfl) rfl ?_
  refine wa_iload_n 1 dX2_stepsOf_2 rfl rfl ?_
  refine wa_istore_n [(3, _), (2, _), (0, _), (1, _)] dX2_stepsOf_3 rfl (Nat.le_of_ble_eq_true rfl) rfl ?_
  refine wa_iconst (0) dX2_stepsOf_4 (by decide) ?_
  refine wa_istore [(4, _), (3, _), (2, _), (0, _), (1, _)] dX2_stepsOf_5 (Nat.le_of_ble_eq_true rfl) rfl ?_
  refine wa_locals [(4, _), (3, _), (2, _), (1, _)] [0, 1, 2, 4] rfl ?_
  exact LP m 0 0 p (by omega) hp (Nat.zero_add _)
theorem sp_P_init (h : z_coreL G M P a kd rl ol sg ra oa ras oas c) (hs : z_small c) {r : z_R} (hr : (z_robs c)[k]? = some r) (hH : z_sets c 2 = nI H) (hp0 : M.get p0 = some (.inr (8, [.null, .int 0, .int 0, .int 0, .int 0, .null, .null]))) (hPp : ∀ q, P q → ¬ q = p0) : w_S l G tX9_init (4, 2, 2015) [.ref p0, .ref a, .int (nI k), .int (nI g)] M (w_rV (fun N => z_pl N p0 a M.sz (M.sz + 1) c k (z_cell r) g H ∧ N.get (M.sz + 1) = some (.inl (.long, 31, .inr (.inl (fun _ => 0)))) ∧ w_fr M N (fun q => q = p0))) := by
  have hg := h.2.1
  have hal := h.2.2.2.2.1
  have hgl := hal.choose_spec.1
  have hlen : ras.length = (z_robs c).length := h.2.2.2.2.2.2.1
  have h6 : (z_robs c).length ≤ 6 := hs.2.2.2.2.1
  have hsz := hs.size
  obtain ⟨sf, hs1, hs2⟩ := h.2.2.2.1
  obtain ⟨y, hy, hrb⟩ := z_robAt h hr
  obtain ⟨pv, hrp, hrn⟩ := id hrb
  obtain ⟨dn, hpy, hob, hrest⟩ := id hrp
  have hkl := (List.getElem?_eq_some_iff.mp hr).1
  have hpl := w_lt hp0
  refine w_start (by decide) (Nat.le_of_ble_eq_true rfl) (fun X => ?_)
  refine wa_locals [(0, _), (1, _), (2, _), (3, _)] [0, 1, 2, 3] rfl ?_
  refine wa_lo (fun lo hd => ?_)
  have hr0 : ¬ w_ad G 0 = p0 := fun q => by rw [← q] at hp0; exact hd _ hp0
  have LI : ∀ (i : Nat) (_ : i < (z_robs c).length) (_ : i ≠ k) (r' : z_R) (_ : (z_robs c)[i]? = some r')
      (_ : ∀ (v : Int32) (N : w_M) (f : Nat → Int32), w_fr M N (fun q => q = p0) → N.get p0 = some (.inr (8, [.ref a, .int (nI k), .int (nI (z_cell r)), .int (nI g), .int (nI H), .ref M.sz, .ref (M.sz + 1)])) → N.get (M.sz + 1) = some (.inl (.long, 31, .inr (.inl (fun _ => 0)))) → N.get M.sz = some (.inl (.int, 1984, .inl f)) → (∀ t q, t ≤ 30 → q < 64 → f (64 * t + q) = nI (z_lastN c k t q (i + 1))) → w_A l G tX9_init (4, 2, 2015) X 2 2015 N 133 [(5, .int v), (4, .int (nI i)), (0, .ref p0), (1, .ref a), (2, .int (nI k))] [] (w_rV (fun N => z_pl N p0 a M.sz (M.sz + 1) c k (z_cell r) g H ∧ N.get (M.sz + 1) = some (.inl (.long, 31, .inr (.inl (fun _ => 0)))) ∧ w_fr M N (fun q => q = p0)))),
      ∀ (n j : Nat) (N : w_M) (f : Nat → Int32), j + n = 31 → w_fr M N (fun q => q = p0) → N.get p0 = some (.inr (8, [.ref a, .int (nI k), .int (nI (z_cell r)), .int (nI g), .int (nI H), .ref M.sz, .ref (M.sz + 1)])) → N.get (M.sz + 1) = some (.inl (.long, 31, .inr (.inl (fun _ => 0)))) → N.get M.sz = some (.inl (.int, 1984, .inl f)) → (∀ t q, t ≤ 30 → q < 64 → f (64 * t + q) = nI (if t < j ∧ z_ahead r' t = q then i + 1 else z_lastN c k t q i)) → w_A l G tX9_init (4, 2, 2015) X 2 2015 N 82 [(5, .int (nI j)), (4, .int (nI i)), (0, .ref p0), (1, .ref a), (2, .int (nI k))] [] (w_rV (fun N => z_pl N p0 a M.sz (M.sz + 1) c k (z_cell r) g H ∧ N.get (M.sz + 1) = some (.inl (.long, 31, .inr (.inl (fun _ => 0)))) ∧ w_fr M N (fun q => q = p0))) := by
    intro i hi hik r' hr' K n
    induction n with
    | zero =>
      intro j N f hjn hfr hpN h31 hrv hf
      refine wa_iload 0 dX9_init_82 rfl ?_
      refine wa_bipush (30) dX9_init_84 (by decide) ?_
      refine wa_icmp_gt 133 dX9_init_86 rfl (fun c86 => ?_) (fun c86 => absurd c86 (z_gt (by omega) (by omega)))
      refine K _ N f hfr hpN h31 hrv (fun t q ht hq => ?_)
      rw [hf t q ht hq, z_lastN, hr']
      congr 1
      by_cases e : z_ahead r' t = q
      · rw [if_pos ⟨by omega, e⟩, if_pos ⟨hik, congrArg some e⟩]
      · rw [if_neg (fun z => e z.2), if_neg (fun z => e (Option.some.inj z.2))]
    | succ n ih =>
      intro j N f hjn hfr hpN h31 hrv hf
      have hcN := h.keep (W := fun q => q = p0) hfr hPp hr0
      have hgN := hcN.2.1
      have halN := hcN.2.2.2.2.1
      have hglN := halN.choose_spec.1
      obtain ⟨y', hy', hrb'⟩ := z_robAt hcN hr'
      obtain ⟨pv', hrp', hrn'⟩ := id hrb'
      obtain ⟨dn', hpy', hob', hrest'⟩ := id hrp'
      have hah := z_ahead_lt hs (List.mem_of_getElem? hr') j
      have e64 : (64 : Int32) * nI j + nI (z_ahead r' j) = nI (64 * j + z_ahead r' j) := by rw [show (64 : Int32) * nI j = nI (64 * j) from pk_mul 64 j, nI_add]
      refine wa_iload 0 dX9_init_82 rfl ?_
      refine wa_bipush (30) dX9_init_84 (by decide) ?_
      refine wa_icmp_gt 133 dX9_init_86 rfl (fun c86 => absurd c86 (fun z => by have := (nI_ltI (a := 30) (b := j) (by decide) (by omega)).mp z; omega)) (fun c86 => ?_)
      refine wa_iload 1 dX9_init_89 rfl ?_
      refine wa_iload_n 4 dX9_init_91 rfl rfl ?_
      refine wa_icmp_eq 133 dX9_init_92 rfl (fun c92 => absurd ((nI_eq (by omega) (by omega)).mp c92) hik) (fun c92 => ?_)
      refine wa_aload_n 2 dX9_init_95 rfl rfl ?_
      refine wa_getf dX9_init_96 gX9_9 hpN rfl ?_
      refine wa_bipush (64) dX9_init_99 (by decide) ?_
      refine wa_iload 0 dX9_init_101 rfl ?_
      refine wa_imul dX9_init_103 ?_
      refine wa_aload_n 3 dX9_init_104 rfl rfl ?_
      refine wa_getf dX9_init_105 gX9_30 hgN rfl ?_
      refine wa_iload 1 dX9_init_108 rfl ?_
      refine wc_isA (wr_V dX9_init_110 mX9_36 (sp_get halN hy') hglN rfl rfl rfl (Nat.le_of_ble_eq_true rfl)) ?_
      refine wa_castS dX9_init_113 q913 hob' rfl ?_
      refine wa_iload 0 dX9_init_116 rfl ?_
      refine wc_isI (wr_V dX9_init_118 mX9_60 (sp_cellAhead hrp' hrn' (by omega)) hob' rfl rfl rfl (Nat.le_of_ble_eq_true rfl)) ?_
      refine wa_iadd dX9_init_121 ?_
      rw [e64]
      refine wa_iload 1 dX9_init_122 rfl ?_
      refine wa_iconst (1) dX9_init_124 (by decide) ?_
      refine wa_iadd dX9_init_125 ?_
      rw [show nI i + 1 = nI (i + 1) from nI_1 i]
      refine wa_iast dX9_init_126 hrv (vp_in_nI (by omega) (by omega)) ?_
      rw [nI_clamp (by omega)]
      refine wa_iinc 0 [(5, _), (4, _), (0, _), (1, _), (2, _)] dX9_init_127 rfl (w_inc j) (Nat.le_of_ble_eq_true rfl) rfl ?_
      refine wa_goto 82 dX9_init_130 rfl ?_
      refine wa_locals [(5, _), (4, _), (0, _), (1, _), (2, _)] [0, 1, 2, 3, 4] rfl ?_
      refine ih (j + 1) _ (upd f (64 * j + z_ahead r' j) (nI (i + 1))) (by omega) (hfr.setN (Nat.le_refl _)) (w_sne hpN (by omega)) (w_sne h31 (by omega)) (w_set_self hrv) (fun t q ht hq => ?_)
      by_cases e : t = j ∧ z_ahead r' t = q
      · obtain ⟨e1, e2⟩ := e
        subst e1
        subst e2
        rw [if_pos ⟨Nat.lt_succ_self _, rfl⟩]
        exact if_pos rfl
      · rw [show upd f (64 * j + z_ahead r' j) (nI (i + 1)) (64 * t + q) = f (64 * t + q) from if_neg (fun z => e (by obtain ⟨e1, e2⟩ := z_cellIx (by omega) hq z; subst e1; exact ⟨rfl, e2.symm⟩)), hf t q ht hq]
        congr 1
        by_cases e2 : z_ahead r' t = q
        · have : ¬ t = j := fun z => e ⟨z, e2⟩
          by_cases e3 : t < j
          · rw [if_pos ⟨e3, e2⟩, if_pos ⟨by omega, e2⟩]
          · rw [if_neg (fun z => e3 z.1), if_neg (fun z => by omega)]
        · rw [if_neg (fun z => e2 z.2), if_neg (fun z => e2 z.2)]
  have LO : ∀ (n i : Nat) (N : w_M) (f : Nat → Int32), i + n = (z_robs c).length → w_fr M N (fun q => q = p0) → N.get p0 = some (.inr (8, [.ref a, .int (nI k), .int (nI (z_cell r)), .int (nI g), .int (nI H), .ref M.sz, .ref (M.sz + 1)])) → N.get (M.sz + 1) = some (.inl (.long, 31, .inr (.inl (fun _ => 0)))) → N.get M.sz = some (.inl (.int, 1984, .inl f)) → (∀ t q, t ≤ 30 → q < 64 → f (64 * t + q) = nI (z_lastN c k t q i)) → w_A l G tX9_init (4, 2, 2015) X 2 2015 N 67 [(4, .int (nI i)), (0, .ref p0), (1, .ref a), (2, .int (nI k))] [] (w_rV (fun N => z_pl N p0 a M.sz (M.sz + 1) c k (z_cell r) g H ∧ N.get (M.sz + 1) = some (.inl (.long, 31, .inr (.inl (fun _ => 0)))) ∧ w_fr M N (fun q => q = p0))) := by
    intro n
    induction n with
    | zero =>
      intro i N f hin hfr hpN h31 hrv hf
      have hcN := h.keep (W := fun q => q = p0) hfr hPp hr0
      have hgN := hcN.2.1
      have halN := hcN.2.2.2.2.1
      have hglN := halN.choose_spec.1
      refine wa_iload 0 dX9_init_67 rfl ?_
      refine wa_aload_n 2 dX9_init_69 rfl rfl ?_
      refine wa_getf dX9_init_70 gX9_30 hgN rfl ?_
      refine wc_isI (wr_V dX9_init_73 mX9_56 (sp_size halN) hglN rfl rfl rfl (Nat.le_of_ble_eq_true rfl)) ?_
      refine wa_icmp_ge 139 dX9_init_76 rfl (fun c76 => ?_) (fun c76 => absurd (nI_le (by omega) (by omega)) c76)
      refine wa_vret dX9_init_139 rfl (Nat.le_of_ble_eq_true rfl) (Nat.le_of_ble_eq_true rfl) ?_
      have ei : i = (z_robs c).length := by omega
      subst ei
      exact ⟨rfl, ⟨hpN, f, hrv, hf⟩, h31, hfr⟩
    | succ n ih =>
      intro i N f hin hfr hpN h31 hrv hf
      have hcN := h.keep (W := fun q => q = p0) hfr hPp hr0
      have hgN := hcN.2.1
      have halN := hcN.2.2.2.2.1
      have hglN := halN.choose_spec.1
      obtain ⟨r', hr'⟩ : ∃ r', (z_robs c)[i]? = some r' := ⟨_, List.getElem?_eq_getElem (by omega)⟩
      have K : ∀ (v : Int32) (N : w_M) (f : Nat → Int32), w_fr M N (fun q => q = p0) → N.get p0 = some (.inr (8, [.ref a, .int (nI k), .int (nI (z_cell r)), .int (nI g), .int (nI H), .ref M.sz, .ref (M.sz + 1)])) → N.get (M.sz + 1) = some (.inl (.long, 31, .inr (.inl (fun _ => 0)))) → N.get M.sz = some (.inl (.int, 1984, .inl f)) → (∀ t q, t ≤ 30 → q < 64 → f (64 * t + q) = nI (z_lastN c k t q (i + 1))) → w_A l G tX9_init (4, 2, 2015) X 2 2015 N 133 [(5, .int v), (4, .int (nI i)), (0, .ref p0), (1, .ref a), (2, .int (nI k))] [] (w_rV (fun N => z_pl N p0 a M.sz (M.sz + 1) c k (z_cell r) g H ∧ N.get (M.sz + 1) = some (.inl (.long, 31, .inr (.inl (fun _ => 0)))) ∧ w_fr M N (fun q => q = p0))) := by
        intro v N f hfr hpN h31 hrv hf
        refine wa_iinc 1 [(4, _), (5, _), (0, _), (1, _), (2, _)] dX9_init_133 rfl (w_inc i) (Nat.le_of_ble_eq_true rfl) rfl ?_
        refine wa_goto 67 dX9_init_136 rfl ?_
        refine wa_locals [(4, _), (0, _), (1, _), (2, _)] [0, 2, 3, 4] rfl ?_
        exact ih (i + 1) N f (by omega) hfr hpN h31 hrv hf
      refine wa_iload 0 dX9_init_67 rfl ?_
      refine wa_aload_n 2 dX9_init_69 rfl rfl ?_
      refine wa_getf dX9_init_70 gX9_30 hgN rfl ?_
      refine wc_isI (wr_V dX9_init_73 mX9_56 (sp_size halN) hglN rfl rfl rfl (Nat.le_of_ble_eq_true rfl)) ?_
      refine wa_icmp_ge 139 dX9_init_76 rfl (fun c76 => absurd c76 (nI_lt_not (by omega) (by omega))) (fun c76 => ?_)
      refine wa_iconst (0) dX9_init_79 (by decide) ?_
      refine wa_istore [(5, _), (4, _), (0, _), (1, _), (2, _)] dX9_init_80 (Nat.le_of_ble_eq_true rfl) rfl ?_
      refine wa_locals [(5, _), (4, _), (0, _), (1, _), (2, _)] [0, 1, 2, 3, 4] rfl ?_
      by_cases hik : i = k
      · subst hik
        refine wa_iload 0 dX9_init_82 rfl ?_
        refine wa_bipush (30) dX9_init_84 (by decide) ?_
        refine wa_icmp_gt 133 dX9_init_86 rfl (fun c86 => absurd c86 (by decide)) (fun c86 => ?_)
        refine wa_iload 1 dX9_init_89 rfl ?_
        refine wa_iload_n 4 dX9_init_91 rfl rfl ?_
        refine wa_icmp_eq 133 dX9_init_92 rfl (fun c92 => ?_) (fun c92 => absurd rfl c92)
        refine K _ N f hfr hpN h31 hrv (fun t q ht hq => ?_)
        rw [hf t q ht hq, z_lastN, if_neg (fun z => z.1 rfl)]
      · refine LI i (by omega) hik r' hr' K 31 0 N f (by omega) hfr hpN h31 hrv (fun t q ht hq => ?_)
        rw [hf t q ht hq, if_neg (fun z => by omega)]
  refine wa_aload_n 0 dX9_init_0 rfl rfl ?_
  refine wa_objInit dX9_init_1 q911 rfl (Nat.le_of_ble_eq_true rfl) ?_
  refine wa_aload_n 0 dX9_init_4 rfl rfl ?_
  refine wa_sipush (1984) dX9_init_5 (by decide) ?_
  refine wa_newi (1984) dX9_init_8 q160 rfl (by decide) (Nat.le_of_ble_eq_true rfl) (Nat.le_of_ble_eq_true rfl) ?_
  refine wa_putF [_, _, _, _, _, _, _] dX9_init_10 rfl pX9_9 (w_push_old hp0) (Nat.le_of_ble_eq_true rfl) rfl rfl rfl ?_
  have g1 := w_set_self (e := .inr (8, [.null, .int 0, .int 0, .int 0, .int 0, .ref M.sz, .null])) (w_push_old (e := .inl (.int, 1984, .inl (fun _ => 0))) hp0)
  refine wa_aload_n 0 dX9_init_13 rfl rfl ?_
  refine wa_bipush (31) dX9_init_14 (by decide) ?_
  refine wa_newl (31) dX9_init_16 q938 rfl (by decide) (Nat.le_of_ble_eq_true rfl) (Nat.le_of_ble_eq_true rfl) ?_
  refine wa_putF [_, _, _, _, _, _, _] dX9_init_18 rfl pX9_15 (w_push_old g1) (Nat.le_of_ble_eq_true rfl) rfl rfl rfl ?_
  rw [show ((M.push (.inl (.int, 1984, .inl (fun _ => 0)))).set p0 (.inr (8, [.null, .int 0, .int 0, .int 0, .int 0, .ref M.sz, .null]))).sz = M.sz + 1 from rfl]
  have g2 := w_set_self (e := .inr (8, [.null, .int 0, .int 0, .int 0, .int 0, .ref M.sz, .ref (M.sz + 1)])) (w_push_old (e := .inl (.long, 31, .inr (.inl (fun _ => 0)))) g1)
  refine wa_aload_n 0 dX9_init_21 rfl rfl ?_
  refine wa_aload_n 1 dX9_init_22 rfl rfl ?_
  refine wa_putF [_, _, _, _, _, _, _] dX9_init_23 rfl pX9_19 g2 (Nat.le_of_ble_eq_true rfl) rfl rfl rfl ?_
  rw [w_set_set]
  have g3 := w_set_self (e := .inr (8, [.ref a, .int 0, .int 0, .int 0, .int 0, .ref M.sz, .ref (M.sz + 1)])) (w_push_old (e := .inl (.long, 31, .inr (.inl (fun _ => 0)))) g1)
  refine wa_aload_n 0 dX9_init_26 rfl rfl ?_
  refine wa_iload_n 2 dX9_init_27 rfl rfl ?_
  refine wa_putF [_, _, _, _, _, _, _] dX9_init_28 rfl pX9_23 g3 (Nat.le_of_ble_eq_true rfl) rfl rfl rfl ?_
  rw [w_set_set]
  have g4 := w_set_self (e := .inr (8, [.ref a, .int (nI k), .int 0, .int 0, .int 0, .ref M.sz, .ref (M.sz + 1)])) (w_push_old (e := .inl (.long, 31, .inr (.inl (fun _ => 0)))) g1)
  refine wa_aload_n 0 dX9_init_31 rfl rfl ?_
  refine wa_iload_n 3 dX9_init_32 rfl rfl ?_
  refine wa_putF [_, _, _, _, _, _, _] dX9_init_33 rfl pX9_27 g4 (Nat.le_of_ble_eq_true rfl) rfl rfl rfl ?_
  rw [w_set_set]
  have g5 := w_set_self (e := .inr (8, [.ref a, .int (nI k), .int 0, .int (nI g), .int 0, .ref M.sz, .ref (M.sz + 1)])) (w_push_old (e := .inl (.long, 31, .inr (.inl (fun _ => 0)))) g1)
  have f0 : w_fr M ((M.push (.inl (.int, 1984, .inl (fun _ => 0)))).set p0 (.inr (8, [.null, .int 0, .int 0, .int 0, .int 0, .ref M.sz, .null]))) (fun q => q = p0) := w_fr.set (W := fun q => q = p0) w_fr.rf.push rfl
  have f5 := w_fr.set (W := fun q => q = p0) (a := p0) (e := .inr (8, [.ref a, .int (nI k), .int 0, .int (nI g), .int 0, .ref M.sz, .ref (M.sz + 1)])) (f0.push (e := .inl (.long, 31, .inr (.inl (fun _ => 0))))) rfl
  refine wa_aload_n 0 dX9_init_36 rfl rfl ?_
  refine wa_aload_n 1 dX9_init_37 rfl rfl ?_
  refine wa_getf dX9_init_38 gX9_30 (f5.2 _ _ hg (hPp _ h.1.1)) rfl ?_
  refine wa_iload_n 2 dX9_init_41 rfl rfl ?_
  refine wc_isA (wr_V dX9_init_42 mX9_36 (sp_get (h.keep (W := fun q => q = p0) f5 hPp hr0).2.2.2.2.1 hy) (f5.2 _ _ hgl (hPp _ h.1.2.2.1)) rfl rfl rfl (Nat.le_of_ble_eq_true rfl)) ?_
  refine wa_castS dX9_init_45 q913 (f5.2 _ _ hob (hPp _ hpy.1)) rfl ?_
  refine wa_getf dX9_init_48 gX9_44 (f5.2 _ _ hob (hPp _ hpy.1)) rfl ?_
  refine wa_putF [_, _, _, _, _, _, _] dX9_init_51 rfl pX9_47 g5 (Nat.le_of_ble_eq_true rfl) rfl rfl rfl ?_
  rw [w_set_set]
  have g6 := w_set_self (e := .inr (8, [.ref a, .int (nI k), .int (nI (z_cell r)), .int (nI g), .int 0, .ref M.sz, .ref (M.sz + 1)])) (w_push_old (e := .inl (.long, 31, .inr (.inl (fun _ => 0)))) g1)
  have f6 := w_fr.set (W := fun q => q = p0) (a := p0) (e := .inr (8, [.ref a, .int (nI k), .int (nI (z_cell r)), .int (nI g), .int 0, .ref M.sz, .ref (M.sz + 1)])) (f0.push (e := .inl (.long, 31, .inr (.inl (fun _ => 0))))) rfl
  refine wa_aload_n 0 dX9_init_54 rfl rfl ?_
  refine wa_aload_n 1 dX9_init_55 rfl rfl ?_
  refine wa_getf dX9_init_56 gX9_50 (f6.2 _ _ hg (hPp _ h.1.1)) rfl ?_
  refine wa_iconst (2) dX9_init_59 (by decide) ?_
  refine wa_iald dX9_init_60 (f6.2 _ _ hs1 (hPp _ h.1.2.2.2.2.1)) (vp_in_nI (n := 2) (by decide) (by decide)) ?_
  rw [show sf (Int32.toNatClampNeg 2) = z_sets c 2 from hs2 2 (by decide), hH]
  refine wa_putF [_, _, _, _, _, _, _] dX9_init_61 rfl pX9_53 g6 (Nat.le_of_ble_eq_true rfl) rfl rfl rfl ?_
  rw [w_set_set]
  refine wa_iconst (0) dX9_init_64 (by decide) ?_
  refine wa_istore [(4, _), (0, _), (1, _), (2, _), (3, _)] dX9_init_65 (Nat.le_of_ble_eq_true rfl) rfl ?_
  refine wa_locals [(4, _), (0, _), (1, _), (2, _)] [0, 1, 2, 3] rfl ?_
  refine LO (z_robs c).length 0 _ (fun _ => 0) (by omega) (w_fr.set (W := fun q => q = p0) (f0.push (e := .inl (.long, 31, .inr (.inl (fun _ => 0))))) rfl) (w_set_self (w_push_old g1)) (w_sne w_push_self (by show M.sz + 1 ≠ p0; omega)) (w_sne (w_push_old (w_sne w_push_self (by omega))) (by omega)) (fun t q _ _ => rfl)
theorem z_trail_lt (hs : z_small c) {s T : Nat} : ∀ (n t p : Nat), p < z_size c → ∀ q ∈ z_trail c k s g T n t p, q < z_size c := by
  intro n
  induction n with
  | zero => intro t p _ q hq; cases hq
  | succ n ih =>
    intro t p hp q hq
    rw [z_trail] at hq
    cases hx : z_next c k t p (z_gd c k s g T (T - (t + 1))) with
    | none => rw [hx] at hq; cases hq
    | some x =>
      rw [hx] at hq
      obtain ⟨-, -, v, -, -, h5⟩ := z_nextW_some _ _ _ hx
      have hxl := z_by_lt hs hp h5
      rcases List.mem_cons.mp hq with rfl | hq
      · exact hxl
      · exact ih (t + 1) x hxl q hq
theorem z_postN2 {N : w_M} {res : z_res} {rs dt : Int32} (hf : w_fr M N (fun q => s0 ≤ q)) (h : res = .inr (rs, dt)) : z_post G P s0 a M res (.inr ("RobotAisles$RefusedException", N.sz)) (N.push (.inr (7, [.null, .null, .null, .null, .null, .int 0, .int rs, .int dt]))) := by
  rw [h]
  exact ⟨hf.push, _, rfl, w_push_self⟩
theorem sp_C_plan (h : z_coreL G M P a kd rl ol sg ra oa ras oas c) (hs : z_small c) (ho : z_own G s0 a rl ol sg ra oa ras oas) (hP : ∀ q, s0 ≤ q → P q) (hsz0 : s0 ≤ M.sz) (hH : z_sets c 2 = nI (z_hor c)) (hH30 : z_hor c ≤ 30) {x x2 : Int32} : w_S l G tX2_plan (7, 6, 2091) [.ref a, .int x, .int x2] M (z_post G P s0 a M (z_planC c x x2)) := by
  have hg := h.2.1
  have hal : w_AL G M rl ra ras := h.2.2.2.2.1
  have hgl := hal.choose_spec.1
  have hlen : ras.length = (z_robs c).length := h.2.2.2.2.2.2.1
  have h6 : (z_robs c).length ≤ 6 := hs.2.2.2.2.1
  have hsz := hs.size
  obtain ⟨n1, n2, n3⟩ := z_idxL hs
  refine w_start (by decide) (Nat.le_of_ble_eq_true rfl) (fun X => ?_)
  refine wa_locals [(0, _), (1, _), (2, _)] [0, 1, 2] rfl ?_
  refine wa_aload_n 0 dX2_plan_0 rfl rfl ?_
  refine wa_iload_n 1 dX2_plan_1 rfl rfl ?_
  refine wc_isI (wr_V dX2_plan_2 mX2_114 (sp_hasRobot h hs) hg rfl rfl rfl (Nat.le_of_ble_eq_true rfl)) ?_
  refine wa_if_eq 16 dX2_plan_5 rfl (fun c5 => ?_) (fun c5 => ?_)
  ·
    have i1 := z_not c5
    refine wa_iconst (1) dX2_plan_16 (by decide) ?_
    refine wa_goto 21 dX2_plan_17 rfl ?_
    refine wa_iconst (1) dX2_plan_21 (by decide) ?_
    refine wc_isx (wr_S dX2_plan_22 mX2_105 sp_refuse2T rfl rfl rfl (Nat.le_of_ble_eq_true rfl)) ?_
    exact wx_out (fun _ h => by cases h) (Nat.le_of_ble_eq_true rfl) (Nat.le_of_ble_eq_true rfl) (z_postN (by simp only [z_planC, i1]))
  ·
    obtain ⟨k, i1, hk, rfl⟩ := z_yes n1 c5
    refine wa_aload_n 0 dX2_plan_8 rfl rfl ?_
    refine wa_iload_n 2 dX2_plan_9 rfl rfl ?_
    refine wc_isI (wr_V dX2_plan_10 mX2_102 (sp_hasCell h hs) hg rfl rfl rfl (Nat.le_of_ble_eq_true rfl)) ?_
    refine wa_if_ne 20 dX2_plan_13 rfl (fun c13 => ?_) (fun c13 => ?_)
    ·
      obtain ⟨g, i2, hgs, rfl⟩ := z_yes n3 c13
      obtain ⟨r, hr⟩ : ∃ r, (z_robs c)[k]? = some r := ⟨_, List.getElem?_eq_getElem hk⟩
      obtain ⟨y, hy, pv, hrp, hrn⟩ := z_robAt h hr
      obtain ⟨dn, hpy, hob, hrest⟩ := id hrp
      have hsm := hs.2.2.2.2.2.2.1 r (List.mem_of_getElem? hr)
      have hcs := hsm.1
      refine wa_iconst (0) dX2_plan_20 (by decide) ?_
      refine wa_iconst (1) dX2_plan_21 (by decide) ?_
      refine wc_isV (wr_S dX2_plan_22 mX2_105 sp_refuse2N rfl rfl rfl (Nat.le_of_ble_eq_true rfl)) ?_
      refine wa_aload_n 0 dX2_plan_25 rfl rfl ?_
      refine wa_getf dX2_plan_26 gX2_12 hg rfl ?_
      refine wa_iload_n 1 dX2_plan_29 rfl rfl ?_
      refine wc_isA (wr_V dX2_plan_30 mX2_42 (sp_get hal hy) hgl rfl rfl rfl (Nat.le_of_ble_eq_true rfl)) ?_
      refine wa_castS dX2_plan_33 q259 hob rfl ?_
      refine wa_astore_n [(3, _), (0, _), (1, _), (2, _)] dX2_plan_36 rfl (Nat.le_of_ble_eq_true rfl) rfl ?_
      cases pv with
      | some p =>
        have i3 : ¬ z_plan r = [] := fun q => by have := hrn.mpr q; cases this
        have hpl := sp_hasPlan (l := l) (G := G) hrp
        rw [if_neg (show ¬ (some p : Option Nat) = none from fun q => by cases q)] at hpl
        refine wa_aload_n 0 dX2_plan_37 rfl rfl ?_
        refine wc_isI (wr_V dX2_plan_38 mX2_144 hpl hob rfl rfl rfl (Nat.le_of_ble_eq_true rfl)) ?_
        refine wa_bipush (6) dX2_plan_41 (by decide) ?_
        refine wa_aload_n 0 dX2_plan_43 rfl rfl ?_
        refine wc_isI (wr_V dX2_plan_44 mX2_148 (sp_ticksLeft hrp) hob rfl rfl rfl (Nat.le_of_ble_eq_true rfl)) ?_
        refine wc_isx (wr_S dX2_plan_47 mX2_98 sp_refuse3T rfl rfl rfl (Nat.le_of_ble_eq_true rfl)) ?_
        exact wx_out (fun _ h => by cases h) (Nat.le_of_ble_eq_true rfl) (Nat.le_of_ble_eq_true rfl) (z_postN (by simp only [z_planC, i1, i2, hr, if_neg i3]))
      | none =>
        have i3 : z_plan r = [] := hrn.mp rfl
        have hpl := sp_hasPlan (l := l) (G := G) hrp
        rw [if_pos rfl] at hpl
        refine wa_aload_n 0 dX2_plan_37 rfl rfl ?_
        refine wc_isI (wr_V dX2_plan_38 mX2_144 hpl hob rfl rfl rfl (Nat.le_of_ble_eq_true rfl)) ?_
        refine wa_bipush (6) dX2_plan_41 (by decide) ?_
        refine wa_aload_n 0 dX2_plan_43 rfl rfl ?_
        refine wc_isI (wr_V dX2_plan_44 mX2_148 (sp_ticksLeft hrp) hob rfl rfl rfl (Nat.le_of_ble_eq_true rfl)) ?_
        refine wc_isV (wr_S dX2_plan_47 mX2_98 sp_refuse3N rfl rfl rfl (Nat.le_of_ble_eq_true rfl)) ?_
        refine wa_aload_n 0 dX2_plan_50 rfl rfl ?_
        refine wa_getf dX2_plan_51 gX2_151 hob rfl ?_
        refine wa_iload_n 3 dX2_plan_54 rfl rfl ?_
        refine wa_icmp_ne 62 dX2_plan_55 rfl (fun c55 => ?_) (fun c55 => ?_)
        ·
          have i4 : ¬ z_cell r = g := fun z => c55 (by rw [z])
          refine wa_iconst (0) dX2_plan_62 (by decide) ?_
          refine wa_bipush (9) dX2_plan_63 (by decide) ?_
          refine wc_isV (wr_S dX2_plan_65 mX2_105 sp_refuse2N rfl rfl rfl (Nat.le_of_ble_eq_true rfl)) ?_
          refine wa_aload_n 1 dX2_plan_68 rfl rfl ?_
          refine wa_iload_n 3 dX2_plan_69 rfl rfl ?_
          refine wc_isI (wr_V dX2_plan_70 mX2_83 (sp_isFree h hs hgs) hg rfl rfl rfl (Nat.le_of_ble_eq_true rfl)) ?_
          refine wa_if_ne 80 dX2_plan_73 rfl (fun c73 => ?_) (fun c73 => ?_)
          ·
            have i5 := z_y c73
            refine wa_iconst (0) dX2_plan_80 (by decide) ?_
            refine wa_iconst (4) dX2_plan_81 (by decide) ?_
            refine wa_iload_n 3 dX2_plan_82 rfl rfl ?_
            refine wc_isV (wr_S dX2_plan_83 mX2_98 sp_refuse3N rfl rfl rfl (Nat.le_of_ble_eq_true rfl)) ?_
            refine wa_new dX2_plan_86 nX2_154 (Nat.le_of_ble_eq_true rfl) (Nat.le_of_ble_eq_true rfl) ?_
            refine wa_dup dX2_plan_89 rfl ?_
            refine wa_aload_n 1 dX2_plan_90 rfl rfl ?_
            refine wa_iload_n 2 dX2_plan_91 rfl rfl ?_
            refine wa_iload_n 3 dX2_plan_92 rfl rfl ?_
            refine wa_lo (fun lo hd => ?_)
            have hr0 : ¬ w_ad G 0 = M.sz := fun q => hd _ (by rw [q]; exact w_push_self)
            have hPp : ∀ q, (P q ∧ q < M.sz) → ¬ q = M.sz := fun q z e => by omega
            have h1 : z_coreL G (M.push (.inr (8, [.null, .int 0, .int 0, .int 0, .int 0, .null, .null]))) (fun q => P q ∧ q < M.sz) a kd rl ol sg ra oa ras oas c := (h.mono (P' := fun q => P q ∧ q < M.sz) (fun q z1 z2 => ⟨z2, z1⟩)).keep (W := fun _ => False) w_fr.rf.push (fun _ _ z => z) (fun z => z)
            refine wc_V (wr_I dX2_plan_93 mX2_156 (sp_P_init h1 hs hr hH w_push_self hPp) rfl rfl rfl (Nat.le_of_ble_eq_true rfl)) (fun M93 h93 => ?_)
            have hc93 := h1.keep (W := fun q => q = M.sz) h93.2.2 hPp hr0
            have hPr : ∀ q, (P q ∧ q < M.sz) → ¬ q = M.sz + 1 + 1 := fun q z e => by omega
            have hpa := sp_path (l := l) h93.1 hc93 hs h93.2.1 hPr hcs hgs hH30
            have hp93 := h93.1.1
            cases hfi : z_first c k (z_cell r) g (z_hor c) 0 with
            | none =>
              have hpn : w_S l G tX9_path (6, 2, 61) [.ref M.sz] M93 (w_rN (fun N => w_fr M93 N (fun q => q = M.sz + 1 + 1))) := hpa.mono (fun o N z => by obtain ⟨z1, z2⟩ := z; rw [hfi] at z2; exact ⟨z2, z1⟩)
              refine wc_N (wr_V dX2_plan_96 mX2_159 hpn hp93 rfl rfl rfl (Nat.le_of_ble_eq_true rfl)) (fun M96 h96 => ?_)
              have hfN : w_fr M M96 (fun _ => False) := z_frN (z_frN w_fr.rf (w_fr.trans (w_fr.rf.push (e := .inr (8, [.null, .int 0, .int 0, .int 0, .int 0, .null, .null]))) (h93.2.2.mono (W' := fun q => M.sz ≤ q) (fun q _ e => by rw [e]; exact Nat.le_refl _)))) (h96.mono (W' := fun q => M.sz ≤ q) (fun q _ e => by rw [e]; show M.sz ≤ M.sz + 1 + 1; omega))
              have hfS : w_fr M M96 (fun q => s0 ≤ q) := hfN.mono (fun _ _ z => z.elim)
              have hcN := h.keep (W := fun _ => False) hfN (fun _ _ z => z) (fun z => z)
              have hgN := hcN.2.1
              have hobN := hfN.2 _ _ hob id
              refine wa_astoreN [(4, _), (3, _), (0, _), (1, _), (2, _)] dX2_plan_99 (Nat.le_of_ble_eq_true rfl) rfl ?_
              refine wa_aloadN 0 dX2_plan_101 rfl ?_
              refine wa_ifnonnullN dX2_plan_103 ?_
              refine wa_iconst (1) dX2_plan_106 (by decide) ?_
              refine wa_goto 111 dX2_plan_107 rfl ?_
              refine wa_bipush (10) dX2_plan_111 (by decide) ?_
              refine wc_isx (wr_S dX2_plan_113 mX2_105 sp_refuse2T rfl rfl rfl (Nat.le_of_ble_eq_true rfl)) ?_
              exact wx_out (fun _ h => by cases h) (Nat.le_of_ble_eq_true rfl) (Nat.le_of_ble_eq_true rfl) (z_postN2 hfS (by simp only [z_planC, i1, i2, hr, if_pos i3, if_neg i4, if_pos i5, hfi]))
            | some u =>
              obtain ⟨-, hu, hend, -⟩ := z_first_at _ 0 u hfi
              have hgd := z_gd_start (c := c) (k := k) (s := z_cell r) (g := g) (T := u + 1) (by omega) hend
              have htl : (z_trail c k (z_cell r) g (u + 1) (u + 1) 0 (z_cell r)).length = u + 1 := z_trail_len _ _ _ (by omega) hgd
              have htlt := z_trail_lt hs (k := k) (g := g) (s := z_cell r) (T := u + 1) (u + 1) 0 (z_cell r) hcs
              have hpn : w_S l G tX9_path (6, 2, 61) [.ref M.sz] M93 (w_rA (fun x N => w_fr M93 N (fun q => q = M.sz + 1 + 1) ∧ M93.sz ≤ x ∧ ∃ f : Nat → Int32, N.get x = some (.inl (.int, u + 1, .inl f)) ∧ ∀ i q, (z_trail c k (z_cell r) g (u + 1) (u + 1) 0 (z_cell r))[i]? = some q → f i = nI q)) := hpa.mono (fun o N z => by obtain ⟨z1, z2⟩ := z; rw [hfi] at z2; obtain ⟨x, f, e1, e2, e3, e4⟩ := z2; exact ⟨x, e1, z1, e2, f, e3, e4⟩)
              refine wc_A (wr_V dX2_plan_96 mX2_159 hpn hp93 rfl rfl rfl (Nat.le_of_ble_eq_true rfl)) (fun r96 M96 h96 => ?_)
              obtain ⟨hf96, hx0, f, hx1, hx2⟩ := h96
              have hfN : w_fr M M96 (fun _ => False) := z_frN (z_frN w_fr.rf (w_fr.trans (w_fr.rf.push (e := .inr (8, [.null, .int 0, .int 0, .int 0, .int 0, .null, .null]))) (h93.2.2.mono (W' := fun q => M.sz ≤ q) (fun q _ e => by rw [e]; exact Nat.le_refl _)))) (hf96.mono (W' := fun q => M.sz ≤ q) (fun q _ e => by rw [e]; show M.sz ≤ M.sz + 1 + 1; omega))
              have hfS : w_fr M M96 (fun q => s0 ≤ q) := hfN.mono (fun _ _ z => z.elim)
              have hcN := h.keep (W := fun _ => False) hfN (fun _ _ z => z) (fun z => z)
              have hgN := hcN.2.1
              have hobN := hfN.2 _ _ hob id
              obtain ⟨sf, hs1, hs2⟩ := hcN.2.2.2.1
              have hxM : M.sz ≤ r96 := Nat.le_trans (Nat.le_trans (Nat.le_succ _) h93.2.2.1) hx0
              have hry : r96 ≠ y := (w_neA hobN hx1).symm
              refine wa_astore [(4, _), (3, _), (0, _), (1, _), (2, _)] dX2_plan_99 (Nat.le_of_ble_eq_true rfl) rfl ?_
              refine wa_aload 0 dX2_plan_101 rfl ?_
              refine wa_ifnonnull 110 dX2_plan_103 rfl ?_
              refine wa_iconst (0) dX2_plan_110 (by decide) ?_
              refine wa_bipush (10) dX2_plan_111 (by decide) ?_
              refine wc_isV (wr_S dX2_plan_113 mX2_105 sp_refuse2N rfl rfl rfl (Nat.le_of_ble_eq_true rfl)) ?_
              refine wa_aload_n 2 dX2_plan_116 rfl rfl ?_
              refine wa_iload_n 3 dX2_plan_117 rfl rfl ?_
              refine wc_isI (wr_V dX2_plan_118 mX2_163 (sp_isLoaded hcN hs hr) hgN rfl rfl rfl (Nat.le_of_ble_eq_true rfl)) ?_
              refine wa_if_eq 133 dX2_plan_121 rfl (fun c121 => ?_) (fun c121 => ?_)
              ·
                have i6 := z_n c121
                refine wa_iconst (1) dX2_plan_133 (by decide) ?_
                refine wa_istore [(5, _), (4, _), (3, _), (0, _), (1, _), (2, _)] dX2_plan_134 (Nat.le_of_ble_eq_true rfl) rfl ?_
                refine wa_iload 0 dX2_plan_136 rfl ?_
                refine wa_aload_n 2 dX2_plan_138 rfl rfl ?_
                refine wa_getf dX2_plan_139 gX2_151 hobN rfl ?_
                refine wa_aload 1 dX2_plan_142 rfl ?_
                refine wc_isI (wr_S dX2_plan_144 mX2_166 (sp_stepsOf hx1 (by omega) htl (by omega) (fun i q hq => ⟨hx2 i q hq, by have := htlt q (List.mem_of_getElem? hq); omega⟩)) rfl rfl rfl (Nat.le_of_ble_eq_true rfl)) ?_
                refine wa_imul dX2_plan_147 ?_
                refine wa_istore [(6, _), (5, _), (4, _), (3, _), (0, _), (1, _), (2, _)] dX2_plan_148 (Nat.le_of_ble_eq_true rfl) rfl ?_
                refine wa_aload_n 3 dX2_plan_150 rfl rfl ?_
                refine wa_getf dX2_plan_151 gX2_170 hobN rfl ?_
                refine wa_iload 0 dX2_plan_154 rfl ?_
                refine wa_icmp_ge 163 dX2_plan_156 rfl (fun c156 => ?_) (fun c156 => ?_)
                ·
                  have i7 := Int32.not_lt.mpr c156
                  refine wa_iconst (0) dX2_plan_163 (by decide) ?_
                  refine wa_bipush (11) dX2_plan_164 (by decide) ?_
                  refine wa_iload 0 dX2_plan_166 rfl ?_
                  refine wc_isV (wr_S dX2_plan_168 mX2_98 sp_refuse3N rfl rfl rfl (Nat.le_of_ble_eq_true rfl)) ?_
                  refine wa_aload_n 3 dX2_plan_171 rfl rfl ?_
                  refine wa_aload 2 dX2_plan_172 rfl ?_
                  refine wa_putf [_, _, _, _, _, _, _] dX2_plan_174 pX2_173 hobN (Nat.le_of_ble_eq_true rfl) rfl rfl rfl ?_
                  have o1 := w_set_self (e := .inr (5, [.int (nI (z_cell r)), .int (z_batt r), .int (z_enc (z_has r)), .int (z_steps r), .ref r96, .int dn, .int (z_cost r)])) hobN
                  refine wa_aload_n 3 dX2_plan_177 rfl rfl ?_
                  refine wa_iconst (0) dX2_plan_178 (by decide) ?_
                  refine wa_putf [_, _, _, _, _, _, _] dX2_plan_179 pX2_175 o1 (Nat.le_of_ble_eq_true rfl) rfl rfl rfl ?_
                  rw [w_set_set]
                  have o2 := w_set_self (e := .inr (5, [.int (nI (z_cell r)), .int (z_batt r), .int (z_enc (z_has r)), .int (z_steps r), .ref r96, .int 0, .int (z_cost r)])) hobN
                  refine wa_aload_n 3 dX2_plan_182 rfl rfl ?_
                  refine wa_iload 1 dX2_plan_183 rfl ?_
                  refine wa_putf [_, _, _, _, _, _, _] dX2_plan_185 pX2_178 o2 (Nat.le_of_ble_eq_true rfl) rfl rfl rfl ?_
                  rw [w_set_set]
                  have hW : (if z_loaded c r = true then z_sets c 1 else 1) = 1 := if_neg i6
                  have o3 := w_set_self (e := .inr (5, [.int (nI (z_cell r)), .int (z_batt r), .int (z_enc (z_has r)), .int (z_steps r), .ref r96, .int 0, .int 1])) hobN
                  have hx3 : (M96.set y (.inr (5, [.int (nI (z_cell r)), .int (z_batt r), .int (z_enc (z_has r)), .int (z_steps r), .ref r96, .int 0, .int 1]))).get r96 = _ := w_sne hx1 hry
                  have hrr : z_robP (M96.set y (.inr (5, [.int (nI (z_cell r)), .int (z_batt r), .int (z_enc (z_has r)), .int (z_steps r), .ref r96, .int 0, .int 1]))) (fun q => P q ∧ q ≠ sg) y (z_planR r (z_trail c k (z_cell r) g (u + 1) (u + 1) 0 (z_cell r)) 1) (some r96) := ⟨0, hpy, o3, ⟨hP _ (Nat.le_trans hsz0 hxM), fun e => by obtain ⟨sf, q1, _⟩ := h.2.2.2.1; have := w_lt q1; omega⟩, u + 1, 0, f, hx3, rfl, Nat.zero_le _, by omega, htl, fun i q hq => by rw [Nat.zero_add]; exact hx2 i q hq⟩
                  have hc := hcN.setRob hy w_fr_me ⟨some r96, hrr, ⟨fun z => (by cases z), fun z => by have := congrArg List.length z; rw [show (z_plan (z_planR r (z_trail c k (z_cell r) g (u + 1) (u + 1) 0 (z_cell r)) 1)).length = u + 1 from htl] at this; cases this⟩⟩
                  refine wa_aload 2 dX2_plan_188 rfl ?_
                  refine wa_alen 0 dX2_plan_190 hx3 rfl ?_
                  refine wa_iret FieldType.int dX2_plan_191 rfl rfl (Nat.le_of_ble_eq_true rfl) (Nat.le_of_ble_eq_true rfl) ?_
                  exact z_postY (r := nI (u + 1)) (by simp only [z_planC, i1, i2, hr, if_pos i3, if_neg i4, if_pos i5, hfi, if_neg i6, if_neg i7]) (hfS.trans (z_fr1 w_fr_me (ho.2.2.2.2.2.2.1 y (List.mem_of_getElem? hy)))) ⟨_, _, _, _, _, _, _, _, hc⟩ rfl
                ·
                  have i7 := Int32.not_le.mp c156
                  refine wa_iconst (1) dX2_plan_159 (by decide) ?_
                  refine wa_goto 164 dX2_plan_160 rfl ?_
                  refine wa_bipush (11) dX2_plan_164 (by decide) ?_
                  refine wa_iload 0 dX2_plan_166 rfl ?_
                  refine wc_isx (wr_S dX2_plan_168 mX2_98 sp_refuse3T rfl rfl rfl (Nat.le_of_ble_eq_true rfl)) ?_
                  exact wx_out (fun _ h => by cases h) (Nat.le_of_ble_eq_true rfl) (Nat.le_of_ble_eq_true rfl) (z_postN2 hfS (by simp only [z_planC, i1, i2, hr, if_pos i3, if_neg i4, if_pos i5, hfi, if_neg i6, if_pos i7]))
              ·
                have i6 := z_y c121
                refine wa_aload_n 2 dX2_plan_124 rfl rfl ?_
                refine wa_getf dX2_plan_125 gX2_21 hgN rfl ?_
                refine wa_iconst (1) dX2_plan_128 (by decide) ?_
                refine wa_iald dX2_plan_129 hs1 (vp_in_nI (n := 1) (by decide) (by decide)) ?_
                rw [show sf (Int32.toNatClampNeg 1) = z_sets c 1 from hs2 1 (by decide)]
                refine wa_goto 134 dX2_plan_130 rfl ?_
                refine wa_istore [(5, _), (4, _), (3, _), (0, _), (1, _), (2, _)] dX2_plan_134 (Nat.le_of_ble_eq_true rfl) rfl ?_
                refine wa_iload 0 dX2_plan_136 rfl ?_
                refine wa_aload_n 2 dX2_plan_138 rfl rfl ?_
                refine wa_getf dX2_plan_139 gX2_151 hobN rfl ?_
                refine wa_aload 1 dX2_plan_142 rfl ?_
                refine wc_isI (wr_S dX2_plan_144 mX2_166 (sp_stepsOf hx1 (by omega) htl (by omega) (fun i q hq => ⟨hx2 i q hq, by have := htlt q (List.mem_of_getElem? hq); omega⟩)) rfl rfl rfl (Nat.le_of_ble_eq_true rfl)) ?_
                refine wa_imul dX2_plan_147 ?_
                refine wa_istore [(6, _), (5, _), (4, _), (3, _), (0, _), (1, _), (2, _)] dX2_plan_148 (Nat.le_of_ble_eq_true rfl) rfl ?_
                refine wa_aload_n 3 dX2_plan_150 rfl rfl ?_
                refine wa_getf dX2_plan_151 gX2_170 hobN rfl ?_
                refine wa_iload 0 dX2_plan_154 rfl ?_
                refine wa_icmp_ge 163 dX2_plan_156 rfl (fun c156 => ?_) (fun c156 => ?_)
                ·
                  have i7 := Int32.not_lt.mpr c156
                  refine wa_iconst (0) dX2_plan_163 (by decide) ?_
                  refine wa_bipush (11) dX2_plan_164 (by decide) ?_
                  refine wa_iload 0 dX2_plan_166 rfl ?_
                  refine wc_isV (wr_S dX2_plan_168 mX2_98 sp_refuse3N rfl rfl rfl (Nat.le_of_ble_eq_true rfl)) ?_
                  refine wa_aload_n 3 dX2_plan_171 rfl rfl ?_
                  refine wa_aload 2 dX2_plan_172 rfl ?_
                  refine wa_putf [_, _, _, _, _, _, _] dX2_plan_174 pX2_173 hobN (Nat.le_of_ble_eq_true rfl) rfl rfl rfl ?_
                  have o1 := w_set_self (e := .inr (5, [.int (nI (z_cell r)), .int (z_batt r), .int (z_enc (z_has r)), .int (z_steps r), .ref r96, .int dn, .int (z_cost r)])) hobN
                  refine wa_aload_n 3 dX2_plan_177 rfl rfl ?_
                  refine wa_iconst (0) dX2_plan_178 (by decide) ?_
                  refine wa_putf [_, _, _, _, _, _, _] dX2_plan_179 pX2_175 o1 (Nat.le_of_ble_eq_true rfl) rfl rfl rfl ?_
                  rw [w_set_set]
                  have o2 := w_set_self (e := .inr (5, [.int (nI (z_cell r)), .int (z_batt r), .int (z_enc (z_has r)), .int (z_steps r), .ref r96, .int 0, .int (z_cost r)])) hobN
                  refine wa_aload_n 3 dX2_plan_182 rfl rfl ?_
                  refine wa_iload 1 dX2_plan_183 rfl ?_
                  refine wa_putf [_, _, _, _, _, _, _] dX2_plan_185 pX2_178 o2 (Nat.le_of_ble_eq_true rfl) rfl rfl rfl ?_
                  rw [w_set_set]
                  have hW : (if z_loaded c r = true then z_sets c 1 else 1) = (z_sets c 1) := if_pos i6
                  have o3 := w_set_self (e := .inr (5, [.int (nI (z_cell r)), .int (z_batt r), .int (z_enc (z_has r)), .int (z_steps r), .ref r96, .int 0, .int (z_sets c 1)])) hobN
                  have hx3 : (M96.set y (.inr (5, [.int (nI (z_cell r)), .int (z_batt r), .int (z_enc (z_has r)), .int (z_steps r), .ref r96, .int 0, .int (z_sets c 1)]))).get r96 = _ := w_sne hx1 hry
                  have hrr : z_robP (M96.set y (.inr (5, [.int (nI (z_cell r)), .int (z_batt r), .int (z_enc (z_has r)), .int (z_steps r), .ref r96, .int 0, .int (z_sets c 1)]))) (fun q => P q ∧ q ≠ sg) y (z_planR r (z_trail c k (z_cell r) g (u + 1) (u + 1) 0 (z_cell r)) (z_sets c 1)) (some r96) := ⟨0, hpy, o3, ⟨hP _ (Nat.le_trans hsz0 hxM), fun e => by obtain ⟨sf, q1, _⟩ := h.2.2.2.1; have := w_lt q1; omega⟩, u + 1, 0, f, hx3, rfl, Nat.zero_le _, by omega, htl, fun i q hq => by rw [Nat.zero_add]; exact hx2 i q hq⟩
                  have hc := hcN.setRob hy w_fr_me ⟨some r96, hrr, ⟨fun z => (by cases z), fun z => by have := congrArg List.length z; rw [show (z_plan (z_planR r (z_trail c k (z_cell r) g (u + 1) (u + 1) 0 (z_cell r)) (z_sets c 1))).length = u + 1 from htl] at this; cases this⟩⟩
                  refine wa_aload 2 dX2_plan_188 rfl ?_
                  refine wa_alen 0 dX2_plan_190 hx3 rfl ?_
                  refine wa_iret FieldType.int dX2_plan_191 rfl rfl (Nat.le_of_ble_eq_true rfl) (Nat.le_of_ble_eq_true rfl) ?_
                  exact z_postY (r := nI (u + 1)) (by simp only [z_planC, i1, i2, hr, if_pos i3, if_neg i4, if_pos i5, hfi, if_pos i6, if_neg i7]) (hfS.trans (z_fr1 w_fr_me (ho.2.2.2.2.2.2.1 y (List.mem_of_getElem? hy)))) ⟨_, _, _, _, _, _, _, _, hc⟩ rfl
                ·
                  have i7 := Int32.not_le.mp c156
                  refine wa_iconst (1) dX2_plan_159 (by decide) ?_
                  refine wa_goto 164 dX2_plan_160 rfl ?_
                  refine wa_bipush (11) dX2_plan_164 (by decide) ?_
                  refine wa_iload 0 dX2_plan_166 rfl ?_
                  refine wc_isx (wr_S dX2_plan_168 mX2_98 sp_refuse3T rfl rfl rfl (Nat.le_of_ble_eq_true rfl)) ?_
                  exact wx_out (fun _ h => by cases h) (Nat.le_of_ble_eq_true rfl) (Nat.le_of_ble_eq_true rfl) (z_postN2 hfS (by simp only [z_planC, i1, i2, hr, if_pos i3, if_neg i4, if_pos i5, hfi, if_pos i6, if_pos i7]))
            
          ·
            have i5 := z_n c73
            refine wa_iconst (1) dX2_plan_76 (by decide) ?_
            refine wa_goto 81 dX2_plan_77 rfl ?_
            refine wa_iconst (4) dX2_plan_81 (by decide) ?_
            refine wa_iload_n 3 dX2_plan_82 rfl rfl ?_
            refine wc_isx (wr_S dX2_plan_83 mX2_98 sp_refuse3T rfl rfl rfl (Nat.le_of_ble_eq_true rfl)) ?_
            exact wx_out (fun _ h => by cases h) (Nat.le_of_ble_eq_true rfl) (Nat.le_of_ble_eq_true rfl) (z_postN (by simp only [z_planC, i1, i2, hr, if_pos i3, if_neg i4, if_neg i5]))
        ·
          have i4 : z_cell r = g := (nI_eq (by omega) (by omega)).mp c55
          refine wa_iconst (1) dX2_plan_58 (by decide) ?_
          refine wa_goto 63 dX2_plan_59 rfl ?_
          refine wa_bipush (9) dX2_plan_63 (by decide) ?_
          refine wc_isx (wr_S dX2_plan_65 mX2_105 sp_refuse2T rfl rfl rfl (Nat.le_of_ble_eq_true rfl)) ?_
          exact wx_out (fun _ h => by cases h) (Nat.le_of_ble_eq_true rfl) (Nat.le_of_ble_eq_true rfl) (z_postN (by simp only [z_planC, i1, i2, hr, if_pos i3, if_pos i4]))
      
    ·
      have i2 := z_not c13
      refine wa_iconst (1) dX2_plan_16 (by decide) ?_
      refine wa_goto 21 dX2_plan_17 rfl ?_
      refine wa_iconst (1) dX2_plan_21 (by decide) ?_
      refine wc_isx (wr_S dX2_plan_22 mX2_105 sp_refuse2T rfl rfl rfl (Nat.le_of_ble_eq_true rfl)) ?_
      exact wx_out (fun _ h => by cases h) (Nat.le_of_ble_eq_true rfl) (Nat.le_of_ble_eq_true rfl) (z_postN (by simp only [z_planC, i1, i2]))
end PN
