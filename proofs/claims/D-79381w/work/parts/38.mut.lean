/-! ===== the core's changes ===== -/
set_option maxRecDepth 100000
section MU
variable {l : Launch} {G : w_G} {M : w_M} {P : Nat → Prop} {a kd rl ol sg ra oa s0 : Nat} {ras oas : List Nat} {c : z_C}
theorem sp_bitCount {w : Int64} : w_S l G tJ18_bitCount (1, 0, 0) [.long w] M (w_is (.inl (some (.int (z_pop w)))) M) := by
  refine w_start (by decide) (Nat.le_of_ble_eq_true rfl) (fun X => ?_)
  refine wa_locals [(0, _)] [0] rfl ?_
  refine wa_lload_n 0 dJ18_bitCount_0 rfl rfl ?_
  refine wa_lload_n 0 dJ18_bitCount_1 rfl rfl ?_
  refine wa_iconst (1) dJ18_bitCount_2 (by decide) ?_
  refine wa_lushr dJ18_bitCount_3 ?_
  refine wa_ldc2 (6148914691236517205) dJ18_bitCount_4 q861 ?_
  refine wa_land dJ18_bitCount_7 ?_
  refine wa_lsub dJ18_bitCount_8 ?_
  refine wa_lstore_n [(0, _)] dJ18_bitCount_9 rfl (Nat.le_of_ble_eq_true rfl) rfl ?_
  refine wa_lload_n 0 dJ18_bitCount_10 rfl rfl ?_
  refine wa_ldc2 (3689348814741910323) dJ18_bitCount_11 q862 ?_
  refine wa_land dJ18_bitCount_14 ?_
  refine wa_lload_n 0 dJ18_bitCount_15 rfl rfl ?_
  refine wa_iconst (2) dJ18_bitCount_16 (by decide) ?_
  refine wa_lushr dJ18_bitCount_17 ?_
  refine wa_ldc2 (3689348814741910323) dJ18_bitCount_18 q862 ?_
  refine wa_land dJ18_bitCount_21 ?_
  refine wa_ladd dJ18_bitCount_22 ?_
  refine wa_lstore_n [(0, _)] dJ18_bitCount_23 rfl (Nat.le_of_ble_eq_true rfl) rfl ?_
  refine wa_lload_n 0 dJ18_bitCount_24 rfl rfl ?_
  refine wa_lload_n 0 dJ18_bitCount_25 rfl rfl ?_
  refine wa_iconst (4) dJ18_bitCount_26 (by decide) ?_
  refine wa_lushr dJ18_bitCount_27 ?_
  refine wa_ladd dJ18_bitCount_28 ?_
  refine wa_ldc2 (1085102592571150095) dJ18_bitCount_29 q863 ?_
  refine wa_land dJ18_bitCount_32 ?_
  refine wa_lstore_n [(0, _)] dJ18_bitCount_33 rfl (Nat.le_of_ble_eq_true rfl) rfl ?_
  refine wa_lload_n 0 dJ18_bitCount_34 rfl rfl ?_
  refine wa_lload_n 0 dJ18_bitCount_35 rfl rfl ?_
  refine wa_bipush (8) dJ18_bitCount_36 (by decide) ?_
  refine wa_lushr dJ18_bitCount_38 ?_
  refine wa_ladd dJ18_bitCount_39 ?_
  refine wa_lstore_n [(0, _)] dJ18_bitCount_40 rfl (Nat.le_of_ble_eq_true rfl) rfl ?_
  refine wa_lload_n 0 dJ18_bitCount_41 rfl rfl ?_
  refine wa_lload_n 0 dJ18_bitCount_42 rfl rfl ?_
  refine wa_bipush (16) dJ18_bitCount_43 (by decide) ?_
  refine wa_lushr dJ18_bitCount_45 ?_
  refine wa_ladd dJ18_bitCount_46 ?_
  refine wa_lstore_n [(0, _)] dJ18_bitCount_47 rfl (Nat.le_of_ble_eq_true rfl) rfl ?_
  refine wa_lload_n 0 dJ18_bitCount_48 rfl rfl ?_
  refine wa_lload_n 0 dJ18_bitCount_49 rfl rfl ?_
  refine wa_bipush (32) dJ18_bitCount_50 (by decide) ?_
  refine wa_lushr dJ18_bitCount_52 ?_
  refine wa_ladd dJ18_bitCount_53 ?_
  refine wa_lstore_n [(0, _)] dJ18_bitCount_54 rfl (Nat.le_of_ble_eq_true rfl) rfl ?_
  refine wa_lload_n 0 dJ18_bitCount_55 rfl rfl ?_
  refine wa_l2i dJ18_bitCount_56 ?_
  refine wa_bipush (127) dJ18_bitCount_57 (by decide) ?_
  refine wa_iand dJ18_bitCount_59 ?_
  refine wa_iret FieldType.int dJ18_bitCount_60 rfl rfl (Nat.le_of_ble_eq_true rfl) (Nat.le_of_ble_eq_true rfl) ?_
  exact ⟨rfl, rfl⟩
theorem sp_C_add (h : z_coreL G M P a kd rl ol sg ra oa ras oas c) (hs : z_small c) (ho : z_own G s0 a rl ol sg ra oa ras oas) (hP : ∀ q, s0 ≤ q → P q) (hsz0 : s0 ≤ M.sz) {x b : Int32} : w_S l G tX2_add (7, 2, 17) [.ref a, .int x, .int b] M (z_post G P s0 a M (z_addC c x b)) := by
  have hg := h.2.1
  have hal : w_AL G M rl ra ras := h.2.2.2.2.1
  have hgl := hal.choose_spec.1
  have hlen : ras.length = (z_robs c).length := h.2.2.2.2.2.2.1
  have h6 : (z_robs c).length ≤ 6 := hs.2.2.2.2.1
  obtain ⟨n1, n2, n3⟩ := z_idxL hs
  refine w_start (by decide) (Nat.le_of_ble_eq_true rfl) (fun X => ?_)
  refine wa_locals [(0, _), (1, _), (2, _)] [0, 1, 2] rfl ?_
  refine wa_aload_n 0 dX2_add_0 rfl rfl ?_
  refine wa_iload_n 1 dX2_add_1 rfl rfl ?_
  refine wc_isI (wr_V dX2_add_2 mX2_102 (sp_hasCell h hs) hg rfl rfl rfl (Nat.le_of_ble_eq_true rfl)) ?_
  refine wa_if_ne 12 dX2_add_5 rfl (fun c5 => ?_) (fun c5 => ?_)
  ·
    obtain ⟨j, i1, hj, rfl⟩ := z_yes n3 c5
    refine wa_iconst (0) dX2_add_12 (by decide) ?_
    refine wa_iconst (1) dX2_add_13 (by decide) ?_
    refine wc_isV (wr_S dX2_add_14 mX2_105 sp_refuse2N rfl rfl rfl (Nat.le_of_ble_eq_true rfl)) ?_
    refine wa_iload_n 2 dX2_add_17 rfl rfl ?_
    refine wa_iconst (0) dX2_add_18 (by decide) ?_
    refine wa_bipush (99) dX2_add_19 (by decide) ?_
    refine wc_isI (wr_S dX2_add_21 mX2_75 sp_between rfl rfl rfl (Nat.le_of_ble_eq_true rfl)) ?_
    refine wa_if_ne 31 dX2_add_24 rfl (fun c24 => ?_) (fun c24 => ?_)
    ·
      have i2 := z_y c24
      refine wa_iconst (0) dX2_add_31 (by decide) ?_
      refine wa_iconst (2) dX2_add_32 (by decide) ?_
      refine wc_isV (wr_S dX2_add_33 mX2_105 sp_refuse2N rfl rfl rfl (Nat.le_of_ble_eq_true rfl)) ?_
      refine wa_aload_n 0 dX2_add_36 rfl rfl ?_
      refine wa_getf dX2_add_37 gX2_12 hg rfl ?_
      refine wc_isI (wr_V dX2_add_40 mX2_38 (sp_size hal) hgl rfl rfl rfl (Nat.le_of_ble_eq_true rfl)) ?_
      refine wa_bipush (6) dX2_add_43 (by decide) ?_
      refine wa_icmp_ne 52 dX2_add_45 rfl (fun c45 => ?_) (fun c45 => ?_)
      ·
        have i3 : ¬ (z_robs c).length = 6 := fun q => c45 (by rw [hlen, q]; rfl)
        refine wa_iconst (0) dX2_add_52 (by decide) ?_
        refine wa_iconst (3) dX2_add_53 (by decide) ?_
        refine wc_isV (wr_S dX2_add_54 mX2_105 sp_refuse2N rfl rfl rfl (Nat.le_of_ble_eq_true rfl)) ?_
        refine wa_aload_n 0 dX2_add_57 rfl rfl ?_
        refine wa_iload_n 1 dX2_add_58 rfl rfl ?_
        refine wc_isI (wr_V dX2_add_59 mX2_83 (sp_isFree h hs hj) hg rfl rfl rfl (Nat.le_of_ble_eq_true rfl)) ?_
        refine wa_if_ne 69 dX2_add_62 rfl (fun c62 => ?_) (fun c62 => ?_)
        ·
          have i4 := z_y c62
          refine wa_iconst (0) dX2_add_69 (by decide) ?_
          refine wa_iconst (4) dX2_add_70 (by decide) ?_
          refine wa_iload_n 1 dX2_add_71 rfl rfl ?_
          refine wc_isV (wr_S dX2_add_72 mX2_98 sp_refuse3N rfl rfl rfl (Nat.le_of_ble_eq_true rfl)) ?_
          cases i5 : z_robotEver c j (-1) with
          | some k =>
            refine wa_aload_n 0 dX2_add_75 rfl rfl ?_
            refine wa_iload_n 1 dX2_add_76 rfl rfl ?_
            refine wa_iconst (-1) dX2_add_77 (by decide) ?_
            refine wc_isx (wr_V dX2_add_78 mX2_108 (sp_occT h hs (by omega) i5) hg rfl rfl rfl (Nat.le_of_ble_eq_true rfl)) ?_
            exact wx_out (fun _ h => by cases h) (Nat.le_of_ble_eq_true rfl) (Nat.le_of_ble_eq_true rfl) (z_postN (by simp only [z_addC, i1, if_pos i2, if_neg i3, if_pos i4, i5]))
          | none =>
            refine wa_aload_n 0 dX2_add_75 rfl rfl ?_
            refine wa_iload_n 1 dX2_add_76 rfl rfl ?_
            refine wa_iconst (-1) dX2_add_77 (by decide) ?_
            refine wc_isV (wr_V dX2_add_78 mX2_108 (sp_occN h hs (by omega) i5) hg rfl rfl rfl (Nat.le_of_ble_eq_true rfl)) ?_
            refine wa_aload_n 0 dX2_add_81 rfl rfl ?_
            refine wa_getf dX2_add_82 gX2_12 hg rfl ?_
            refine wa_new dX2_add_85 nX2_46 (Nat.le_of_ble_eq_true rfl) (Nat.le_of_ble_eq_true rfl) ?_
            refine wa_dup dX2_add_88 rfl ?_
            refine wa_iload_n 1 dX2_add_89 rfl rfl ?_
            refine wa_iload_n 2 dX2_add_90 rfl rfl ?_
            refine wc_isV (wr_I dX2_add_91 mX2_112 (sp_R_init w_push_self) rfl rfl rfl (Nat.le_of_ble_eq_true rfl)) ?_
            rw [w_push_set]
            refine wa_lo (fun lo hd => ?_)
            have h1 : z_coreL G (M.push (.inr (5, [.int (nI j), .int b, .int (-1), .int 0, .null, .int 0, .int 0]))) P a kd rl ol sg ra oa ras oas c := h.keep (W := fun _ => False) w_fr.rf.push (fun _ _ z => z) (fun z => z)
            have hal1 := h1.2.2.2.2.1
            have hgl1 := hal1.choose_spec.1
            have g1 := w_push_self (M := M) (e := .inr (5, [.int (nI j), .int b, .int (-1), .int 0, .null, .int 0, .int 0]))
            have hel : w_el _ M.sz := ⟨5, _, _, _, _, g1, rfl, by decide +kernel⟩
            have hne : M.sz ≠ rl := fun q => by have := w_lt hgl; omega
            have hrob : z_rob (M.push (.inr (5, [.int (nI j), .int b, .int (-1), .int 0, .null, .int 0, .int 0]))) (fun q => P q ∧ q ≠ sg) M.sz (j, b, none, 0, [], 0) := ⟨none, ⟨0, ⟨hP _ hsz0, fun q => by obtain ⟨f, g2, _⟩ := h.2.2.2.1; have := w_lt g2; omega⟩, g1, rfl⟩, by simp [z_plan]⟩
            have hnx : M.sz ∉ ras := fun q => by
              obtain ⟨i, hi, e⟩ := List.mem_iff_getElem.mp q
              obtain ⟨y, hy, hr⟩ := z_robAt h (List.getElem?_eq_getElem (show i < (z_robs c).length by omega))
              obtain ⟨fs, hfs⟩ := hr.obj
              rw [List.getElem?_eq_getElem hi, e] at hy
              cases hy
              have := w_lt hfs
              omega
            refine wc_I (wr_V dX2_add_94 mX2_52 (sp_addE hal1 (by omega) hel hne) hgl1 rfl rfl rfl (Nat.le_of_ble_eq_true rfl)) (fun r94 M94 h94 => ?_)
            obtain ⟨-, ra', hal2, hra', hf2⟩ := h94
            have hra2 : ra' = ra ∨ ((M.push (.inr (5, [.int (nI j), .int b, .int (-1), .int 0, .null, .int 0, .int 0]))).sz ≤ ra' ∧ P ra') := hra'.imp id (fun e => by subst e; exact ⟨Nat.le_refl _, hP _ (Nat.le_trans hsz0 (Nat.le_succ _))⟩)
            have hc := h1.addRob hf2 hal2 hra2 hrob hnx hd
            refine wa_pop dX2_add_97 rfl ?_
            refine wa_aload_n 0 dX2_add_98 rfl rfl ?_
            refine wa_getf dX2_add_99 gX2_12 hc.2.1 rfl ?_
            refine wc_isI (wr_V dX2_add_102 mX2_38 (sp_size hc.2.2.2.2.1) hc.2.2.2.2.1.choose_spec.1 rfl rfl rfl (Nat.le_of_ble_eq_true rfl)) ?_
            refine wa_iconst (1) dX2_add_105 (by decide) ?_
            refine wa_isub dX2_add_106 ?_
            refine wa_iret FieldType.int dX2_add_107 rfl rfl (Nat.le_of_ble_eq_true rfl) (Nat.le_of_ble_eq_true rfl) ?_
            refine z_postY (r := nI (z_robs c).length) (c' := z_setR c (z_robs c ++ [(j, b, none, 0, [], 0)])) (by simp only [z_addC, i1, if_pos i2, if_neg i3, if_pos i4, i5]) (w_fr.trans w_fr.rf.push (z_frL hf2 ho.2.1 ho.2.2.2.2.1 hd)) ⟨_, _, _, _, _, _, _, _, hc⟩ ?_
            rw [List.length_append, hlen]
            exact nI_pred _
          
        ·
          have i4 := z_n c62
          refine wa_iconst (1) dX2_add_65 (by decide) ?_
          refine wa_goto 70 dX2_add_66 rfl ?_
          refine wa_iconst (4) dX2_add_70 (by decide) ?_
          refine wa_iload_n 1 dX2_add_71 rfl rfl ?_
          refine wc_isx (wr_S dX2_add_72 mX2_98 sp_refuse3T rfl rfl rfl (Nat.le_of_ble_eq_true rfl)) ?_
          exact wx_out (fun _ h => by cases h) (Nat.le_of_ble_eq_true rfl) (Nat.le_of_ble_eq_true rfl) (z_postN (by simp only [z_addC, i1, if_pos i2, if_neg i3, if_neg i4]))
      ·
        have i3 : (z_robs c).length = 6 := (nI_eq n1 (by decide)).mp (hlen ▸ c45)
        refine wa_iconst (1) dX2_add_48 (by decide) ?_
        refine wa_goto 53 dX2_add_49 rfl ?_
        refine wa_iconst (3) dX2_add_53 (by decide) ?_
        refine wc_isx (wr_S dX2_add_54 mX2_105 sp_refuse2T rfl rfl rfl (Nat.le_of_ble_eq_true rfl)) ?_
        exact wx_out (fun _ h => by cases h) (Nat.le_of_ble_eq_true rfl) (Nat.le_of_ble_eq_true rfl) (z_postN (by simp only [z_addC, i1, if_pos i2, if_pos i3]))
    ·
      have i2 := z_n c24
      refine wa_iconst (1) dX2_add_27 (by decide) ?_
      refine wa_goto 32 dX2_add_28 rfl ?_
      refine wa_iconst (2) dX2_add_32 (by decide) ?_
      refine wc_isx (wr_S dX2_add_33 mX2_105 sp_refuse2T rfl rfl rfl (Nat.le_of_ble_eq_true rfl)) ?_
      exact wx_out (fun _ h => by cases h) (Nat.le_of_ble_eq_true rfl) (Nat.le_of_ble_eq_true rfl) (z_postN (by simp only [z_addC, i1, if_neg i2]))
  ·
    have i1 := z_not c5
    refine wa_iconst (1) dX2_add_8 (by decide) ?_
    refine wa_goto 13 dX2_add_9 rfl ?_
    refine wa_iconst (1) dX2_add_13 (by decide) ?_
    refine wc_isx (wr_S dX2_add_14 mX2_105 sp_refuse2T rfl rfl rfl (Nat.le_of_ble_eq_true rfl)) ?_
    exact wx_out (fun _ h => by cases h) (Nat.le_of_ble_eq_true rfl) (Nat.le_of_ble_eq_true rfl) (z_postN (by simp only [z_addC, i1]))
theorem z_rasEl (h : z_coreL G M P a kd rl ol sg ra oa ras oas c) : ∀ x ∈ ras, w_el M x ∧ x ≠ rl := by
  intro x hx
  obtain ⟨i, hi, e⟩ := List.mem_iff_getElem.mp hx
  have hlen : ras.length = (z_robs c).length := h.2.2.2.2.2.2.1
  obtain ⟨y, hy, hr⟩ := z_robAt h (List.getElem?_eq_getElem (show i < (z_robs c).length by omega))
  obtain ⟨fs, hfs⟩ := hr.obj
  rw [List.getElem?_eq_getElem hi, e] at hy
  cases hy
  exact ⟨⟨5, _, _, _, _, hfs, rfl, by decide +kernel⟩, w_neC hfs h.2.2.2.2.1.choose_spec.1 (by decide)⟩
theorem sp_C_takeOff (h : z_coreL G M P a kd rl ol sg ra oa ras oas c) (hs : z_small c) (ho : z_own G s0 a rl ol sg ra oa ras oas) {x : Int32} : w_S l G tX2_takeOff (7, 1, 8) [.ref a, .int x] M (z_post G P s0 a M (z_takeOffC c x)) := by
  have hg := h.2.1
  have hal : w_AL G M rl ra ras := h.2.2.2.2.1
  have hgl := hal.choose_spec.1
  have hol : w_AL G M ol oa oas := h.2.2.2.2.2.1
  have hgo := hol.choose_spec.1
  have hlen : ras.length = (z_robs c).length := h.2.2.2.2.2.2.1
  have hleo : oas.length = (z_ords c).length := h.2.2.2.2.2.2.2.1
  have h6 : (z_robs c).length ≤ 6 := hs.2.2.2.2.1
  have h10 : (z_ords c).length ≤ 10 := hs.2.2.2.2.2.1
  obtain ⟨n1, n2, n3⟩ := z_idxL hs
  refine w_start (by decide) (Nat.le_of_ble_eq_true rfl) (fun X => ?_)
  refine wa_locals [(0, _), (1, _)] [0, 1] rfl ?_
  refine wa_aload_n 0 dX2_takeOff_0 rfl rfl ?_
  refine wa_iload_n 1 dX2_takeOff_1 rfl rfl ?_
  refine wc_isI (wr_V dX2_takeOff_2 mX2_114 (sp_hasRobot h hs) hg rfl rfl rfl (Nat.le_of_ble_eq_true rfl)) ?_
  refine wa_if_ne 12 dX2_takeOff_5 rfl (fun c5 => ?_) (fun c5 => ?_)
  ·
    obtain ⟨k, i1, hk, rfl⟩ := z_yes n1 c5
    obtain ⟨r, hr⟩ : ∃ r, (z_robs c)[k]? = some r := ⟨_, List.getElem?_eq_getElem hk⟩
    obtain ⟨y, hy, pv, hrp, hrn⟩ := z_robAt h hr
    obtain ⟨dn, hpy, hob, hrest⟩ := id hrp
    have hho := (hs.2.2.2.2.2.2.1 r (List.mem_of_getElem? hr)).2.2.2
    have hm1 := z_enc_m1 (g := z_has r) (fun j e => by have := hho j e; omega)
    refine wa_iconst (0) dX2_takeOff_12 (by decide) ?_
    refine wa_iconst (1) dX2_takeOff_13 (by decide) ?_
    refine wc_isV (wr_S dX2_takeOff_14 mX2_105 sp_refuse2N rfl rfl rfl (Nat.le_of_ble_eq_true rfl)) ?_
    refine wa_aload_n 0 dX2_takeOff_17 rfl rfl ?_
    refine wa_getf dX2_takeOff_18 gX2_12 hg rfl ?_
    refine wa_iload_n 1 dX2_takeOff_21 rfl rfl ?_
    refine wc_isA (wr_V dX2_takeOff_22 mX2_42 (sp_get hal hy) hgl rfl rfl rfl (Nat.le_of_ble_eq_true rfl)) ?_
    refine wa_castS dX2_takeOff_25 q259 hob rfl ?_
    refine wa_getf dX2_takeOff_28 gX2_117 hob rfl ?_
    refine wa_iconst (-1) dX2_takeOff_31 (by decide) ?_
    refine wa_icmp_eq 39 dX2_takeOff_32 rfl (fun c32 => ?_) (fun c32 => ?_)
    ·
      have i2 := hm1.mp c32
      refine wa_iconst (0) dX2_takeOff_39 (by decide) ?_
      refine wa_bipush (7) dX2_takeOff_40 (by decide) ?_
      refine wa_aload_n 0 dX2_takeOff_42 rfl rfl ?_
      refine wa_getf dX2_takeOff_43 gX2_12 hg rfl ?_
      refine wa_iload_n 1 dX2_takeOff_46 rfl rfl ?_
      refine wc_isA (wr_V dX2_takeOff_47 mX2_42 (sp_get hal hy) hgl rfl rfl rfl (Nat.le_of_ble_eq_true rfl)) ?_
      refine wa_castS dX2_takeOff_50 q259 hob rfl ?_
      refine wa_getf dX2_takeOff_53 gX2_117 hob rfl ?_
      refine wc_isV (wr_S dX2_takeOff_56 mX2_98 sp_refuse3N rfl rfl rfl (Nat.le_of_ble_eq_true rfl)) ?_
      refine wa_aload_n 0 dX2_takeOff_59 rfl rfl ?_
      refine wa_getf dX2_takeOff_60 gX2_12 hg rfl ?_
      refine wa_iload_n 1 dX2_takeOff_63 rfl rfl ?_
      refine wa_lo (fun lo hd => ?_)
      refine wc_A (wr_V dX2_takeOff_64 mX2_120 (sp_removeE hal (fun x q => (z_rasEl h x q).1) (fun x q => (z_rasEl h x q).2) hy) hgl rfl rfl rfl (Nat.le_of_ble_eq_true rfl)) (fun r64 M64 h64 => ?_)
      obtain ⟨-, hal2, hf2⟩ := h64
      have hc := h.delRob hf2 hal2 (hlen ▸ hk) hd
      refine wa_pop dX2_takeOff_67 rfl ?_
      refine wa_aload_n 0 dX2_takeOff_68 rfl rfl ?_
      refine wa_getf dX2_takeOff_69 gX2_12 hc.2.1 rfl ?_
      refine wc_isI (wr_V dX2_takeOff_72 mX2_38 (sp_size hc.2.2.2.2.1) hc.2.2.2.2.1.choose_spec.1 rfl rfl rfl (Nat.le_of_ble_eq_true rfl)) ?_
      refine wa_iret FieldType.int dX2_takeOff_75 rfl rfl (Nat.le_of_ble_eq_true rfl) (Nat.le_of_ble_eq_true rfl) ?_
      refine z_postY (r := nI ((z_robs c).length - 1)) (c' := z_setR c ((z_robs c).eraseIdx k)) (by simp only [z_takeOffC, i1, hr, i2]) (z_frL hf2 ho.2.1 ho.2.2.2.2.1 hd) ⟨_, _, _, _, _, _, _, _, hc⟩ ?_
      rw [List.length_eraseIdx_of_lt (hlen ▸ hk), hlen]
    ·
      obtain ⟨o, i2⟩ : ∃ o, z_has r = some o := Option.ne_none_iff_exists'.mp (fun q => c32 (hm1.mpr q))
      refine wa_iconst (1) dX2_takeOff_35 (by decide) ?_
      refine wa_goto 40 dX2_takeOff_36 rfl ?_
      refine wa_bipush (7) dX2_takeOff_40 (by decide) ?_
      refine wa_aload_n 0 dX2_takeOff_42 rfl rfl ?_
      refine wa_getf dX2_takeOff_43 gX2_12 hg rfl ?_
      refine wa_iload_n 1 dX2_takeOff_46 rfl rfl ?_
      refine wc_isA (wr_V dX2_takeOff_47 mX2_42 (sp_get hal hy) hgl rfl rfl rfl (Nat.le_of_ble_eq_true rfl)) ?_
      refine wa_castS dX2_takeOff_50 q259 hob rfl ?_
      refine wa_getf dX2_takeOff_53 gX2_117 hob rfl ?_
      refine wc_isx (wr_S dX2_takeOff_56 mX2_98 sp_refuse3T rfl rfl rfl (Nat.le_of_ble_eq_true rfl)) ?_
      exact wx_out (fun _ h => by cases h) (Nat.le_of_ble_eq_true rfl) (Nat.le_of_ble_eq_true rfl) (z_postN (by simp only [z_takeOffC, i1, hr, i2, z_enc]))
  ·
    have i1 := z_not c5
    refine wa_iconst (1) dX2_takeOff_8 (by decide) ?_
    refine wa_goto 13 dX2_takeOff_9 rfl ?_
    refine wa_iconst (1) dX2_takeOff_13 (by decide) ?_
    refine wc_isx (wr_S dX2_takeOff_14 mX2_105 sp_refuse2T rfl rfl rfl (Nat.le_of_ble_eq_true rfl)) ?_
    exact wx_out (fun _ h => by cases h) (Nat.le_of_ble_eq_true rfl) (Nat.le_of_ble_eq_true rfl) (z_postN (by simp only [z_takeOffC, i1]))
theorem z_oneE {k : Nat} : (1 : Int64) <<< ((nI k).toInt64 &&& 63) = z_one k := rfl
theorem sp_C_close (h : z_coreL G M P a kd rl ol sg ra oa ras oas c) (hs : z_small c) (ho : z_own G s0 a rl ol sg ra oa ras oas) {x : Int32} : w_S l G tX2_close (7, 1, 8) [.ref a, .int x] M (z_post G P s0 a M (z_closeC c x)) := by
  have hg := h.2.1
  have hal : w_AL G M rl ra ras := h.2.2.2.2.1
  have hgl := hal.choose_spec.1
  have hol : w_AL G M ol oa oas := h.2.2.2.2.2.1
  have hgo := hol.choose_spec.1
  have hlen : ras.length = (z_robs c).length := h.2.2.2.2.2.2.1
  have hleo : oas.length = (z_ords c).length := h.2.2.2.2.2.2.2.1
  have h6 : (z_robs c).length ≤ 6 := hs.2.2.2.2.1
  have h10 : (z_ords c).length ≤ 10 := hs.2.2.2.2.2.1
  obtain ⟨n1, n2, n3⟩ := z_idxL hs
  obtain ⟨f, hk1, hk2⟩ := h.2.2.1
  refine w_start (by decide) (Nat.le_of_ble_eq_true rfl) (fun X => ?_)
  refine wa_locals [(0, _), (1, _)] [0, 1] rfl ?_
  refine wa_aload_n 0 dX2_close_0 rfl rfl ?_
  refine wa_iload_n 1 dX2_close_1 rfl rfl ?_
  refine wc_isI (wr_V dX2_close_2 mX2_102 (sp_hasCell h hs) hg rfl rfl rfl (Nat.le_of_ble_eq_true rfl)) ?_
  refine wa_if_ne 12 dX2_close_5 rfl (fun c5 => ?_) (fun c5 => ?_)
  ·
    obtain ⟨j, i1, hj, rfl⟩ := z_yes n3 c5
    refine wa_iconst (0) dX2_close_12 (by decide) ?_
    refine wa_iconst (1) dX2_close_13 (by decide) ?_
    refine wc_isV (wr_S dX2_close_14 mX2_105 sp_refuse2N rfl rfl rfl (Nat.le_of_ble_eq_true rfl)) ?_
    by_cases i2 : z_bit (z_closed c) j = true
    · have e2 : (if z_bit (z_closed c) j = true then (1 : Int32) else 0) = 1 := if_pos i2
      have cl1 := sp_isClosed (l := l) h (k := j)
      rw [e2] at cl1
      refine wa_aload_n 0 dX2_close_17 rfl rfl ?_
      refine wa_iload_n 1 dX2_close_18 rfl rfl ?_
      refine wc_isI (wr_V dX2_close_19 mX2_79 cl1 hg rfl rfl rfl (Nat.le_of_ble_eq_true rfl)) ?_
      refine wa_bipush (13) dX2_close_22 (by decide) ?_
      refine wc_isx (wr_S dX2_close_24 mX2_105 sp_refuse2T rfl rfl rfl (Nat.le_of_ble_eq_true rfl)) ?_
      exact wx_out (fun _ h => by cases h) (Nat.le_of_ble_eq_true rfl) (Nat.le_of_ble_eq_true rfl) (z_postN (by simp only [z_closeC, i1, if_pos i2]))
    · have e2 : (if z_bit (z_closed c) j = true then (1 : Int32) else 0) = 0 := if_neg i2
      have cl1 := sp_isClosed (l := l) h (k := j)
      rw [e2] at cl1
      refine wa_aload_n 0 dX2_close_17 rfl rfl ?_
      refine wa_iload_n 1 dX2_close_18 rfl rfl ?_
      refine wc_isI (wr_V dX2_close_19 mX2_79 cl1 hg rfl rfl rfl (Nat.le_of_ble_eq_true rfl)) ?_
      refine wa_bipush (13) dX2_close_22 (by decide) ?_
      refine wc_isV (wr_S dX2_close_24 mX2_105 sp_refuse2N rfl rfl rfl (Nat.le_of_ble_eq_true rfl)) ?_
      refine wa_aload_n 0 dX2_close_27 rfl rfl ?_
      refine wa_getf dX2_close_28 gX2_32 hg rfl ?_
      refine wa_iload_n 1 dX2_close_31 rfl rfl ?_
      refine wa_iald dX2_close_32 hk1 (vp_in_nI hj (by omega)) ?_
      rw [nI_clamp (by omega), hk2 j hj]
      refine wa_iconst (1) dX2_close_33 (by decide) ?_
      refine wa_icmp_ne 41 dX2_close_34 rfl (fun c34 => ?_) (fun c34 => ?_)
      ·
        have i3 := c34
        refine wa_iconst (0) dX2_close_41 (by decide) ?_
        refine wa_iconst (4) dX2_close_42 (by decide) ?_
        refine wa_iload_n 1 dX2_close_43 rfl rfl ?_
        refine wc_isV (wr_S dX2_close_44 mX2_98 sp_refuse3N rfl rfl rfl (Nat.le_of_ble_eq_true rfl)) ?_
        cases i5 : z_robotEver c j (-1) with
        | some k =>
          refine wa_aload_n 0 dX2_close_47 rfl rfl ?_
          refine wa_iload_n 1 dX2_close_48 rfl rfl ?_
          refine wa_iconst (-1) dX2_close_49 (by decide) ?_
          refine wc_isx (wr_V dX2_close_50 mX2_108 (sp_occT h hs (by omega) i5) hg rfl rfl rfl (Nat.le_of_ble_eq_true rfl)) ?_
          exact wx_out (fun _ h => by cases h) (Nat.le_of_ble_eq_true rfl) (Nat.le_of_ble_eq_true rfl) (z_postN (by simp only [z_closeC, i1, if_neg i2, if_neg i3, i5]))
        | none =>
          refine wa_aload_n 0 dX2_close_47 rfl rfl ?_
          refine wa_iload_n 1 dX2_close_48 rfl rfl ?_
          refine wa_iconst (-1) dX2_close_49 (by decide) ?_
          refine wc_isV (wr_V dX2_close_50 mX2_108 (sp_occN h hs (by omega) i5) hg rfl rfl rfl (Nat.le_of_ble_eq_true rfl)) ?_
          refine wa_aload_n 0 dX2_close_53 rfl rfl ?_
          refine wa_dup dX2_close_54 rfl ?_
          refine wa_getf dX2_close_55 gX2_67 hg rfl ?_
          refine wa_lconst 1 dX2_close_58 (by decide) ?_
          refine wa_iload_n 1 dX2_close_59 rfl rfl ?_
          refine wa_lshl dX2_close_60 ?_
          refine wa_lor dX2_close_61 ?_
          refine wa_putf [_, _, _, _, _, _, _, _] dX2_close_62 pX2_67 hg (Nat.le_of_ble_eq_true rfl) rfl rfl rfl ?_
          rw [z_oneE]
          have hc := h.setTop (n := z_now c) (w := z_closed c ||| z_one j) w_fr_me (w_set_self hg)
          refine wa_aload_n 0 dX2_close_65 rfl rfl ?_
          refine wa_getf dX2_close_66 gX2_67 (w_set_self hg) rfl ?_
          refine wc_isI (wr_S dX2_close_69 mX2_136 sp_bitCount rfl rfl rfl (Nat.le_of_ble_eq_true rfl)) ?_
          refine wa_iret FieldType.int dX2_close_72 rfl rfl (Nat.le_of_ble_eq_true rfl) (Nat.le_of_ble_eq_true rfl) ?_
          exact z_postY (r := z_pop (z_closed c ||| z_one j)) (c' := z_setW c (z_closed c ||| z_one j)) (by simp only [z_closeC, i1, if_neg i2, if_neg i3, i5]) (z_fr1 w_fr_me ho.1) ⟨_, _, _, _, _, _, _, _, hc⟩ rfl
        
      ·
        have i3 := c34
        refine wa_iconst (1) dX2_close_37 (by decide) ?_
        refine wa_goto 42 dX2_close_38 rfl ?_
        refine wa_iconst (4) dX2_close_42 (by decide) ?_
        refine wa_iload_n 1 dX2_close_43 rfl rfl ?_
        refine wc_isx (wr_S dX2_close_44 mX2_98 sp_refuse3T rfl rfl rfl (Nat.le_of_ble_eq_true rfl)) ?_
        exact wx_out (fun _ h => by cases h) (Nat.le_of_ble_eq_true rfl) (Nat.le_of_ble_eq_true rfl) (z_postN (by simp only [z_closeC, i1, if_neg i2, if_pos i3]))
    
  ·
    have i1 := z_not c5
    refine wa_iconst (1) dX2_close_8 (by decide) ?_
    refine wa_goto 13 dX2_close_9 rfl ?_
    refine wa_iconst (1) dX2_close_13 (by decide) ?_
    refine wc_isx (wr_S dX2_close_14 mX2_105 sp_refuse2T rfl rfl rfl (Nat.le_of_ble_eq_true rfl)) ?_
    exact wx_out (fun _ h => by cases h) (Nat.le_of_ble_eq_true rfl) (Nat.le_of_ble_eq_true rfl) (z_postN (by simp only [z_closeC, i1]))
theorem sp_C_open (h : z_coreL G M P a kd rl ol sg ra oa ras oas c) (hs : z_small c) (ho : z_own G s0 a rl ol sg ra oa ras oas) {x : Int32} : w_S l G tX2_open (7, 1, 8) [.ref a, .int x] M (z_post G P s0 a M (z_openC c x)) := by
  have hg := h.2.1
  have hal : w_AL G M rl ra ras := h.2.2.2.2.1
  have hgl := hal.choose_spec.1
  have hol : w_AL G M ol oa oas := h.2.2.2.2.2.1
  have hgo := hol.choose_spec.1
  have hlen : ras.length = (z_robs c).length := h.2.2.2.2.2.2.1
  have hleo : oas.length = (z_ords c).length := h.2.2.2.2.2.2.2.1
  have h6 : (z_robs c).length ≤ 6 := hs.2.2.2.2.1
  have h10 : (z_ords c).length ≤ 10 := hs.2.2.2.2.2.1
  obtain ⟨n1, n2, n3⟩ := z_idxL hs
  refine w_start (by decide) (Nat.le_of_ble_eq_true rfl) (fun X => ?_)
  refine wa_locals [(0, _), (1, _)] [0, 1] rfl ?_
  refine wa_aload_n 0 dX2_open_0 rfl rfl ?_
  refine wa_iload_n 1 dX2_open_1 rfl rfl ?_
  refine wc_isI (wr_V dX2_open_2 mX2_102 (sp_hasCell h hs) hg rfl rfl rfl (Nat.le_of_ble_eq_true rfl)) ?_
  refine wa_if_ne 12 dX2_open_5 rfl (fun c5 => ?_) (fun c5 => ?_)
  ·
    obtain ⟨j, i1, hj, rfl⟩ := z_yes n3 c5
    refine wa_iconst (0) dX2_open_12 (by decide) ?_
    refine wa_iconst (1) dX2_open_13 (by decide) ?_
    refine wc_isV (wr_S dX2_open_14 mX2_105 sp_refuse2N rfl rfl rfl (Nat.le_of_ble_eq_true rfl)) ?_
    refine wa_aload_n 0 dX2_open_17 rfl rfl ?_
    refine wa_iload_n 1 dX2_open_18 rfl rfl ?_
    refine wc_isI (wr_V dX2_open_19 mX2_79 (sp_isClosed h) hg rfl rfl rfl (Nat.le_of_ble_eq_true rfl)) ?_
    refine wa_if_ne 29 dX2_open_22 rfl (fun c22 => ?_) (fun c22 => ?_)
    ·
      have i2 := z_y c22
      refine wa_iconst (0) dX2_open_29 (by decide) ?_
      refine wa_bipush (13) dX2_open_30 (by decide) ?_
      refine wc_isV (wr_S dX2_open_32 mX2_105 sp_refuse2N rfl rfl rfl (Nat.le_of_ble_eq_true rfl)) ?_
      refine wa_aload_n 0 dX2_open_35 rfl rfl ?_
      refine wa_dup dX2_open_36 rfl ?_
      refine wa_getf dX2_open_37 gX2_67 hg rfl ?_
      refine wa_lconst 1 dX2_open_40 (by decide) ?_
      refine wa_iload_n 1 dX2_open_41 rfl rfl ?_
      refine wa_lshl dX2_open_42 ?_
      refine wa_ldc2 (-1) dX2_open_43 q875 ?_
      refine wa_lxor dX2_open_46 ?_
      refine wa_land dX2_open_47 ?_
      refine wa_putf [_, _, _, _, _, _, _, _] dX2_open_48 pX2_67 hg (Nat.le_of_ble_eq_true rfl) rfl rfl rfl ?_
      rw [z_oneE]
      have hc := h.setTop (n := z_now c) (w := z_closed c &&& (z_one j ^^^ -1)) w_fr_me (w_set_self hg)
      refine wa_aload_n 0 dX2_open_51 rfl rfl ?_
      refine wa_getf dX2_open_52 gX2_67 (w_set_self hg) rfl ?_
      refine wc_isI (wr_S dX2_open_55 mX2_136 sp_bitCount rfl rfl rfl (Nat.le_of_ble_eq_true rfl)) ?_
      refine wa_iret FieldType.int dX2_open_58 rfl rfl (Nat.le_of_ble_eq_true rfl) (Nat.le_of_ble_eq_true rfl) ?_
      exact z_postY (r := z_pop (z_closed c &&& (z_one j ^^^ -1))) (c' := z_setW c (z_closed c &&& (z_one j ^^^ -1))) (by simp only [z_openC, i1, if_pos i2]) (z_fr1 w_fr_me ho.1) ⟨_, _, _, _, _, _, _, _, hc⟩ rfl
    ·
      have i2 := z_n c22
      refine wa_iconst (1) dX2_open_25 (by decide) ?_
      refine wa_goto 30 dX2_open_26 rfl ?_
      refine wa_bipush (13) dX2_open_30 (by decide) ?_
      refine wc_isx (wr_S dX2_open_32 mX2_105 sp_refuse2T rfl rfl rfl (Nat.le_of_ble_eq_true rfl)) ?_
      exact wx_out (fun _ h => by cases h) (Nat.le_of_ble_eq_true rfl) (Nat.le_of_ble_eq_true rfl) (z_postN (by simp only [z_openC, i1, if_neg i2]))
  ·
    have i1 := z_not c5
    refine wa_iconst (1) dX2_open_8 (by decide) ?_
    refine wa_goto 13 dX2_open_9 rfl ?_
    refine wa_iconst (1) dX2_open_13 (by decide) ?_
    refine wc_isx (wr_S dX2_open_14 mX2_105 sp_refuse2T rfl rfl rfl (Nat.le_of_ble_eq_true rfl)) ?_
    exact wx_out (fun _ h => by cases h) (Nat.le_of_ble_eq_true rfl) (Nat.le_of_ble_eq_true rfl) (z_postN (by simp only [z_openC, i1]))
theorem sp_C_set (h : z_coreL G M P a kd rl ol sg ra oa ras oas c) (hs : z_small c) (ho : z_own G s0 a rl ol sg ra oa ras oas) {x v : Int32} : w_S l G tX2_set (7, 1, 8) [.ref a, .int x, .int v] M (z_post G P s0 a M (z_setC c x v)) := by
  have hg := h.2.1
  obtain ⟨f, hk1, hk2⟩ := h.2.2.2.1
  cases i1 : z_idx x 3 with
  | none =>
    have q0 : ∀ k, k < 3 → x ≠ nI k := fun k hk q => by have := (z_idx_some (x := x) (n := 3) (j := k) (by decide)).mpr ⟨hk, q⟩; rw [i1] at this; cases this
    refine w_start (by decide) (Nat.le_of_ble_eq_true rfl) (fun X => ?_)
    refine wa_locals [(0, _), (1, _), (2, _)] [0, 1, 2] rfl ?_
    refine wa_iload_n 1 dX2_set_0 rfl rfl ?_
    refine wa_if_ne 14 dX2_set_1 rfl (fun c1 => ?_) (fun c1 => absurd c1 (q0 0 (by decide)))
    refine wa_iload_n 1 dX2_set_14 rfl rfl ?_
    refine wa_iconst (1) dX2_set_15 (by decide) ?_
    refine wa_icmp_ne 28 dX2_set_16 rfl (fun c16 => ?_) (fun c16 => absurd c16 (q0 1 (by decide)))
    refine wa_iload_n 1 dX2_set_28 rfl rfl ?_
    refine wa_iconst (2) dX2_set_29 (by decide) ?_
    refine wa_icmp_ne 47 dX2_set_30 rfl (fun c30 => ?_) (fun c30 => absurd c30 (q0 2 (by decide)))
    refine wa_iconst (0) dX2_set_47 (by decide) ?_
    refine wa_istore_n [(3, _), (0, _), (1, _), (2, _)] dX2_set_48 rfl (Nat.le_of_ble_eq_true rfl) rfl ?_
    refine wa_iload_n 0 dX2_set_49 rfl rfl ?_
    refine wa_if_ne 57 dX2_set_50 rfl (fun c50 => absurd (by decide) c50) (fun c50 => ?_)
    refine wa_iconst (1) dX2_set_53 (by decide) ?_
    refine wa_goto 58 dX2_set_54 rfl ?_
    refine wa_iconst (2) dX2_set_58 (by decide) ?_
    refine wc_isx (wr_S dX2_set_59 mX2_105 sp_refuse2T rfl rfl rfl (Nat.le_of_ble_eq_true rfl)) ?_
    exact wx_out (fun _ h => by cases h) (Nat.le_of_ble_eq_true rfl) (Nat.le_of_ble_eq_true rfl) (z_postN (by simp only [z_setC, i1]))
  | some w =>
    have hw := z_idx_lt (by decide) i1
    have ex := z_idx_eq (by decide) i1
    subst ex
    rcases (show w = 0 ∨ w = 1 ∨ w = 2 by omega) with rfl | rfl | rfl
    ·
      refine w_start (by decide) (Nat.le_of_ble_eq_true rfl) (fun X => ?_)
      refine wa_locals [(0, _), (1, _), (2, _)] [0, 1, 2] rfl ?_
      refine wa_iload_n 1 dX2_set_0 rfl rfl ?_
      refine wa_if_ne 14 dX2_set_1 rfl (fun c1 => absurd (by decide) c1) (fun c1 => ?_)
      refine wa_iload_n 2 dX2_set_4 rfl rfl ?_
      refine wa_iconst (1) dX2_set_5 (by decide) ?_
      refine wa_bipush (20) dX2_set_6 (by decide) ?_
      refine wc_isI (wr_S dX2_set_8 mX2_75 sp_between rfl rfl rfl (Nat.le_of_ble_eq_true rfl)) ?_
      refine wa_goto 48 dX2_set_11 rfl ?_
      refine wa_istore_n [(3, _), (0, _), (1, _), (2, _)] dX2_set_48 rfl (Nat.le_of_ble_eq_true rfl) rfl ?_
      refine wa_iload_n 0 dX2_set_49 rfl rfl ?_
      refine wa_if_ne 57 dX2_set_50 rfl (fun c50 => ?_) (fun c50 => ?_)
      ·
        have i2 := z_y c50
        refine wa_iconst (0) dX2_set_57 (by decide) ?_
        refine wa_iconst (2) dX2_set_58 (by decide) ?_
        refine wc_isV (wr_S dX2_set_59 mX2_105 sp_refuse2N rfl rfl rfl (Nat.le_of_ble_eq_true rfl)) ?_
        refine wa_aload_n 1 dX2_set_62 rfl rfl ?_
        refine wa_getf dX2_set_63 gX2_21 hg rfl ?_
        refine wa_iload_n 2 dX2_set_66 rfl rfl ?_
        refine wa_iald dX2_set_67 hk1 (vp_in_nI (by decide) (by decide)) ?_
        rw [nI_clamp (by decide), hk2 0 (by decide)]
        refine wa_istore [(4, _), (3, _), (0, _), (1, _), (2, _)] dX2_set_68 (Nat.le_of_ble_eq_true rfl) rfl ?_
        refine wa_aload_n 2 dX2_set_70 rfl rfl ?_
        refine wa_getf dX2_set_71 gX2_21 hg rfl ?_
        refine wa_iload_n 3 dX2_set_74 rfl rfl ?_
        refine wa_iload_n 4 dX2_set_75 rfl rfl ?_
        refine wa_iast dX2_set_76 hk1 (vp_in_nI (by decide) (by decide)) ?_
        rw [nI_clamp (by decide)]
        have hc := (h.setSet (g' := upd f 0 v) w_fr_me (w_set_self hk1)).setsEq (g := fun k => if k = 0 then v else z_sets c k) (fun k hk => by unfold upd; split <;> first | rfl | exact hk2 k hk)
        refine wa_iload 0 dX2_set_77 rfl ?_
        refine wa_iret FieldType.int dX2_set_79 rfl rfl (Nat.le_of_ble_eq_true rfl) (Nat.le_of_ble_eq_true rfl) ?_
        exact z_postY (r := z_sets c 0) (c' := z_setS c (fun k => if k = 0 then v else z_sets c k)) (by simp only [z_setC, i1]; exact if_pos i2) (z_fr1 w_fr_me ho.2.2.2.1) ⟨_, _, _, _, _, _, _, _, hc⟩ rfl
      ·
        have i2 := z_n c50
        refine wa_iconst (1) dX2_set_53 (by decide) ?_
        refine wa_goto 58 dX2_set_54 rfl ?_
        refine wa_iconst (2) dX2_set_58 (by decide) ?_
        refine wc_isx (wr_S dX2_set_59 mX2_105 sp_refuse2T rfl rfl rfl (Nat.le_of_ble_eq_true rfl)) ?_
        exact wx_out (fun _ h => by cases h) (Nat.le_of_ble_eq_true rfl) (Nat.le_of_ble_eq_true rfl) (z_postN (by simp only [z_setC, i1]; exact if_neg i2))
    ·
      refine w_start (by decide) (Nat.le_of_ble_eq_true rfl) (fun X => ?_)
      refine wa_locals [(0, _), (1, _), (2, _)] [0, 1, 2] rfl ?_
      refine wa_iload_n 1 dX2_set_0 rfl rfl ?_
      refine wa_if_ne 14 dX2_set_1 rfl (fun c1 => ?_) (fun c1 => absurd c1 (by decide))
      refine wa_iload_n 1 dX2_set_14 rfl rfl ?_
      refine wa_iconst (1) dX2_set_15 (by decide) ?_
      refine wa_icmp_ne 28 dX2_set_16 rfl (fun c16 => absurd (by decide) c16) (fun c16 => ?_)
      refine wa_iload_n 2 dX2_set_19 rfl rfl ?_
      refine wa_iconst (1) dX2_set_20 (by decide) ?_
      refine wa_iconst (3) dX2_set_21 (by decide) ?_
      refine wc_isI (wr_S dX2_set_22 mX2_75 sp_between rfl rfl rfl (Nat.le_of_ble_eq_true rfl)) ?_
      refine wa_goto 48 dX2_set_25 rfl ?_
      refine wa_istore_n [(3, _), (0, _), (1, _), (2, _)] dX2_set_48 rfl (Nat.le_of_ble_eq_true rfl) rfl ?_
      refine wa_iload_n 0 dX2_set_49 rfl rfl ?_
      refine wa_if_ne 57 dX2_set_50 rfl (fun c50 => ?_) (fun c50 => ?_)
      ·
        have i2 := z_y c50
        refine wa_iconst (0) dX2_set_57 (by decide) ?_
        refine wa_iconst (2) dX2_set_58 (by decide) ?_
        refine wc_isV (wr_S dX2_set_59 mX2_105 sp_refuse2N rfl rfl rfl (Nat.le_of_ble_eq_true rfl)) ?_
        refine wa_aload_n 1 dX2_set_62 rfl rfl ?_
        refine wa_getf dX2_set_63 gX2_21 hg rfl ?_
        refine wa_iload_n 2 dX2_set_66 rfl rfl ?_
        refine wa_iald dX2_set_67 hk1 (vp_in_nI (by decide) (by decide)) ?_
        rw [nI_clamp (by decide), hk2 1 (by decide)]
        refine wa_istore [(4, _), (3, _), (0, _), (1, _), (2, _)] dX2_set_68 (Nat.le_of_ble_eq_true rfl) rfl ?_
        refine wa_aload_n 2 dX2_set_70 rfl rfl ?_
        refine wa_getf dX2_set_71 gX2_21 hg rfl ?_
        refine wa_iload_n 3 dX2_set_74 rfl rfl ?_
        refine wa_iload_n 4 dX2_set_75 rfl rfl ?_
        refine wa_iast dX2_set_76 hk1 (vp_in_nI (by decide) (by decide)) ?_
        rw [nI_clamp (by decide)]
        have hc := (h.setSet (g' := upd f 1 v) w_fr_me (w_set_self hk1)).setsEq (g := fun k => if k = 1 then v else z_sets c k) (fun k hk => by unfold upd; split <;> first | rfl | exact hk2 k hk)
        refine wa_iload 0 dX2_set_77 rfl ?_
        refine wa_iret FieldType.int dX2_set_79 rfl rfl (Nat.le_of_ble_eq_true rfl) (Nat.le_of_ble_eq_true rfl) ?_
        exact z_postY (r := z_sets c 1) (c' := z_setS c (fun k => if k = 1 then v else z_sets c k)) (by simp only [z_setC, i1]; exact if_pos i2) (z_fr1 w_fr_me ho.2.2.2.1) ⟨_, _, _, _, _, _, _, _, hc⟩ rfl
      ·
        have i2 := z_n c50
        refine wa_iconst (1) dX2_set_53 (by decide) ?_
        refine wa_goto 58 dX2_set_54 rfl ?_
        refine wa_iconst (2) dX2_set_58 (by decide) ?_
        refine wc_isx (wr_S dX2_set_59 mX2_105 sp_refuse2T rfl rfl rfl (Nat.le_of_ble_eq_true rfl)) ?_
        exact wx_out (fun _ h => by cases h) (Nat.le_of_ble_eq_true rfl) (Nat.le_of_ble_eq_true rfl) (z_postN (by simp only [z_setC, i1]; exact if_neg i2))
    ·
      refine w_start (by decide) (Nat.le_of_ble_eq_true rfl) (fun X => ?_)
      refine wa_locals [(0, _), (1, _), (2, _)] [0, 1, 2] rfl ?_
      refine wa_iload_n 1 dX2_set_0 rfl rfl ?_
      refine wa_if_ne 14 dX2_set_1 rfl (fun c1 => ?_) (fun c1 => absurd c1 (by decide))
      refine wa_iload_n 1 dX2_set_14 rfl rfl ?_
      refine wa_iconst (1) dX2_set_15 (by decide) ?_
      refine wa_icmp_ne 28 dX2_set_16 rfl (fun c16 => ?_) (fun c16 => absurd c16 (by decide))
      refine wa_iload_n 1 dX2_set_28 rfl rfl ?_
      refine wa_iconst (2) dX2_set_29 (by decide) ?_
      refine wa_icmp_ne 47 dX2_set_30 rfl (fun c30 => absurd (by decide) c30) (fun c30 => ?_)
      refine wa_iload_n 2 dX2_set_33 rfl rfl ?_
      refine wa_iconst (1) dX2_set_34 (by decide) ?_
      refine wa_bipush (30) dX2_set_35 (by decide) ?_
      refine wc_isI (wr_S dX2_set_37 mX2_75 sp_between rfl rfl rfl (Nat.le_of_ble_eq_true rfl)) ?_
      refine wa_if_eq 47 dX2_set_40 rfl (fun c40 => ?_) (fun c40 => ?_)
      ·
        refine wa_iconst (0) dX2_set_47 (by decide) ?_
        refine wa_istore_n [(3, _), (0, _), (1, _), (2, _)] dX2_set_48 rfl (Nat.le_of_ble_eq_true rfl) rfl ?_
        refine wa_iload_n 0 dX2_set_49 rfl rfl ?_
        refine wa_if_ne 57 dX2_set_50 rfl (fun c50 => absurd (by decide) c50) (fun c50 => ?_)
        have i2 := z_n c40
        refine wa_iconst (1) dX2_set_53 (by decide) ?_
        refine wa_goto 58 dX2_set_54 rfl ?_
        refine wa_iconst (2) dX2_set_58 (by decide) ?_
        refine wc_isx (wr_S dX2_set_59 mX2_105 sp_refuse2T rfl rfl rfl (Nat.le_of_ble_eq_true rfl)) ?_
        exact wx_out (fun _ h => by cases h) (Nat.le_of_ble_eq_true rfl) (Nat.le_of_ble_eq_true rfl) (z_postN (by simp only [z_setC, i1]; exact if_neg i2))
      ·
        refine wa_iconst (1) dX2_set_43 (by decide) ?_
        refine wa_goto 48 dX2_set_44 rfl ?_
        refine wa_istore_n [(3, _), (0, _), (1, _), (2, _)] dX2_set_48 rfl (Nat.le_of_ble_eq_true rfl) rfl ?_
        refine wa_iload_n 0 dX2_set_49 rfl rfl ?_
        refine wa_if_ne 57 dX2_set_50 rfl (fun c50 => ?_) (fun c50 => absurd c50 (by decide))
        have i2 := z_y c40
        refine wa_iconst (0) dX2_set_57 (by decide) ?_
        refine wa_iconst (2) dX2_set_58 (by decide) ?_
        refine wc_isV (wr_S dX2_set_59 mX2_105 sp_refuse2N rfl rfl rfl (Nat.le_of_ble_eq_true rfl)) ?_
        refine wa_aload_n 1 dX2_set_62 rfl rfl ?_
        refine wa_getf dX2_set_63 gX2_21 hg rfl ?_
        refine wa_iload_n 2 dX2_set_66 rfl rfl ?_
        refine wa_iald dX2_set_67 hk1 (vp_in_nI (by decide) (by decide)) ?_
        rw [nI_clamp (by decide), hk2 2 (by decide)]
        refine wa_istore [(4, _), (3, _), (0, _), (1, _), (2, _)] dX2_set_68 (Nat.le_of_ble_eq_true rfl) rfl ?_
        refine wa_aload_n 2 dX2_set_70 rfl rfl ?_
        refine wa_getf dX2_set_71 gX2_21 hg rfl ?_
        refine wa_iload_n 3 dX2_set_74 rfl rfl ?_
        refine wa_iload_n 4 dX2_set_75 rfl rfl ?_
        refine wa_iast dX2_set_76 hk1 (vp_in_nI (by decide) (by decide)) ?_
        rw [nI_clamp (by decide)]
        have hc := (h.setSet (g' := upd f 2 v) w_fr_me (w_set_self hk1)).setsEq (g := fun k => if k = 2 then v else z_sets c k) (fun k hk => by unfold upd; split <;> first | rfl | exact hk2 k hk)
        refine wa_iload 0 dX2_set_77 rfl ?_
        refine wa_iret FieldType.int dX2_set_79 rfl rfl (Nat.le_of_ble_eq_true rfl) (Nat.le_of_ble_eq_true rfl) ?_
        exact z_postY (r := z_sets c 2) (c' := z_setS c (fun k => if k = 2 then v else z_sets c k)) (by simp only [z_setC, i1]; exact if_pos i2) (z_fr1 w_fr_me ho.2.2.2.1) ⟨_, _, _, _, _, _, _, _, hc⟩ rfl
theorem sp_C_cancel (h : z_coreL G M P a kd rl ol sg ra oa ras oas c) (hs : z_small c) (ho : z_own G s0 a rl ol sg ra oa ras oas) {x : Int32} : w_S l G tX2_cancel (7, 1, 8) [.ref a, .int x] M (z_post G P s0 a M (z_cancelC c x)) := by
  have hg := h.2.1
  have hal : w_AL G M rl ra ras := h.2.2.2.2.1
  have hgl := hal.choose_spec.1
  have hol : w_AL G M ol oa oas := h.2.2.2.2.2.1
  have hgo := hol.choose_spec.1
  have hlen : ras.length = (z_robs c).length := h.2.2.2.2.2.2.1
  have hleo : oas.length = (z_ords c).length := h.2.2.2.2.2.2.2.1
  have h6 : (z_robs c).length ≤ 6 := hs.2.2.2.2.1
  have h10 : (z_ords c).length ≤ 10 := hs.2.2.2.2.2.1
  obtain ⟨n1, n2, n3⟩ := z_idxL hs
  refine w_start (by decide) (Nat.le_of_ble_eq_true rfl) (fun X => ?_)
  refine wa_locals [(0, _), (1, _)] [0, 1] rfl ?_
  refine wa_aload_n 0 dX2_cancel_0 rfl rfl ?_
  refine wa_iload_n 1 dX2_cancel_1 rfl rfl ?_
  refine wc_isI (wr_V dX2_cancel_2 mX2_114 (sp_hasRobot h hs) hg rfl rfl rfl (Nat.le_of_ble_eq_true rfl)) ?_
  refine wa_if_ne 12 dX2_cancel_5 rfl (fun c5 => ?_) (fun c5 => ?_)
  ·
    obtain ⟨k, i1, hk, rfl⟩ := z_yes n1 c5
    obtain ⟨r, hr⟩ : ∃ r, (z_robs c)[k]? = some r := ⟨_, List.getElem?_eq_getElem hk⟩
    obtain ⟨y, hy, pv, hrp, hrn⟩ := z_robAt h hr
    obtain ⟨dn, hpy, hob, hrest⟩ := id hrp
    have hho := (hs.2.2.2.2.2.2.1 r (List.mem_of_getElem? hr)).2.2.2
    have hm1 := z_enc_m1 (g := z_has r) (fun j e => by have := hho j e; omega)
    have hcl : z_cell r < 2 ^ 31 := by have := (hs.2.2.2.2.2.2.1 r (List.mem_of_getElem? hr)).1; omega
    refine wa_iconst (0) dX2_cancel_12 (by decide) ?_
    refine wa_iconst (1) dX2_cancel_13 (by decide) ?_
    refine wc_isV (wr_S dX2_cancel_14 mX2_105 sp_refuse2N rfl rfl rfl (Nat.le_of_ble_eq_true rfl)) ?_
    refine wa_aload_n 0 dX2_cancel_17 rfl rfl ?_
    refine wa_getf dX2_cancel_18 gX2_12 hg rfl ?_
    refine wa_iload_n 1 dX2_cancel_21 rfl rfl ?_
    refine wc_isA (wr_V dX2_cancel_22 mX2_42 (sp_get hal hy) hgl rfl rfl rfl (Nat.le_of_ble_eq_true rfl)) ?_
    refine wa_castS dX2_cancel_25 q259 hob rfl ?_
    refine wa_astore_n [(2, _), (0, _), (1, _)] dX2_cancel_28 rfl (Nat.le_of_ble_eq_true rfl) rfl ?_
    refine wa_aload_n 0 dX2_cancel_29 rfl rfl ?_
    refine wc_isI (wr_V dX2_cancel_30 mX2_144 (sp_hasPlan hrp) hob rfl rfl rfl (Nat.le_of_ble_eq_true rfl)) ?_
    refine wa_if_ne 40 dX2_cancel_33 rfl (fun c33 => ?_) (fun c33 => ?_)
    ·
      have i2 : ¬ z_plan r = [] := fun q => z_yN c33 (hrn.mpr q)
      refine wa_iconst (0) dX2_cancel_40 (by decide) ?_
      refine wa_bipush (14) dX2_cancel_41 (by decide) ?_
      refine wc_isV (wr_S dX2_cancel_43 mX2_105 sp_refuse2N rfl rfl rfl (Nat.le_of_ble_eq_true rfl)) ?_
      cases i5 : z_robotEver c (z_cell r) (nI k) with
      | some i =>
        refine wa_aload_n 1 dX2_cancel_46 rfl rfl ?_
        refine wa_aload_n 0 dX2_cancel_47 rfl rfl ?_
        refine wa_getf dX2_cancel_48 gX2_151 hob rfl ?_
        refine wa_iload_n 2 dX2_cancel_51 rfl rfl ?_
        refine wc_isx (wr_V dX2_cancel_52 mX2_108 (sp_occT h hs hcl i5) hg rfl rfl rfl (Nat.le_of_ble_eq_true rfl)) ?_
        exact wx_out (fun _ h => by cases h) (Nat.le_of_ble_eq_true rfl) (Nat.le_of_ble_eq_true rfl) (z_postN (by simp only [z_cancelC, i1, hr, if_neg i2, i5]))
      | none =>
        refine wa_aload_n 1 dX2_cancel_46 rfl rfl ?_
        refine wa_aload_n 0 dX2_cancel_47 rfl rfl ?_
        refine wa_getf dX2_cancel_48 gX2_151 hob rfl ?_
        refine wa_iload_n 2 dX2_cancel_51 rfl rfl ?_
        refine wc_isV (wr_V dX2_cancel_52 mX2_108 (sp_occN h hs hcl i5) hg rfl rfl rfl (Nat.le_of_ble_eq_true rfl)) ?_
        refine wa_aload_n 0 dX2_cancel_55 rfl rfl ?_
        refine wc_isI (wr_V dX2_cancel_56 mX2_148 (sp_ticksLeft hrp) hob rfl rfl rfl (Nat.le_of_ble_eq_true rfl)) ?_
        refine wa_istore_n [(3, _), (2, _), (0, _), (1, _)] dX2_cancel_59 rfl (Nat.le_of_ble_eq_true rfl) rfl ?_
        refine wa_aload_n 1 dX2_cancel_60 rfl rfl ?_
        refine wc_V (wr_V dX2_cancel_61 mX2_181 (sp_drop hrp) hob rfl rfl rfl (Nat.le_of_ble_eq_true rfl)) (fun M61 h61 => ?_)
        have hc := h.setRob hy h61.2 ⟨none, h61.1, by simp [z_drop, z_plan]⟩
        refine wa_iload_n 0 dX2_cancel_64 rfl rfl ?_
        refine wa_iret FieldType.int dX2_cancel_65 rfl rfl (Nat.le_of_ble_eq_true rfl) (Nat.le_of_ble_eq_true rfl) ?_
        exact z_postY (r := nI (z_plan r).length) (c' := z_setR c ((z_robs c).set k (z_drop r))) (by simp only [z_cancelC, i1, hr, if_neg i2, i5]) (z_fr1 h61.2 (ho.2.2.2.2.2.2.1 y (List.mem_of_getElem? hy))) ⟨_, _, _, _, _, _, _, _, hc⟩ rfl
      
    ·
      have i2 := hrn.mp (z_nN c33)
      refine wa_iconst (1) dX2_cancel_36 (by decide) ?_
      refine wa_goto 41 dX2_cancel_37 rfl ?_
      refine wa_bipush (14) dX2_cancel_41 (by decide) ?_
      refine wc_isx (wr_S dX2_cancel_43 mX2_105 sp_refuse2T rfl rfl rfl (Nat.le_of_ble_eq_true rfl)) ?_
      exact wx_out (fun _ h => by cases h) (Nat.le_of_ble_eq_true rfl) (Nat.le_of_ble_eq_true rfl) (z_postN (by simp only [z_cancelC, i1, hr, if_pos i2]))
  ·
    have i1 := z_not c5
    refine wa_iconst (1) dX2_cancel_8 (by decide) ?_
    refine wa_goto 13 dX2_cancel_9 rfl ?_
    refine wa_iconst (1) dX2_cancel_13 (by decide) ?_
    refine wc_isx (wr_S dX2_cancel_14 mX2_105 sp_refuse2T rfl rfl rfl (Nat.le_of_ble_eq_true rfl)) ?_
    exact wx_out (fun _ h => by cases h) (Nat.le_of_ble_eq_true rfl) (Nat.le_of_ble_eq_true rfl) (z_postN (by simp only [z_cancelC, i1]))
theorem sp_C_assign (h : z_coreL G M P a kd rl ol sg ra oa ras oas c) (hs : z_small c) (ho : z_own G s0 a rl ol sg ra oa ras oas) {x x2 : Int32} : w_S l G tX2_assign (7, 1, 8) [.ref a, .int x, .int x2] M (z_post G P s0 a M (z_assignC c x x2)) := by
  have hg := h.2.1
  have hal : w_AL G M rl ra ras := h.2.2.2.2.1
  have hgl := hal.choose_spec.1
  have hol : w_AL G M ol oa oas := h.2.2.2.2.2.1
  have hgo := hol.choose_spec.1
  have hlen : ras.length = (z_robs c).length := h.2.2.2.2.2.2.1
  have hleo : oas.length = (z_ords c).length := h.2.2.2.2.2.2.2.1
  have h6 : (z_robs c).length ≤ 6 := hs.2.2.2.2.1
  have h10 : (z_ords c).length ≤ 10 := hs.2.2.2.2.2.1
  obtain ⟨n1, n2, n3⟩ := z_idxL hs
  refine w_start (by decide) (Nat.le_of_ble_eq_true rfl) (fun X => ?_)
  refine wa_locals [(0, _), (1, _), (2, _)] [0, 1, 2] rfl ?_
  refine wa_aload_n 0 dX2_assign_0 rfl rfl ?_
  refine wa_iload_n 1 dX2_assign_1 rfl rfl ?_
  refine wc_isI (wr_V dX2_assign_2 mX2_114 (sp_hasRobot h hs) hg rfl rfl rfl (Nat.le_of_ble_eq_true rfl)) ?_
  refine wa_if_eq 16 dX2_assign_5 rfl (fun c5 => ?_) (fun c5 => ?_)
  ·
    have i1 := z_not c5
    refine wa_iconst (1) dX2_assign_16 (by decide) ?_
    refine wa_goto 21 dX2_assign_17 rfl ?_
    refine wa_iconst (1) dX2_assign_21 (by decide) ?_
    refine wc_isx (wr_S dX2_assign_22 mX2_105 sp_refuse2T rfl rfl rfl (Nat.le_of_ble_eq_true rfl)) ?_
    exact wx_out (fun _ h => by cases h) (Nat.le_of_ble_eq_true rfl) (Nat.le_of_ble_eq_true rfl) (z_postN (by simp only [z_assignC, i1]))
  ·
    obtain ⟨k, i1, hk, rfl⟩ := z_yes n1 c5
    refine wa_aload_n 0 dX2_assign_8 rfl rfl ?_
    refine wa_iload_n 2 dX2_assign_9 rfl rfl ?_
    refine wc_isI (wr_V dX2_assign_10 mX2_124 (sp_hasOrder h hs) hg rfl rfl rfl (Nat.le_of_ble_eq_true rfl)) ?_
    refine wa_if_ne 20 dX2_assign_13 rfl (fun c13 => ?_) (fun c13 => ?_)
    ·
      obtain ⟨i, i2, hi, rfl⟩ := z_yes n2 c13
      obtain ⟨r, hr⟩ : ∃ r, (z_robs c)[k]? = some r := ⟨_, List.getElem?_eq_getElem hk⟩
      obtain ⟨y, hy, pv, hrp, hrn⟩ := z_robAt h hr
      obtain ⟨dn, hpy, hob, hrest⟩ := id hrp
      have hho := (hs.2.2.2.2.2.2.1 r (List.mem_of_getElem? hr)).2.2.2
      have hm1 := z_enc_m1 (g := z_has r) (fun j e => by have := hho j e; omega)
      obtain ⟨od, hod⟩ : ∃ od, (z_ords c)[i]? = some od := ⟨_, List.getElem?_eq_getElem hi⟩
      obtain ⟨yo, hyo, hor⟩ := z_ordAt h hod
      obtain ⟨la, hp1, hp2, hoo, hrest2⟩ := id hor
      have hpk := hs.2.2.2.2.2.2.2 od (List.mem_of_getElem? hod)
      have hyoy : yo ≠ y := w_neC hoo hob (by decide)
      refine wa_iconst (0) dX2_assign_20 (by decide) ?_
      refine wa_iconst (1) dX2_assign_21 (by decide) ?_
      refine wc_isV (wr_S dX2_assign_22 mX2_105 sp_refuse2N rfl rfl rfl (Nat.le_of_ble_eq_true rfl)) ?_
      refine wa_aload_n 0 dX2_assign_25 rfl rfl ?_
      refine wa_getf dX2_assign_26 gX2_12 hg rfl ?_
      refine wa_iload_n 1 dX2_assign_29 rfl rfl ?_
      refine wc_isA (wr_V dX2_assign_30 mX2_42 (sp_get hal hy) hgl rfl rfl rfl (Nat.le_of_ble_eq_true rfl)) ?_
      refine wa_castS dX2_assign_33 q259 hob rfl ?_
      refine wa_getf dX2_assign_36 gX2_117 hob rfl ?_
      refine wa_iconst (-1) dX2_assign_39 (by decide) ?_
      refine wa_icmp_eq 47 dX2_assign_40 rfl (fun c40 => ?_) (fun c40 => ?_)
      ·
        have i3 := hm1.mp c40
        refine wa_iconst (0) dX2_assign_47 (by decide) ?_
        refine wa_bipush (7) dX2_assign_48 (by decide) ?_
        refine wa_aload_n 0 dX2_assign_50 rfl rfl ?_
        refine wa_getf dX2_assign_51 gX2_12 hg rfl ?_
        refine wa_iload_n 1 dX2_assign_54 rfl rfl ?_
        refine wc_isA (wr_V dX2_assign_55 mX2_42 (sp_get hal hy) hgl rfl rfl rfl (Nat.le_of_ble_eq_true rfl)) ?_
        refine wa_castS dX2_assign_58 q259 hob rfl ?_
        refine wa_getf dX2_assign_61 gX2_117 hob rfl ?_
        refine wc_isV (wr_S dX2_assign_64 mX2_98 sp_refuse3N rfl rfl rfl (Nat.le_of_ble_eq_true rfl)) ?_
        refine wa_aload_n 0 dX2_assign_67 rfl rfl ?_
        refine wa_getf dX2_assign_68 gX2_18 hg rfl ?_
        refine wa_iload_n 2 dX2_assign_71 rfl rfl ?_
        refine wc_isA (wr_V dX2_assign_72 mX2_42 (sp_get hol hyo) hgo rfl rfl rfl (Nat.le_of_ble_eq_true rfl)) ?_
        refine wa_castS dX2_assign_75 q377 hoo rfl ?_
        refine wa_astore_n [(3, _), (0, _), (1, _), (2, _)] dX2_assign_78 rfl (Nat.le_of_ble_eq_true rfl) rfl ?_
        refine wa_aload_n 0 dX2_assign_79 rfl rfl ?_
        refine wa_getf dX2_assign_80 gX2_127 hoo rfl ?_
        refine wa_if_eq 90 dX2_assign_83 rfl (fun c83 => ?_) (fun c83 => ?_)
        ·
          have i4 : z_state od = 0 := (nI_eq (by omega) (by decide)).mp c83
          refine wa_iconst (0) dX2_assign_90 (by decide) ?_
          refine wa_bipush (8) dX2_assign_91 (by decide) ?_
          refine wa_aload_n 0 dX2_assign_93 rfl rfl ?_
          refine wa_getf dX2_assign_94 gX2_127 hoo rfl ?_
          refine wc_isV (wr_S dX2_assign_97 mX2_98 sp_refuse3N rfl rfl rfl (Nat.le_of_ble_eq_true rfl)) ?_
          refine wa_aload_n 1 dX2_assign_100 rfl rfl ?_
          refine wa_getf dX2_assign_101 gX2_12 hg rfl ?_
          refine wa_iload_n 2 dX2_assign_104 rfl rfl ?_
          refine wc_isA (wr_V dX2_assign_105 mX2_42 (sp_get hal hy) hgl rfl rfl rfl (Nat.le_of_ble_eq_true rfl)) ?_
          refine wa_castS dX2_assign_108 q259 hob rfl ?_
          refine wa_iload_n 3 dX2_assign_111 rfl rfl ?_
          refine wa_putf [_, _, _, _, _, _, _] dX2_assign_112 pX2_117 hob (Nat.le_of_ble_eq_true rfl) rfl rfl rfl ?_
          have hr1 := hrp.setHas (some i) hob
          have hc := h.setRob hy w_fr_me ⟨pv, hr1, hrn⟩
          have hoo1 := (w_set_ne (M := M) (e := .inr (5, [.int (nI (z_cell r)), .int (z_batt r), .int (z_enc (some i)), .int (z_steps r), va_rf pv, .int dn, .int (z_cost r)])) hyoy).trans hoo
          have hor1 : z_ord (M.set y (.inr (5, [.int (nI (z_cell r)), .int (z_batt r), .int (z_enc (some i)), .int (z_steps r), va_rf pv, .int dn, .int (z_cost r)]))) (fun q => P q ∧ q ≠ sg) yo i od := hc.2.2.2.2.2.2.2.2.2.1 i yo od hyo hod
          refine wa_aload_n 0 dX2_assign_115 rfl rfl ?_
          refine wa_iconst (1) dX2_assign_116 (by decide) ?_
          refine wa_putf [_, _, _, _, _, _] dX2_assign_117 pX2_127 hoo1 (Nat.le_of_ble_eq_true rfl) rfl rfl rfl ?_
          have hor2 := hor1.setSt (z_picked od) 1 (z_del od) hoo1
          have hc2 := hc.setOrd hyo w_fr_me hor2
          obtain ⟨la2, -, -, hoo2, -⟩ := id hor2
          refine wa_aload_n 0 dX2_assign_120 rfl rfl ?_
          refine wc_isI (wr_V dX2_assign_121 mX2_130 (sp_left hor2 hpk.1) hoo2 rfl rfl rfl (Nat.le_of_ble_eq_true rfl)) ?_
          refine wa_iret FieldType.int dX2_assign_124 rfl rfl (Nat.le_of_ble_eq_true rfl) (Nat.le_of_ble_eq_true rfl) ?_
          exact z_postY (r := nI ((z_lines od).length - z_picked od)) (by simp only [z_assignC, i1, i2, hr, hod, i3, if_pos i4]; rfl) ((z_fr1 w_fr_me (ho.2.2.2.2.2.2.1 y (List.mem_of_getElem? hy))).set (ho.2.2.2.2.2.2.2 yo (List.mem_of_getElem? hyo))) ⟨_, _, _, _, _, _, _, _, hc2⟩ rfl
        ·
          have i4 : ¬ z_state od = 0 := fun q => c83 (by rw [q]; rfl)
          refine wa_iconst (1) dX2_assign_86 (by decide) ?_
          refine wa_goto 91 dX2_assign_87 rfl ?_
          refine wa_bipush (8) dX2_assign_91 (by decide) ?_
          refine wa_aload_n 0 dX2_assign_93 rfl rfl ?_
          refine wa_getf dX2_assign_94 gX2_127 hoo rfl ?_
          refine wc_isx (wr_S dX2_assign_97 mX2_98 sp_refuse3T rfl rfl rfl (Nat.le_of_ble_eq_true rfl)) ?_
          exact wx_out (fun _ h => by cases h) (Nat.le_of_ble_eq_true rfl) (Nat.le_of_ble_eq_true rfl) (z_postN (by simp only [z_assignC, i1, i2, hr, hod, i3, if_neg i4]))
      ·
        obtain ⟨o3, i3⟩ : ∃ o, z_has r = some o := Option.ne_none_iff_exists'.mp (fun q => c40 (hm1.mpr q))
        refine wa_iconst (1) dX2_assign_43 (by decide) ?_
        refine wa_goto 48 dX2_assign_44 rfl ?_
        refine wa_bipush (7) dX2_assign_48 (by decide) ?_
        refine wa_aload_n 0 dX2_assign_50 rfl rfl ?_
        refine wa_getf dX2_assign_51 gX2_12 hg rfl ?_
        refine wa_iload_n 1 dX2_assign_54 rfl rfl ?_
        refine wc_isA (wr_V dX2_assign_55 mX2_42 (sp_get hal hy) hgl rfl rfl rfl (Nat.le_of_ble_eq_true rfl)) ?_
        refine wa_castS dX2_assign_58 q259 hob rfl ?_
        refine wa_getf dX2_assign_61 gX2_117 hob rfl ?_
        refine wc_isx (wr_S dX2_assign_64 mX2_98 sp_refuse3T rfl rfl rfl (Nat.le_of_ble_eq_true rfl)) ?_
        exact wx_out (fun _ h => by cases h) (Nat.le_of_ble_eq_true rfl) (Nat.le_of_ble_eq_true rfl) (z_postN (by simp only [z_assignC, i1, i2, hr, hod, i3, z_enc]))
    ·
      have i2 := z_not c13
      refine wa_iconst (1) dX2_assign_16 (by decide) ?_
      refine wa_goto 21 dX2_assign_17 rfl ?_
      refine wa_iconst (1) dX2_assign_21 (by decide) ?_
      refine wc_isx (wr_S dX2_assign_22 mX2_105 sp_refuse2T rfl rfl rfl (Nat.le_of_ble_eq_true rfl)) ?_
      exact wx_out (fun _ h => by cases h) (Nat.le_of_ble_eq_true rfl) (Nat.le_of_ble_eq_true rfl) (z_postN (by simp only [z_assignC, i1, i2]))
theorem sp_C_release (h : z_coreL G M P a kd rl ol sg ra oa ras oas c) (hs : z_small c) (ho : z_own G s0 a rl ol sg ra oa ras oas) {x : Int32} : w_S l G tX2_release (7, 1, 8) [.ref a, .int x] M (z_post G P s0 a M (z_releaseC c x)) := by
  have hg := h.2.1
  have hal : w_AL G M rl ra ras := h.2.2.2.2.1
  have hgl := hal.choose_spec.1
  have hol : w_AL G M ol oa oas := h.2.2.2.2.2.1
  have hgo := hol.choose_spec.1
  have hlen : ras.length = (z_robs c).length := h.2.2.2.2.2.2.1
  have hleo : oas.length = (z_ords c).length := h.2.2.2.2.2.2.2.1
  have h6 : (z_robs c).length ≤ 6 := hs.2.2.2.2.1
  have h10 : (z_ords c).length ≤ 10 := hs.2.2.2.2.2.1
  obtain ⟨n1, n2, n3⟩ := z_idxL hs
  refine w_start (by decide) (Nat.le_of_ble_eq_true rfl) (fun X => ?_)
  refine wa_locals [(0, _), (1, _)] [0, 1] rfl ?_
  refine wa_aload_n 0 dX2_release_0 rfl rfl ?_
  refine wa_iload_n 1 dX2_release_1 rfl rfl ?_
  refine wc_isI (wr_V dX2_release_2 mX2_114 (sp_hasRobot h hs) hg rfl rfl rfl (Nat.le_of_ble_eq_true rfl)) ?_
  refine wa_if_ne 12 dX2_release_5 rfl (fun c5 => ?_) (fun c5 => ?_)
  ·
    obtain ⟨k, i1, hk, rfl⟩ := z_yes n1 c5
    obtain ⟨r, hr⟩ : ∃ r, (z_robs c)[k]? = some r := ⟨_, List.getElem?_eq_getElem hk⟩
    obtain ⟨y, hy, pv, hrp, hrn⟩ := z_robAt h hr
    obtain ⟨dn, hpy, hob, hrest⟩ := id hrp
    have hho := (hs.2.2.2.2.2.2.1 r (List.mem_of_getElem? hr)).2.2.2
    have hm1 := z_enc_m1 (g := z_has r) (fun j e => by have := hho j e; omega)
    refine wa_iconst (0) dX2_release_12 (by decide) ?_
    refine wa_iconst (1) dX2_release_13 (by decide) ?_
    refine wc_isV (wr_S dX2_release_14 mX2_105 sp_refuse2N rfl rfl rfl (Nat.le_of_ble_eq_true rfl)) ?_
    refine wa_aload_n 0 dX2_release_17 rfl rfl ?_
    refine wa_getf dX2_release_18 gX2_12 hg rfl ?_
    refine wa_iload_n 1 dX2_release_21 rfl rfl ?_
    refine wc_isA (wr_V dX2_release_22 mX2_42 (sp_get hal hy) hgl rfl rfl rfl (Nat.le_of_ble_eq_true rfl)) ?_
    refine wa_castS dX2_release_25 q259 hob rfl ?_
    refine wa_getf dX2_release_28 gX2_117 hob rfl ?_
    refine wa_istore_n [(2, _), (0, _), (1, _)] dX2_release_31 rfl (Nat.le_of_ble_eq_true rfl) rfl ?_
    refine wa_iload_n 0 dX2_release_32 rfl rfl ?_
    refine wa_iconst (-1) dX2_release_33 (by decide) ?_
    refine wa_icmp_ne 41 dX2_release_34 rfl (fun c34 => ?_) (fun c34 => ?_)
    ·
      obtain ⟨i, i2⟩ : ∃ o, z_has r = some o := Option.ne_none_iff_exists'.mp (fun q => c34 (hm1.mpr q))
      have hi := hho i i2
      obtain ⟨od, hod⟩ : ∃ od, (z_ords c)[i]? = some od := ⟨_, List.getElem?_eq_getElem hi⟩
      obtain ⟨yo, hyo, hor⟩ := z_ordAt h hod
      obtain ⟨la, hp1, hp2, hoo, hrest2⟩ := id hor
      have hpk := hs.2.2.2.2.2.2.2 od (List.mem_of_getElem? hod)
      have hyoy : yo ≠ y := w_neC hoo hob (by decide)
      have ee : z_enc (z_has r) = nI i := by rw [i2]; rfl
      refine wa_iconst (0) dX2_release_41 (by decide) ?_
      refine wa_bipush (7) dX2_release_42 (by decide) ?_
      refine wa_iconst (-1) dX2_release_44 (by decide) ?_
      refine wc_isV (wr_S dX2_release_45 mX2_98 sp_refuse3N rfl rfl rfl (Nat.le_of_ble_eq_true rfl)) ?_
      refine wa_aload_n 1 dX2_release_48 rfl rfl ?_
      rw [ee]
      refine wa_getf dX2_release_49 gX2_12 hg rfl ?_
      refine wa_iload_n 2 dX2_release_52 rfl rfl ?_
      refine wc_isA (wr_V dX2_release_53 mX2_42 (sp_get hal hy) hgl rfl rfl rfl (Nat.le_of_ble_eq_true rfl)) ?_
      refine wa_castS dX2_release_56 q259 hob rfl ?_
      refine wa_iconst (-1) dX2_release_59 (by decide) ?_
      refine wa_putf [_, _, _, _, _, _, _] dX2_release_60 pX2_117 hob (Nat.le_of_ble_eq_true rfl) rfl rfl rfl ?_
      have hr1 := hrp.setHas none hob
      have hc := h.setRob hy w_fr_me ⟨pv, hr1, hrn⟩
      have hoo1 := (w_set_ne (M := M) (e := .inr (5, [.int (nI (z_cell r)), .int (z_batt r), .int (z_enc none), .int (z_steps r), va_rf pv, .int dn, .int (z_cost r)])) hyoy).trans hoo
      have hor1 : z_ord (M.set y (.inr (5, [.int (nI (z_cell r)), .int (z_batt r), .int (z_enc none), .int (z_steps r), va_rf pv, .int dn, .int (z_cost r)]))) (fun q => P q ∧ q ≠ sg) yo i od := hc.2.2.2.2.2.2.2.2.2.1 i yo od hyo hod
      refine wa_aload_n 1 dX2_release_63 rfl rfl ?_
      refine wa_getf dX2_release_64 gX2_18 hc.2.1 rfl ?_
      refine wa_iload_n 0 dX2_release_67 rfl rfl ?_
      refine wc_isA (wr_V dX2_release_68 mX2_42 (sp_get hc.2.2.2.2.2.1 hyo) hc.2.2.2.2.2.1.choose_spec.1 rfl rfl rfl (Nat.le_of_ble_eq_true rfl)) ?_
      refine wa_castS dX2_release_71 q377 hoo1 rfl ?_
      refine wa_iconst (0) dX2_release_74 (by decide) ?_
      refine wa_putf [_, _, _, _, _, _] dX2_release_75 pX2_127 hoo1 (Nat.le_of_ble_eq_true rfl) rfl rfl rfl ?_
      have hor2 := hor1.setSt (z_picked od) 0 (z_del od) hoo1
      have hc2 := hc.setOrd hyo w_fr_me hor2
      have hoo2 := w_set_self (e := .inr (6, [.int (nI i), .int (z_due od), .ref la, .int (nI (z_picked od)), .int 0, .int (z_del od)])) hoo1
      refine wa_aload_n 1 dX2_release_78 rfl rfl ?_
      refine wa_getf dX2_release_79 gX2_18 hc2.2.1 rfl ?_
      refine wa_iload_n 0 dX2_release_82 rfl rfl ?_
      refine wc_isA (wr_V dX2_release_83 mX2_42 (sp_get hc2.2.2.2.2.2.1 hyo) hc2.2.2.2.2.2.1.choose_spec.1 rfl rfl rfl (Nat.le_of_ble_eq_true rfl)) ?_
      refine wa_castS dX2_release_86 q377 hoo2 rfl ?_
      refine wa_iconst (0) dX2_release_89 (by decide) ?_
      refine wa_putf [_, _, _, _, _, _] dX2_release_90 pX2_133 hoo2 (Nat.le_of_ble_eq_true rfl) rfl rfl rfl ?_
      rw [w_set_set]
      have hor3 := hor1.setSt 0 0 (z_del od) hoo1
      have hc3 := hc.setOrd hyo w_fr_me hor3
      refine wa_iload_n 0 dX2_release_93 rfl rfl ?_
      refine wa_iret FieldType.int dX2_release_94 rfl rfl (Nat.le_of_ble_eq_true rfl) (Nat.le_of_ble_eq_true rfl) ?_
      exact z_postY (r := nI i) (by simp only [z_releaseC, i1, hr, i2, hod]; rfl) ((z_fr1 w_fr_me (ho.2.2.2.2.2.2.1 y (List.mem_of_getElem? hy))).set (ho.2.2.2.2.2.2.2 yo (List.mem_of_getElem? hyo))) ⟨_, _, _, _, _, _, _, _, hc3⟩ rfl
    ·
      have i2 := hm1.mp c34
      refine wa_iconst (1) dX2_release_37 (by decide) ?_
      refine wa_goto 42 dX2_release_38 rfl ?_
      refine wa_bipush (7) dX2_release_42 (by decide) ?_
      refine wa_iconst (-1) dX2_release_44 (by decide) ?_
      refine wc_isx (wr_S dX2_release_45 mX2_98 sp_refuse3T rfl rfl rfl (Nat.le_of_ble_eq_true rfl)) ?_
      exact wx_out (fun _ h => by cases h) (Nat.le_of_ble_eq_true rfl) (Nat.le_of_ble_eq_true rfl) (z_postN (by simp only [z_releaseC, i1, hr, i2]))
  ·
    have i1 := z_not c5
    refine wa_iconst (1) dX2_release_8 (by decide) ?_
    refine wa_goto 13 dX2_release_9 rfl ?_
    refine wa_iconst (1) dX2_release_13 (by decide) ?_
    refine wc_isx (wr_S dX2_release_14 mX2_105 sp_refuse2T rfl rfl rfl (Nat.le_of_ble_eq_true rfl)) ?_
    exact wx_out (fun _ h => by cases h) (Nat.le_of_ble_eq_true rfl) (Nat.le_of_ble_eq_true rfl) (z_postN (by simp only [z_releaseC, i1]))
theorem nI_lt_not {a b : Nat} (h : a < b) (hb : b < 2 ^ 31) : ¬ nI b ≤ nI a := fun q => by have := (nI_leI hb (by omega)).mp q; omega
theorem sp_C_order (h : z_coreL G M P a kd rl ol sg ra oa ras oas c) (hs : z_small c) (ho : z_own G s0 a rl ol sg ra oa ras oas) (hP : ∀ q, s0 ≤ q → P q) (hsz0 : s0 ≤ M.sz) {due : Int32} {la : Nat} {ls : List Int32} {f : Nat → Int32} (hPla : P la) (hlas : la ≠ sg) (hla : M.get la = some (.inl (.int, ls.length, .inl f))) (hf : ∀ i x, ls[i]? = some x → f i = x) (hl3 : ls.length ≤ 3) : w_S l G tX2_order (7, 2, 16) [.ref a, .int due, .ref la] M (z_post G P s0 a M (z_orderC c due ls)) := by
  have hg := h.2.1
  have hal : w_AL G M rl ra ras := h.2.2.2.2.1
  have hgl := hal.choose_spec.1
  have hol : w_AL G M ol oa oas := h.2.2.2.2.2.1
  have hgo := hol.choose_spec.1
  have hlen : ras.length = (z_robs c).length := h.2.2.2.2.2.2.1
  have hleo : oas.length = (z_ords c).length := h.2.2.2.2.2.2.2.1
  have h6 : (z_robs c).length ≤ 6 := hs.2.2.2.2.1
  have h10 : (z_ords c).length ≤ 10 := hs.2.2.2.2.2.1
  obtain ⟨n1, n2, n3⟩ := z_idxL hs
  obtain ⟨kf, hk1, hk2⟩ := h.2.2.1
  refine w_start (by decide) (Nat.le_of_ble_eq_true rfl) (fun X => ?_)
  refine wa_locals [(0, _), (1, _), (2, _)] [0, 1, 2] rfl ?_
  have LP : ∀ (n k : Nat), k ≤ ls.length → ls.length ≤ k + n → (∀ (i : Nat) (x : Int32), i < k → ls[i]? = some x → ∃ m, z_idx x (z_size c) = some m) → w_A l G tX2_order (7, 2, 16) X 0 0 M 2 [(3, .int (nI k)), (0, .ref a), (1, .int due), (2, .ref la)] [] (z_post G P s0 a M (z_orderC c due ls)) := by
    have LQ : (∀ x ∈ ls, ∃ m, z_idx x (z_size c) = some m) → ∀ k : Nat, w_A l G tX2_order (7, 2, 16) X 0 0 M 33 [(3, .int (nI k)), (0, .ref a), (1, .int due), (2, .ref la)] [] (z_post G P s0 a M (z_orderC c due ls)) := by
      intro hall k
      obtain ⟨js, j1, j2, j3, j4⟩ := z_idxs_yes n3 ls hall
      refine wa_iload_n 2 dX2_order_33 rfl rfl ?_
      refine wa_iconst (0) dX2_order_34 (by decide) ?_
      refine wa_sipush (999) dX2_order_35 (by decide) ?_
      refine wc_isI (wr_S dX2_order_38 mX2_75 sp_between rfl rfl rfl (Nat.le_of_ble_eq_true rfl)) ?_
      refine wa_if_ne 48 dX2_order_41 rfl (fun c41 => ?_) (fun c41 => ?_)
      ·
        have i2 := z_y c41
        refine wa_iconst (0) dX2_order_48 (by decide) ?_
        refine wa_iconst (2) dX2_order_49 (by decide) ?_
        refine wc_isV (wr_S dX2_order_50 mX2_105 sp_refuse2N rfl rfl rfl (Nat.le_of_ble_eq_true rfl)) ?_
        refine wa_aload_n 1 dX2_order_53 rfl rfl ?_
        refine wa_getf dX2_order_54 gX2_18 hg rfl ?_
        refine wc_isI (wr_V dX2_order_57 mX2_38 (sp_size hol) hgo rfl rfl rfl (Nat.le_of_ble_eq_true rfl)) ?_
        refine wa_bipush (10) dX2_order_60 (by decide) ?_
        refine wa_icmp_ne 69 dX2_order_62 rfl (fun c62 => ?_) (fun c62 => ?_)
        ·
          have i3 : ¬ (z_ords c).length = 10 := fun q => c62 (by rw [hleo, q]; rfl)
          refine wa_iconst (0) dX2_order_69 (by decide) ?_
          refine wa_iconst (3) dX2_order_70 (by decide) ?_
          refine wc_isV (wr_S dX2_order_71 mX2_105 sp_refuse2N rfl rfl rfl (Nat.le_of_ble_eq_true rfl)) ?_
          have LP20 : ∀ k : Nat, k ≤ js.length → js.length ≤ k → (js.drop k).find? (fun j => decide (z_kinds c j ≠ 0)) = js.find? (fun j => decide (z_kinds c j ≠ 0)) → w_A l G tX2_order (7, 2, 16) X 0 0 M 76 [(3, .int (nI k)), (0, .ref a), (1, .int due), (2, .ref la)] [] (z_post G P s0 a M (z_orderC c due ls)) := by
            intro k hk hn e
            have i5 := z_find_end (by omega) e
            refine wa_iload_n 0 dX2_order_76 rfl rfl ?_
            refine wa_aload_n 3 dX2_order_77 rfl rfl ?_
            refine wa_alen 0 dX2_order_78 hla rfl ?_
            refine wa_icmp_ge 112 dX2_order_79 rfl (fun c79 => ?_) (fun c79 => absurd (nI_le (by omega) (by omega)) c79)
            refine wa_aload_n 1 dX2_order_112 rfl rfl ?_
            refine wa_getf dX2_order_113 gX2_18 hg rfl ?_
            refine wa_new dX2_order_116 nX2_56 (Nat.le_of_ble_eq_true rfl) (Nat.le_of_ble_eq_true rfl) ?_
            refine wa_dup dX2_order_119 rfl ?_
            refine wa_aload_n 1 dX2_order_120 rfl rfl ?_
            refine wa_getf dX2_order_121 gX2_18 (w_push_old hg) rfl ?_
            refine wc_isI (wr_V dX2_order_124 mX2_38 (sp_size (hol.keep (W := fun _ => False) w_fr.rf.push (fun z => z) (fun z => z))) (w_push_old hgo) rfl rfl rfl (Nat.le_of_ble_eq_true rfl)) ?_
            refine wa_iload_n 2 dX2_order_127 rfl rfl ?_
            refine wa_aload_n 3 dX2_order_128 rfl rfl ?_
            refine wc_isV (wr_I dX2_order_129 mX2_123 (sp_O_init w_push_self) rfl rfl rfl (Nat.le_of_ble_eq_true rfl)) ?_
            rw [w_push_set]
            refine wa_lo (fun lo hd => ?_)
            have h1 : z_coreL G (M.push (.inr (6, [.int (nI oas.length), .int due, .ref la, .int 0, .int 0, .int (-1)]))) P a kd rl ol sg ra oa ras oas c := h.keep (W := fun _ => False) w_fr.rf.push (fun _ _ z => z) (fun z => z)
            have hal1 := h1.2.2.2.2.2.1
            have hgl1 := hal1.choose_spec.1
            have g1 := w_push_self (M := M) (e := .inr (6, [.int (nI oas.length), .int due, .ref la, .int 0, .int 0, .int (-1)]))
            have hel : w_el _ M.sz := ⟨6, _, _, _, _, g1, rfl, by decide +kernel⟩
            have hne : M.sz ≠ ol := fun q => by have := w_lt hgo; omega
            have hord : z_ord (M.push (.inr (6, [.int (nI oas.length), .int due, .ref la, .int 0, .int 0, .int (-1)]))) (fun q => P q ∧ q ≠ sg) M.sz oas.length (due, js, 0, 0, -1) := ⟨la, ⟨hP _ hsz0, fun q => by obtain ⟨f, g2, _⟩ := h.2.2.2.1; have := w_lt g2; omega⟩, ⟨hPla, hlas⟩, g1, f, by rw [show (z_lines (due, js, 0, 0, -1)).length = ls.length from j2]; exact w_push_old hla, fun i q hq => by rw [hf i _ (show ls[i]? = some (nI q) by rw [j4, List.getElem?_map]; exact congrArg (Option.map nI) hq)]⟩
            have hnx : M.sz ∉ oas := fun q => by
              obtain ⟨i, hi, e⟩ := List.mem_iff_getElem.mp q
              obtain ⟨y, hy, hr⟩ := z_ordAt h (List.getElem?_eq_getElem (show i < (z_ords c).length by omega))
              obtain ⟨fs, hfs⟩ := hr.obj
              rw [List.getElem?_eq_getElem hi, e] at hy
              cases hy
              have := w_lt hfs
              omega
            refine wc_I (wr_V dX2_order_132 mX2_52 (sp_addE hal1 (by omega) hel hne) hgl1 rfl rfl rfl (Nat.le_of_ble_eq_true rfl)) (fun r132 M132 h132 => ?_)
            obtain ⟨-, oa', hal2, hoa', hf2⟩ := h132
            have hoa2 : oa' = oa ∨ ((M.push (.inr (6, [.int (nI oas.length), .int due, .ref la, .int 0, .int 0, .int (-1)]))).sz ≤ oa' ∧ P oa') := hoa'.imp id (fun e => by subst e; exact ⟨Nat.le_refl _, hP _ (Nat.le_trans hsz0 (Nat.le_succ _))⟩)
            have hc := h1.addOrd hf2 hal2 hoa2 hord hnx hd
            refine wa_pop dX2_order_135 rfl ?_
            refine wa_aload_n 1 dX2_order_136 rfl rfl ?_
            refine wa_getf dX2_order_137 gX2_18 hc.2.1 rfl ?_
            refine wc_isI (wr_V dX2_order_140 mX2_38 (sp_size hc.2.2.2.2.2.1) hc.2.2.2.2.2.1.choose_spec.1 rfl rfl rfl (Nat.le_of_ble_eq_true rfl)) ?_
            refine wa_iconst (1) dX2_order_143 (by decide) ?_
            refine wa_isub dX2_order_144 ?_
            refine wa_iret FieldType.int dX2_order_145 rfl rfl (Nat.le_of_ble_eq_true rfl) (Nat.le_of_ble_eq_true rfl) ?_
            refine z_postY (r := nI (z_ords c).length) (c' := z_setO c (z_ords c ++ [(due, js, 0, 0, -1)])) (by simp only [z_orderC, j1, if_pos i2, if_neg i3, i5]) (w_fr.trans w_fr.rf.push (z_frL hf2 ho.2.2.1 ho.2.2.2.2.2.1 hd)) ⟨_, _, _, _, _, _, _, _, hc⟩ ?_
            rw [List.length_append, hleo]
            exact nI_pred _
          have LP2 : ∀ (n k : Nat), k ≤ js.length → js.length ≤ k + n → (js.drop k).find? (fun j => decide (z_kinds c j ≠ 0)) = js.find? (fun j => decide (z_kinds c j ≠ 0)) → w_A l G tX2_order (7, 2, 16) X 0 0 M 76 [(3, .int (nI k)), (0, .ref a), (1, .int due), (2, .ref la)] [] (z_post G P s0 a M (z_orderC c due ls)) := by
            intro n
            induction n with
            | zero =>
              intro k hk hn e
              exact LP20 k hk (by omega) e
            | succ n ih =>
              intro k hk hn e
              by_cases hkl : k < js.length
              · obtain ⟨j, hj⟩ : ∃ j, js[k]? = some j := ⟨_, List.getElem?_eq_getElem hkl⟩
                have hjn := j3 j (List.mem_of_getElem? hj)
                have hfk : f (nI k).toNatClampNeg = nI j := by rw [nI_clamp (by omega)]; exact hf k _ (by rw [j4, List.getElem?_map, hj]; rfl)
                have hik : vp_in (nI k) ls.length := vp_in_nI (by omega) (by omega)
                refine wa_iload_n 0 dX2_order_76 rfl rfl ?_
                refine wa_aload_n 3 dX2_order_77 rfl rfl ?_
                refine wa_alen 0 dX2_order_78 hla rfl ?_
                refine wa_icmp_ge 112 dX2_order_79 rfl (fun c79 => absurd c79 (nI_lt_not (by omega) (by omega))) (fun c79 => ?_)
                refine wa_aload_n 1 dX2_order_82 rfl rfl ?_
                refine wa_getf dX2_order_83 gX2_32 hg rfl ?_
                refine wa_aload_n 3 dX2_order_86 rfl rfl ?_
                refine wa_iload_n 0 dX2_order_87 rfl rfl ?_
                refine wa_iald dX2_order_88 hla (by assumption) ?_
                rw [hfk]
                refine wa_iald dX2_order_89 hk1 (vp_in_nI hjn (by omega)) ?_
                rw [nI_clamp (by omega), hk2 j hjn]
                refine wa_if_eq 97 dX2_order_90 rfl (fun c90 => ?_) (fun c90 => ?_)
                ·
                  refine wa_iconst (0) dX2_order_97 (by decide) ?_
                  refine wa_bipush (12) dX2_order_98 (by decide) ?_
                  refine wa_aload_n 3 dX2_order_100 rfl rfl ?_
                  refine wa_iload_n 0 dX2_order_101 rfl rfl ?_
                  refine wa_iald dX2_order_102 hla (by assumption) ?_
                  rw [hfk]
                  refine wc_isV (wr_S dX2_order_103 mX2_98 sp_refuse3N rfl rfl rfl (Nat.le_of_ble_eq_true rfl)) ?_
                  refine wa_iinc 0 [(3, _), (0, _), (1, _), (2, _)] dX2_order_106 rfl (w_inc k) (Nat.le_of_ble_eq_true rfl) rfl ?_
                  refine wa_goto 76 dX2_order_109 rfl ?_
                  exact ih (k + 1) (by omega) (by omega) (z_find_drop hj (by simp [c90]) e)
                ·
                  have i5 := z_find_hit hj (p := (fun j => decide (z_kinds c j ≠ 0))) (by simp [c90]) e
                  refine wa_iconst (1) dX2_order_93 (by decide) ?_
                  refine wa_goto 98 dX2_order_94 rfl ?_
                  refine wa_bipush (12) dX2_order_98 (by decide) ?_
                  refine wa_aload_n 3 dX2_order_100 rfl rfl ?_
                  refine wa_iload_n 0 dX2_order_101 rfl rfl ?_
                  refine wa_iald dX2_order_102 hla (by assumption) ?_
                  rw [hfk]
                  refine wc_isx (wr_S dX2_order_103 mX2_98 sp_refuse3T rfl rfl rfl (Nat.le_of_ble_eq_true rfl)) ?_
                  exact wx_out (fun _ h => by cases h) (Nat.le_of_ble_eq_true rfl) (Nat.le_of_ble_eq_true rfl) (z_postN (by simp only [z_orderC, j1, if_pos i2, if_neg i3, i5]))
              · exact LP20 k hk (by omega) e
          refine wa_iconst (0) dX2_order_74 (by decide) ?_
          refine wa_istore_n [(3, _), (0, _), (1, _), (2, _)] dX2_order_75 rfl (Nat.le_of_ble_eq_true rfl) rfl ?_
          exact LP2 3 0 (Nat.zero_le _) (by omega) rfl
        ·
          have i3 : (z_ords c).length = 10 := (nI_eq n2 (by decide)).mp (hleo ▸ c62)
          refine wa_iconst (1) dX2_order_65 (by decide) ?_
          refine wa_goto 70 dX2_order_66 rfl ?_
          refine wa_iconst (3) dX2_order_70 (by decide) ?_
          refine wc_isx (wr_S dX2_order_71 mX2_105 sp_refuse2T rfl rfl rfl (Nat.le_of_ble_eq_true rfl)) ?_
          exact wx_out (fun _ h => by cases h) (Nat.le_of_ble_eq_true rfl) (Nat.le_of_ble_eq_true rfl) (z_postN (by simp only [z_orderC, j1, if_pos i2, if_pos i3]))
      ·
        have i2 := z_n c41
        refine wa_iconst (1) dX2_order_44 (by decide) ?_
        refine wa_goto 49 dX2_order_45 rfl ?_
        refine wa_iconst (2) dX2_order_49 (by decide) ?_
        refine wc_isx (wr_S dX2_order_50 mX2_105 sp_refuse2T rfl rfl rfl (Nat.le_of_ble_eq_true rfl)) ?_
        exact wx_out (fun _ h => by cases h) (Nat.le_of_ble_eq_true rfl) (Nat.le_of_ble_eq_true rfl) (z_postN (by simp only [z_orderC, j1, if_neg i2]))
    intro n
    induction n with
    | zero =>
      intro k hk hn e
      refine wa_iload_n 0 dX2_order_2 rfl rfl ?_
      refine wa_aload_n 3 dX2_order_3 rfl rfl ?_
      refine wa_alen 0 dX2_order_4 hla rfl ?_
      refine wa_icmp_ge 33 dX2_order_5 rfl (fun c5 => ?_) (fun c5 => absurd (nI_le (by omega) (by omega)) c5)
      exact LQ (fun x hx => by obtain ⟨i, hi, q⟩ := List.mem_iff_getElem.mp hx; exact e i x (by omega) (by rw [← q]; exact List.getElem?_eq_getElem hi)) k
    | succ n ih =>
      intro k hk hn e
      by_cases hkl : k < ls.length
      · obtain ⟨x, hx⟩ : ∃ x, ls[k]? = some x := ⟨_, List.getElem?_eq_getElem hkl⟩
        have hfk : f (nI k).toNatClampNeg = x := by rw [nI_clamp (by omega)]; exact hf k _ hx
        have hik : vp_in (nI k) ls.length := vp_in_nI (by omega) (by omega)
        refine wa_iload_n 0 dX2_order_2 rfl rfl ?_
        refine wa_aload_n 3 dX2_order_3 rfl rfl ?_
        refine wa_alen 0 dX2_order_4 hla rfl ?_
        refine wa_icmp_ge 33 dX2_order_5 rfl (fun c5 => absurd c5 (nI_lt_not (by omega) (by omega))) (fun c5 => ?_)
        refine wa_aload_n 1 dX2_order_8 rfl rfl ?_
        refine wa_aload_n 3 dX2_order_9 rfl rfl ?_
        refine wa_iload_n 0 dX2_order_10 rfl rfl ?_
        refine wa_iald dX2_order_11 hla (by assumption) ?_
        rw [hfk]
        refine wc_isI (wr_V dX2_order_12 mX2_102 (sp_hasCell h hs) hg rfl rfl rfl (Nat.le_of_ble_eq_true rfl)) ?_
        refine wa_if_ne 22 dX2_order_15 rfl (fun c15 => ?_) (fun c15 => ?_)
        ·
          refine wa_iconst (0) dX2_order_22 (by decide) ?_
          refine wa_iconst (1) dX2_order_23 (by decide) ?_
          refine wc_isV (wr_S dX2_order_24 mX2_105 sp_refuse2N rfl rfl rfl (Nat.le_of_ble_eq_true rfl)) ?_
          refine wa_iinc 0 [(3, _), (0, _), (1, _), (2, _)] dX2_order_27 rfl (w_inc k) (Nat.le_of_ble_eq_true rfl) rfl ?_
          refine wa_goto 2 dX2_order_30 rfl ?_
          exact ih (k + 1) (by omega) (by omega) (fun i y hi hy => by
            rcases Nat.lt_succ_iff_lt_or_eq.mp hi with hi | rfl
            · exact e i y hi hy
            · rw [hx] at hy
              cases hy
              obtain ⟨m, hm, -⟩ := z_yes n3 c15
              exact ⟨m, hm⟩)
        ·
          have i1 := z_idxs_no (z_not c15) ls (List.mem_of_getElem? hx)
          refine wa_iconst (1) dX2_order_18 (by decide) ?_
          refine wa_goto 23 dX2_order_19 rfl ?_
          refine wa_iconst (1) dX2_order_23 (by decide) ?_
          refine wc_isx (wr_S dX2_order_24 mX2_105 sp_refuse2T rfl rfl rfl (Nat.le_of_ble_eq_true rfl)) ?_
          exact wx_out (fun _ h => by cases h) (Nat.le_of_ble_eq_true rfl) (Nat.le_of_ble_eq_true rfl) (z_postN (by simp only [z_orderC, i1]))
      · have hall : ∀ x ∈ ls, ∃ m, z_idx x (z_size c) = some m := fun x hx => by obtain ⟨i, hi, q⟩ := List.mem_iff_getElem.mp hx; exact e i x (by omega) (by rw [← q]; exact List.getElem?_eq_getElem hi)
        refine wa_iload_n 0 dX2_order_2 rfl rfl ?_
        refine wa_aload_n 3 dX2_order_3 rfl rfl ?_
        refine wa_alen 0 dX2_order_4 hla rfl ?_
        refine wa_icmp_ge 33 dX2_order_5 rfl (fun c5 => ?_) (fun c5 => absurd (nI_le (by omega) (by omega)) c5)
        exact LQ hall k
  refine wa_iconst (0) dX2_order_0 (by decide) ?_
  refine wa_istore_n [(3, _), (0, _), (1, _), (2, _)] dX2_order_1 rfl (Nat.le_of_ble_eq_true rfl) rfl ?_
  exact LP 3 0 (Nat.zero_le _) (by omega) (fun i x h => absurd h (Nat.not_lt_zero i))
end MU
