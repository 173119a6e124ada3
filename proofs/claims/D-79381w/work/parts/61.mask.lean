/-! ===== the Model: more that is asked of its row ===== -/
set_option maxRecDepth 100000
def z_apart (c : z_C) : Prop := ∀ (i j t : Nat) (r r' : z_R), (z_robs c)[i]? = some r → (z_robs c)[j]? = some r' → z_ahead r t = z_ahead r' t → i = j
/-- an order is under way exactly if a robot has it, and then one alone -/
def z_held (c : z_C) : Prop := (∀ (i j o : Nat) (r r' : z_R), (z_robs c)[i]? = some r → (z_robs c)[j]? = some r' → z_has r = some o → z_has r' = some o → i = j) ∧
  ∀ (i : Nat) (o : z_O), (z_ords c)[i]? = some o → (z_state o = 1 ↔ z_with c i ≠ none) ∧ (z_state o = 2 → 0 ≤ z_del o) ∧ (z_state o ≠ 2 → z_del o = -1) ∧ z_state o ≤ 2 ∧ (z_state o = 0 → z_picked o = 0)
theorem z_withFrom_some : ∀ (rs : List z_R) (k i j : Nat), z_withFrom k rs i = some j → k ≤ j ∧ ∃ r, rs[j - k]? = some r ∧ z_has r = some i := by
  intro rs
  induction rs with
  | nil => intro k i j h; cases h
  | cons r rs ih =>
    intro k i j h
    rw [z_withFrom] at h
    split at h
    · rename_i hr
      cases h
      exact ⟨Nat.le_refl _, r, by simp, hr⟩
    · obtain ⟨h1, r', h2, h3⟩ := ih _ _ _ h
      refine ⟨by omega, r', ?_, h3⟩
      rw [show j - k = (j - (k + 1)) + 1 by omega, List.getElem?_cons_succ]
      exact h2
theorem z_withFrom_none : ∀ (rs : List z_R) (k i : Nat), z_withFrom k rs i = none ↔ ∀ r ∈ rs, z_has r ≠ some i := by
  intro rs
  induction rs with
  | nil => intro k i; simp [z_withFrom]
  | cons r rs ih =>
    intro k i
    rw [z_withFrom]
    by_cases hr : z_has r = some i
    · rw [if_pos hr]
      simp [hr]
    · rw [if_neg hr, ih]
      simp [hr]
theorem z_with_some {c : z_C} {i j : Nat} (h : z_with c i = some j) : ∃ r, (z_robs c)[j]? = some r ∧ z_has r = some i := by
  obtain ⟨-, r, h1, h2⟩ := z_withFrom_some _ _ _ _ h
  exact ⟨r, h1, h2⟩
theorem z_with_none {c : z_C} {i : Nat} : z_with c i = none ↔ ∀ r ∈ z_robs c, z_has r ≠ some i := z_withFrom_none _ _ _
theorem z_with_is {c : z_C} (h : z_held c) {i j : Nat} {r : z_R} (h1 : (z_robs c)[j]? = some r) (h2 : z_has r = some i) : z_with c i = some j := by
  cases hw : z_with c i with
  | none => exact absurd h2 (z_with_none.mp hw r (List.mem_of_getElem? h1))
  | some j' =>
    obtain ⟨r', h3, h4⟩ := z_with_some hw
    rw [h.1 _ _ _ _ _ h3 h1 h4 h2]
theorem z_enc_neg {g : Option Nat} (hg : ∀ k, g = some k → k < 2 ^ 31) : z_enc g < 0 ↔ g = none := by
  cases g with
  | none => simp [z_enc]
  | some k =>
    have := nI_pos (hg k rfl)
    simp only [z_enc, reduceCtorEq, iff_false]
    exact this
theorem w_incM (x : Int32) : x + Int32.ofInt (-1) = x - 1 := by rw [Int32.sub_eq_add_neg]; exact congrArg (fun z => x + z) (by decide)
section MK
variable {l : Launch} {G : w_G} {M : w_M} {m : Nat} {c : z_C} {f : Nat → Int32}
theorem z_shutN_le (c : z_C) : ∀ n, z_shutN c n ≤ n := by
  intro n
  induction n with
  | zero => exact Nat.le_refl _
  | succ n ih => rw [z_shutN]; split <;> omega
theorem sp_mclosed (H : z_mh M m f) (hr : z_mr c f) (hs : z_small c) : w_S l G tX3_closedCells (2, 0, 0) [.ref m] M (w_is (.inl (some (.int (nI (z_shutN c (z_size c)))))) M) := by
  have hsz := hs.size
  have hR6 : (z_robs c).length ≤ 6 := hs.2.2.2.2.1
  have hO10 : (z_ords c).length ≤ 10 := hs.2.2.2.2.2.1
  obtain ⟨fs, hm, hf⟩ := id H
  refine w_start (by decide) (Nat.le_of_ble_eq_true rfl) (fun X => ?_)
  refine wa_locals [(0, _)] [0] rfl ?_
  have LP : ∀ (n k : Nat), k + n = z_size c → w_A l G tX3_closedCells (2, 0, 0) X 0 0 M 4 [(2, .int (nI k)), (1, .int (nI (z_shutN c k))), (0, .ref m)] [] (w_is (.inl (some (.int (nI (z_shutN c (z_size c)))))) M) := by
    intro n
    induction n with
    | zero =>
      intro k hn
      have hk : k = z_size c := by omega
      subst hk
      refine wa_iload_n 0 dX3_closedCells_4 rfl rfl ?_
      refine wa_aload_n 2 dX3_closedCells_5 rfl rfl ?_
      refine wc_isI (wr_V dX3_closedCells_6 mX3_67 (sp_mcells H hr) hm rfl rfl rfl (Nat.le_of_ble_eq_true rfl)) ?_
      refine wa_icmp_ge 30 dX3_closedCells_9 rfl (fun c9 => ?_) (fun c9 => absurd (nI_le (by omega) (by omega)) c9)
      refine wa_iload_n 1 dX3_closedCells_30 rfl rfl ?_
      refine wa_iret FieldType.int dX3_closedCells_31 rfl rfl (Nat.le_of_ble_eq_true rfl) (Nat.le_of_ble_eq_true rfl) ?_
      exact ⟨rfl, rfl⟩
    | succ n ih =>
      intro k hn
      have hk : k < z_size c := by omega
      refine wa_iload_n 0 dX3_closedCells_4 rfl rfl ?_
      refine wa_aload_n 2 dX3_closedCells_5 rfl rfl ?_
      refine wc_isI (wr_V dX3_closedCells_6 mX3_67 (sp_mcells H hr) hm rfl rfl rfl (Nat.le_of_ble_eq_true rfl)) ?_
      refine wa_icmp_ge 30 dX3_closedCells_9 rfl (fun c9 => absurd c9 (nI_lt_not (by omega) (by omega))) (fun c9 => ?_)
      refine wa_iload_n 1 dX3_closedCells_12 rfl rfl ?_
      refine wa_aload_n 2 dX3_closedCells_13 rfl rfl ?_
      refine wa_getf dX3_closedCells_14 gX3_9 hm rfl ?_
      refine wa_bipush (56) dX3_closedCells_17 (by decide) ?_
      refine wa_iload_n 0 dX3_closedCells_19 rfl rfl ?_
      refine wa_iadd dX3_closedCells_20 ?_
      rw [show (56 : Int32) + nI k = nI (56 + k) from nI_add 56 k]
      refine wa_iald dX3_closedCells_21 hf (vp_in_nI (by omega) (by omega)) ?_
      rw [nI_clamp (by omega), hr.shut hk]
      refine wa_iadd dX3_closedCells_22 ?_
      rw [show nI (z_shutN c k) + (if z_bit (z_closed c) k = true then 1 else 0) = nI (z_shutN c (k + 1)) by rw [z_shutN]; split; exact nI_1 _; exact Int32.add_zero _]
      refine wa_istore_n [(1, _), (2, _), (0, _)] dX3_closedCells_23 rfl (Nat.le_of_ble_eq_true rfl) rfl ?_
      refine wa_iinc 1 [(2, _), (1, _), (0, _)] dX3_closedCells_24 rfl (w_inc k) (Nat.le_of_ble_eq_true rfl) rfl ?_
      refine wa_goto 4 dX3_closedCells_27 rfl ?_
      refine wa_locals [(2, _), (1, _), (0, _)] [0, 1, 2] rfl ?_
      exact ih (k + 1) (by omega)
  refine wa_iconst (0) dX3_closedCells_0 (by decide) ?_
  refine wa_istore_n [(1, _), (0, _)] dX3_closedCells_1 rfl (Nat.le_of_ble_eq_true rfl) rfl ?_
  refine wa_iconst (0) dX3_closedCells_2 (by decide) ?_
  refine wa_istore_n [(2, _), (1, _), (0, _)] dX3_closedCells_3 rfl (Nat.le_of_ble_eq_true rfl) rfl ?_
  refine wa_locals [(2, _), (1, _), (0, _)] [0, 1, 2] rfl ?_
  exact LP (z_size c) 0 (Nat.zero_add _)
theorem z_wFrom_lt {cl t : Nat} {but : Int32} : ∀ (rs : List z_R) (k j : Nat), z_wFrom cl t but k rs = some j → k ≤ j ∧ j < k + rs.length := by
  intro rs
  induction rs with
  | nil => intro k j h; cases h
  | cons r rs ih =>
    intro k j h
    rw [z_wFrom] at h
    split at h
    · cases h
      simp
    · have := ih (k + 1) j h
      simp only [List.length_cons]
      omega
theorem sp_mwillBe (H : z_mh M m f) (hr : z_mr c f) (hs : z_small c) {cl t : Nat} {but : Int32} (hcl : cl < 2 ^ 31) (ht : t ≤ 32) : w_S l G tX3_willBe (4, 0, 0) [.ref m, .int (nI cl), .int (nI t), .int but] M (w_is (.inl (some (.int (z_enc (z_wil c cl t but))))) M) := by
  have hsz := hs.size
  have hR6 : (z_robs c).length ≤ 6 := hs.2.2.2.2.1
  have hO10 : (z_ords c).length ≤ 10 := hs.2.2.2.2.2.1
  obtain ⟨fs, hm, hf⟩ := id H
  refine w_start (by decide) (Nat.le_of_ble_eq_true rfl) (fun X => ?_)
  refine wa_locals [(0, _), (1, _), (2, _), (3, _)] [0, 1, 2, 3] rfl ?_
  have LI : ∀ (k : Nat) (r : z_R) (v : Bool) (_ : (z_robs c)[k]? = some r) (K : ∀ x, w_A l G tX3_willBe (4, 0, 0) X 0 0 M 57 [(6, .int x), (5, .int (if v = true then 1 else 0)), (4, .int (nI k)), (0, .ref m), (1, .int (nI cl)), (2, .int (nI t)), (3, .int but)] [] (w_is (.inl (some (.int (z_enc (z_wil c cl t but))))) M)),
      ∀ (n u : Nat) (b : Bool), u + n = 32 → (b || z_ev r cl n u) = v → w_A l G tX3_willBe (4, 0, 0) X 0 0 M 20 [(6, .int (nI u)), (5, .int (if b = true then 1 else 0)), (4, .int (nI k)), (0, .ref m), (1, .int (nI cl)), (2, .int (nI t)), (3, .int but)] [] (w_is (.inl (some (.int (z_enc (z_wil c cl t but))))) M) := by
    intro k r v hk K n
    induction n with
    | zero =>
      intro u b hu hb
      have hu : u = 32 := by omega
      subst hu
      rw [z_ev, Bool.or_false] at hb
      subst hb
      refine wa_iload 0 dX3_willBe_20 rfl ?_
      refine wa_bipush (31) dX3_willBe_22 (by decide) ?_
      refine wa_icmp_gt 57 dX3_willBe_24 rfl (fun c24 => ?_) (fun c24 => absurd ((nI_ltI (a := 31) (b := 32) (by decide) (by decide)).mpr (by decide)) c24)
      exact K _
    | succ n ih =>
      intro u b hu hb
      have hal := z_ahead_lt hs (List.mem_of_getElem? hk) u
      rw [z_ev] at hb
      refine wa_iload 0 dX3_willBe_20 rfl ?_
      refine wa_bipush (31) dX3_willBe_22 (by decide) ?_
      refine wa_icmp_gt 57 dX3_willBe_24 rfl (fun c24 => absurd c24 (Int32.not_lt.mpr (nI_le (b := 31) (by omega) (by decide)))) (fun c24 => ?_)
      refine wa_iload 1 dX3_willBe_27 rfl ?_
      refine wa_if_ne 44 dX3_willBe_29 rfl (fun c29 => ?_) (fun c29 => ?_)
      ·
        refine wa_iconst (1) dX3_willBe_44 (by decide) ?_
        refine wa_goto 49 dX3_willBe_45 rfl ?_
        refine wa_istore [(5, _), (6, _), (4, _), (0, _), (1, _), (2, _), (3, _)] dX3_willBe_49 (Nat.le_of_ble_eq_true rfl) rfl ?_
        refine wa_iinc 1 [(6, _), (5, _), (4, _), (0, _), (1, _), (2, _), (3, _)] dX3_willBe_51 rfl (w_inc u) (Nat.le_of_ble_eq_true rfl) rfl ?_
        refine wa_goto 20 dX3_willBe_54 rfl ?_
        refine wa_locals [(6, _), (5, _), (4, _), (0, _), (1, _), (2, _), (3, _)] [0, 1, 2, 3, 4, 5, 6] rfl ?_
        have hb1 : b = true := Classical.byContradiction fun z => c29 (if_neg z)
        subst hb1
        exact ih (u + 1) true (by omega) (by rw [← hb]; simp)
      ·
        refine wa_aload_n 3 dX3_willBe_32 rfl rfl ?_
        refine wa_iload 2 dX3_willBe_33 rfl ?_
        refine wa_iload 0 dX3_willBe_35 rfl ?_
        refine wc_isI (wr_V dX3_willBe_37 mX3_83 (sp_mcellOf H hr hs hk (by omega)) hm rfl rfl rfl (Nat.le_of_ble_eq_true rfl)) ?_
        refine wa_iload_n 4 dX3_willBe_40 rfl rfl ?_
        refine wa_icmp_ne 48 dX3_willBe_41 rfl (fun c41 => ?_) (fun c41 => ?_)
        ·
          refine wa_iconst (0) dX3_willBe_48 (by decide) ?_
          refine wa_istore [(5, _), (6, _), (4, _), (0, _), (1, _), (2, _), (3, _)] dX3_willBe_49 (Nat.le_of_ble_eq_true rfl) rfl ?_
          refine wa_iinc 1 [(6, _), (5, _), (4, _), (0, _), (1, _), (2, _), (3, _)] dX3_willBe_51 rfl (w_inc u) (Nat.le_of_ble_eq_true rfl) rfl ?_
          refine wa_goto 20 dX3_willBe_54 rfl ?_
          refine wa_locals [(6, _), (5, _), (4, _), (0, _), (1, _), (2, _), (3, _)] [0, 1, 2, 3, 4, 5, 6] rfl ?_
          have hb1 : b = false := by cases b <;> simp_all
          subst hb1
          have hne : ¬ z_ahead r u = cl := fun z => c41 (congrArg nI z)
          exact ih (u + 1) false (by omega) (by rw [← hb]; simp [hne])
        ·
          refine wa_iconst (1) dX3_willBe_44 (by decide) ?_
          refine wa_goto 49 dX3_willBe_45 rfl ?_
          refine wa_istore [(5, _), (6, _), (4, _), (0, _), (1, _), (2, _), (3, _)] dX3_willBe_49 (Nat.le_of_ble_eq_true rfl) rfl ?_
          refine wa_iinc 1 [(6, _), (5, _), (4, _), (0, _), (1, _), (2, _), (3, _)] dX3_willBe_51 rfl (w_inc u) (Nat.le_of_ble_eq_true rfl) rfl ?_
          refine wa_goto 20 dX3_willBe_54 rfl ?_
          refine wa_locals [(6, _), (5, _), (4, _), (0, _), (1, _), (2, _), (3, _)] [0, 1, 2, 3, 4, 5, 6] rfl ?_
          have he : z_ahead r u = cl := (nI_eq (by omega) hcl).mp c41
          exact ih (u + 1) true (by omega) (by rw [← hb]; simp [he])
  have LK : ∀ (n k : Nat), k ≤ (z_robs c).length → (z_robs c).length ≤ k + n → z_wFrom cl t but k ((z_robs c).drop k) = z_wil c cl t but → w_A l G tX3_willBe (4, 0, 0) X 0 0 M 3 [(4, .int (nI k)), (0, .ref m), (1, .int (nI cl)), (2, .int (nI t)), (3, .int but)] [] (w_is (.inl (some (.int (z_enc (z_wil c cl t but))))) M) := by
    intro n
    induction n with
    | zero =>
      intro k hk hn e
      refine wa_iload 0 dX3_willBe_3 rfl ?_
      refine wa_aload_n 1 dX3_willBe_5 rfl rfl ?_
      refine wa_getf dX3_willBe_6 gX3_9 hm rfl ?_
      refine wa_iconst (3) dX3_willBe_9 (by decide) ?_
      refine wa_iald dX3_willBe_10 hf (vp_in_nI (n := 3) (by omega) (by omega)) ?_
      rw [hr.rn]
      refine wa_icmp_ge 77 dX3_willBe_11 rfl (fun c11 => ?_) (fun c11 => absurd (nI_le (by omega) (by omega)) c11)
      refine wa_iconst (-1) dX3_willBe_77 (by decide) ?_
      refine wa_iret FieldType.int dX3_willBe_78 rfl rfl (Nat.le_of_ble_eq_true rfl) (Nat.le_of_ble_eq_true rfl) ?_
      exact ⟨by rw [← e, List.drop_eq_nil_of_le (by omega)]; rfl, rfl⟩
    | succ n ih =>
      intro k hk hn e
      refine wa_iload 0 dX3_willBe_3 rfl ?_
      refine wa_aload_n 1 dX3_willBe_5 rfl rfl ?_
      refine wa_getf dX3_willBe_6 gX3_9 hm rfl ?_
      refine wa_iconst (3) dX3_willBe_9 (by decide) ?_
      refine wa_iald dX3_willBe_10 hf (vp_in_nI (n := 3) (by omega) (by omega)) ?_
      rw [hr.rn]
      refine wa_icmp_ge 77 dX3_willBe_11 rfl (fun c11 => ?_) (fun c11 => ?_)
      ·
        have hk9 := (nI_leI (by omega) (by omega)).mp c11
        refine wa_iconst (-1) dX3_willBe_77 (by decide) ?_
        refine wa_iret FieldType.int dX3_willBe_78 rfl rfl (Nat.le_of_ble_eq_true rfl) (Nat.le_of_ble_eq_true rfl) ?_
        exact ⟨by rw [← e, List.drop_eq_nil_of_le hk9]; rfl, rfl⟩
      ·
        have hlt : k < (z_robs c).length := Classical.byContradiction fun z => c11 (nI_le (by omega) (by omega))
        obtain ⟨r, hk⟩ : ∃ r, (z_robs c)[k]? = some r := ⟨_, List.getElem?_eq_getElem hlt⟩
        have hdrop : (z_robs c).drop k = r :: (z_robs c).drop (k + 1) := by
          rw [List.drop_eq_getElem_cons hlt]
          congr 1
          exact Option.some.inj ((List.getElem?_eq_getElem hlt).symm.trans hk)
        rw [hdrop, z_wFrom] at e
        refine wa_iconst (0) dX3_willBe_14 (by decide) ?_
        refine wa_istore [(5, _), (4, _), (0, _), (1, _), (2, _), (3, _)] dX3_willBe_15 (Nat.le_of_ble_eq_true rfl) rfl ?_
        refine wa_iload_n 4 dX3_willBe_17 rfl rfl ?_
        refine wa_istore [(6, _), (5, _), (4, _), (0, _), (1, _), (2, _), (3, _)] dX3_willBe_18 (Nat.le_of_ble_eq_true rfl) rfl ?_
        refine wa_locals [(6, _), (5, _), (4, _), (0, _), (1, _), (2, _), (3, _)] [0, 1, 2, 3, 4, 5, 6] rfl ?_
        refine LI k r (z_ev r cl (32 - t) t) hk (fun x => ?_) (32 - t) t false (by omega) (Bool.false_or _)
        refine wa_iload 1 dX3_willBe_57 rfl ?_
        refine wa_if_eq 71 dX3_willBe_59 rfl (fun c59 => ?_) (fun c59 => ?_)
        ·
          refine wa_iinc 2 [(4, _), (6, _), (5, _), (0, _), (1, _), (2, _), (3, _)] dX3_willBe_71 rfl (w_inc k) (Nat.le_of_ble_eq_true rfl) rfl ?_
          refine wa_goto 3 dX3_willBe_74 rfl ?_
          refine wa_locals [(4, _), (0, _), (1, _), (2, _), (3, _)] [0, 3, 4, 5, 6] rfl ?_
          have hno : ¬ (z_ev r cl (32 - t) t = true ∧ nI k ≠ but) := fun q => z_if1.mp c59 q.1
          rw [if_neg hno] at e
          exact ih (k + 1) (by omega) (by omega) e
        ·
          refine wa_iload 2 dX3_willBe_62 rfl ?_
          refine wa_iload_n 6 dX3_willBe_64 rfl rfl ?_
          refine wa_icmp_eq 71 dX3_willBe_65 rfl (fun c65 => ?_) (fun c65 => ?_)
          ·
            refine wa_iinc 2 [(4, _), (6, _), (5, _), (0, _), (1, _), (2, _), (3, _)] dX3_willBe_71 rfl (w_inc k) (Nat.le_of_ble_eq_true rfl) rfl ?_
            refine wa_goto 3 dX3_willBe_74 rfl ?_
            refine wa_locals [(4, _), (0, _), (1, _), (2, _), (3, _)] [0, 3, 4, 5, 6] rfl ?_
            have hno : ¬ (z_ev r cl (32 - t) t = true ∧ nI k ≠ but) := fun q => q.2 c65
            rw [if_neg hno] at e
            exact ih (k + 1) (by omega) (by omega) e
          ·
            refine wa_iload 2 dX3_willBe_68 rfl ?_
            refine wa_iret FieldType.int dX3_willBe_70 rfl rfl (Nat.le_of_ble_eq_true rfl) (Nat.le_of_ble_eq_true rfl) ?_
            have hy : z_ev r cl (32 - t) t = true := Classical.byContradiction fun z => c59 (if_neg z)
            rw [if_pos ⟨hy, c65⟩] at e
            exact ⟨by rw [← e]; rfl, rfl⟩
  refine wa_iconst (0) dX3_willBe_0 (by decide) ?_
  refine wa_istore [(4, _), (0, _), (1, _), (2, _), (3, _)] dX3_willBe_1 (Nat.le_of_ble_eq_true rfl) rfl ?_
  refine wa_locals [(4, _), (0, _), (1, _), (2, _), (3, _)] [0, 1, 2, 3, 4] rfl ?_
  exact LK (z_robs c).length 0 (Nat.zero_le _) (by omega) rfl
theorem z_clear_le {k p q t : Nat} : ∀ (n d : Nat), z_clear c k p q t n = false → z_clear c k p q t (n + d) = false := by
  intro n d
  induction d with
  | zero => exact id
  | succ d ih => intro h; rw [← Nat.add_assoc, z_clear, ih h]; rfl
theorem sp_mmayGo (H : z_mh M m f) (hr : z_mr c f) (hs : z_small c) {k p q t : Nat} (hk : k < 2 ^ 31) (hp : p < z_size c) (hq : q < z_size c) (ht : t < 2 ^ 30) : w_S l G tX3_mayGo (4, 0, 0) [.ref m, .int (nI k), .int (nI p), .int (nI q), .int (nI t)] M (w_is (.inl (some (.int (if z_mgo c k p q t then 1 else 0)))) M) := by
  have hsz := hs.size
  have hR6 : (z_robs c).length ≤ 6 := hs.2.2.2.2.1
  have hO10 : (z_ords c).length ≤ 10 := hs.2.2.2.2.2.1
  obtain ⟨fs, hm, hf⟩ := id H
  refine w_start (by decide) (Nat.le_of_ble_eq_true rfl) (fun X => ?_)
  refine wa_locals [(0, _), (1, _), (2, _), (3, _), (4, _)] [0, 1, 2, 3, 4] rfl ?_
  have LP : ∀ (n i : Nat) (b : Bool), i + n = (z_robs c).length → (z_free c q && z_clear c k p q t i) = b → w_A l G tX3_mayGo (4, 0, 0) X 0 0 M 10 [(6, .int (nI i)), (5, .int (if b = true then 1 else 0)), (0, .ref m), (1, .int (nI k)), (2, .int (nI p)), (3, .int (nI q)), (4, .int (nI t))] [] (w_is (.inl (some (.int (if z_mgo c k p q t then 1 else 0)))) M) := by
    intro n
    induction n with
    | zero =>
      intro i b hn hb
      have hi : i = (z_robs c).length := by omega
      subst hi
      have hz : z_mgo c k p q t = b := hb
      rw [hz]
      refine wa_iload 0 dX3_mayGo_10 rfl ?_
      refine wa_aload_n 2 dX3_mayGo_12 rfl rfl ?_
      refine wa_getf dX3_mayGo_13 gX3_9 hm rfl ?_
      refine wa_iconst (3) dX3_mayGo_16 (by decide) ?_
      refine wa_iald dX3_mayGo_17 hf (vp_in_nI (n := 3) (by omega) (by omega)) ?_
      rw [hr.rn]
      refine wa_icmp_ge 85 dX3_mayGo_18 rfl (fun c18 => ?_) (fun c18 => absurd (nI_le (by omega) (by omega)) c18)
      refine wa_iload 1 dX3_mayGo_85 rfl ?_
      refine wa_iret FieldType.boolean dX3_mayGo_87 rfl (by split <;> rfl) (Nat.le_of_ble_eq_true rfl) (Nat.le_of_ble_eq_true rfl) ?_
      exact ⟨rfl, rfl⟩
    | succ n ih =>
      intro i b hn hb
      have hlt : i < (z_robs c).length := by omega
      obtain ⟨r, hri⟩ : ∃ r, (z_robs c)[i]? = some r := ⟨_, List.getElem?_eq_getElem hlt⟩
      have ha0 := z_ahead_lt hs (List.mem_of_getElem? hri) t
      have ha1 := z_ahead_lt hs (List.mem_of_getElem? hri) (t + 1)
      have hcl : z_clear c k p q t (i + 1) = (z_clear c k p q t i && (decide (i = k) || (!decide (z_ahead r (t + 1) = q) && !(decide (z_ahead r (t + 1) = p) && decide (z_ahead r t = q))))) := by rw [z_clear, hri]
      refine wa_iload 0 dX3_mayGo_10 rfl ?_
      refine wa_aload_n 2 dX3_mayGo_12 rfl rfl ?_
      refine wa_getf dX3_mayGo_13 gX3_9 hm rfl ?_
      refine wa_iconst (3) dX3_mayGo_16 (by decide) ?_
      refine wa_iald dX3_mayGo_17 hf (vp_in_nI (n := 3) (by omega) (by omega)) ?_
      rw [hr.rn]
      refine wa_icmp_ge 85 dX3_mayGo_18 rfl (fun c18 => absurd c18 (nI_lt_not (by omega) (by omega))) (fun c18 => ?_)
      refine wa_iload 1 dX3_mayGo_21 rfl ?_
      refine wa_if_eq 85 dX3_mayGo_23 rfl (fun c23 => ?_) (fun c23 => ?_)
      ·
        refine wa_iload 1 dX3_mayGo_85 rfl ?_
        refine wa_iret FieldType.boolean dX3_mayGo_87 rfl (by split <;> rfl) (Nat.le_of_ble_eq_true rfl) (Nat.le_of_ble_eq_true rfl) ?_
        have hb1 : b = false := by cases b <;> simp_all
        subst hb1
        have hz : z_mgo c k p q t = false := by
          unfold z_mgo
          cases hfq : z_free c q with
          | false => rfl
          | true =>
            rw [hfq, Bool.true_and] at hb
            rw [Bool.true_and, show (z_robs c).length = i + (n + 1) by omega]
            exact z_clear_le _ _ hb
        exact ⟨by rw [hz], rfl⟩
      ·
        have hb1 : b = true := Classical.byContradiction fun z => c23 (if_neg z)
        subst hb1
        have hb2 : z_free c q = true ∧ z_clear c k p q t i = true := by simpa using hb
        refine wa_iload 0 dX3_mayGo_26 rfl ?_
        refine wa_iload_n 3 dX3_mayGo_28 rfl rfl ?_
        refine wa_icmp_eq 72 dX3_mayGo_29 rfl (fun c29 => ?_) (fun c29 => ?_)
        ·
          refine wa_iconst (1) dX3_mayGo_72 (by decide) ?_
          refine wa_goto 77 dX3_mayGo_73 rfl ?_
          refine wa_istore [(5, _), (6, _), (0, _), (1, _), (2, _), (3, _), (4, _)] dX3_mayGo_77 (Nat.le_of_ble_eq_true rfl) rfl ?_
          refine wa_iinc 1 [(6, _), (5, _), (0, _), (1, _), (2, _), (3, _), (4, _)] dX3_mayGo_79 rfl (w_inc i) (Nat.le_of_ble_eq_true rfl) rfl ?_
          refine wa_goto 10 dX3_mayGo_82 rfl ?_
          refine wa_locals [(6, _), (5, _), (0, _), (1, _), (2, _), (3, _), (4, _)] [0, 1, 2, 3, 4, 5, 6] rfl ?_
          have e : i = k := (nI_eq (by omega) hk).mp c29
          exact ih (i + 1) true (by omega) (by rw [hcl, hb2.1, hb2.2]; simp [e])
        ·
          refine wa_aload_n 2 dX3_mayGo_32 rfl rfl ?_
          refine wa_iload 0 dX3_mayGo_33 rfl ?_
          refine wa_iload 6 dX3_mayGo_35 rfl ?_
          refine wa_iconst (1) dX3_mayGo_37 (by decide) ?_
          refine wa_iadd dX3_mayGo_38 ?_
          rw [show nI t + 1 = nI (t + 1) from nI_1 t]
          refine wc_isI (wr_V dX3_mayGo_39 mX3_83 (sp_mcellOf H hr hs hri (by omega)) hm rfl rfl rfl (Nat.le_of_ble_eq_true rfl)) ?_
          refine wa_iload_n 5 dX3_mayGo_42 rfl rfl ?_
          refine wa_icmp_eq 76 dX3_mayGo_43 rfl (fun c43 => ?_) (fun c43 => ?_)
          ·
            refine wa_iconst (0) dX3_mayGo_76 (by decide) ?_
            refine wa_istore [(5, _), (6, _), (0, _), (1, _), (2, _), (3, _), (4, _)] dX3_mayGo_77 (Nat.le_of_ble_eq_true rfl) rfl ?_
            refine wa_iinc 1 [(6, _), (5, _), (0, _), (1, _), (2, _), (3, _), (4, _)] dX3_mayGo_79 rfl (w_inc i) (Nat.le_of_ble_eq_true rfl) rfl ?_
            refine wa_goto 10 dX3_mayGo_82 rfl ?_
            refine wa_locals [(6, _), (5, _), (0, _), (1, _), (2, _), (3, _), (4, _)] [0, 1, 2, 3, 4, 5, 6] rfl ?_
            have e0 : ¬ i = k := fun z => c29 (congrArg nI z)
            have e1 : z_ahead r (t + 1) = q := (nI_eq (by omega) (by omega)).mp c43
            exact ih (i + 1) false (by omega) (by rw [hcl, hb2.1, hb2.2]; simp [e0, e1])
          ·
            refine wa_aload_n 2 dX3_mayGo_46 rfl rfl ?_
            refine wa_iload 0 dX3_mayGo_47 rfl ?_
            refine wa_iload 6 dX3_mayGo_49 rfl ?_
            refine wa_iconst (1) dX3_mayGo_51 (by decide) ?_
            refine wa_iadd dX3_mayGo_52 ?_
            rw [show nI t + 1 = nI (t + 1) from nI_1 t]
            refine wc_isI (wr_V dX3_mayGo_53 mX3_83 (sp_mcellOf H hr hs hri (by omega)) hm rfl rfl rfl (Nat.le_of_ble_eq_true rfl)) ?_
            refine wa_iload_n 4 dX3_mayGo_56 rfl rfl ?_
            refine wa_icmp_ne 72 dX3_mayGo_57 rfl (fun c57 => ?_) (fun c57 => ?_)
            ·
              refine wa_iconst (1) dX3_mayGo_72 (by decide) ?_
              refine wa_goto 77 dX3_mayGo_73 rfl ?_
              refine wa_istore [(5, _), (6, _), (0, _), (1, _), (2, _), (3, _), (4, _)] dX3_mayGo_77 (Nat.le_of_ble_eq_true rfl) rfl ?_
              refine wa_iinc 1 [(6, _), (5, _), (0, _), (1, _), (2, _), (3, _), (4, _)] dX3_mayGo_79 rfl (w_inc i) (Nat.le_of_ble_eq_true rfl) rfl ?_
              refine wa_goto 10 dX3_mayGo_82 rfl ?_
              refine wa_locals [(6, _), (5, _), (0, _), (1, _), (2, _), (3, _), (4, _)] [0, 1, 2, 3, 4, 5, 6] rfl ?_
              have e0 : ¬ i = k := fun z => c29 (congrArg nI z)
              have e1 : ¬ z_ahead r (t + 1) = q := fun z => c43 (congrArg nI z)
              have e2 : ¬ z_ahead r (t + 1) = p := fun z => c57 (congrArg nI z)
              exact ih (i + 1) true (by omega) (by rw [hcl, hb2.1, hb2.2]; simp [e0, e1, e2])
            ·
              refine wa_aload_n 2 dX3_mayGo_60 rfl rfl ?_
              refine wa_iload 0 dX3_mayGo_61 rfl ?_
              refine wa_iload 6 dX3_mayGo_63 rfl ?_
              refine wc_isI (wr_V dX3_mayGo_65 mX3_83 (sp_mcellOf H hr hs hri (by omega)) hm rfl rfl rfl (Nat.le_of_ble_eq_true rfl)) ?_
              refine wa_iload_n 5 dX3_mayGo_68 rfl rfl ?_
              refine wa_icmp_eq 76 dX3_mayGo_69 rfl (fun c69 => ?_) (fun c69 => ?_)
              ·
                refine wa_iconst (0) dX3_mayGo_76 (by decide) ?_
                refine wa_istore [(5, _), (6, _), (0, _), (1, _), (2, _), (3, _), (4, _)] dX3_mayGo_77 (Nat.le_of_ble_eq_true rfl) rfl ?_
                refine wa_iinc 1 [(6, _), (5, _), (0, _), (1, _), (2, _), (3, _), (4, _)] dX3_mayGo_79 rfl (w_inc i) (Nat.le_of_ble_eq_true rfl) rfl ?_
                refine wa_goto 10 dX3_mayGo_82 rfl ?_
                refine wa_locals [(6, _), (5, _), (0, _), (1, _), (2, _), (3, _), (4, _)] [0, 1, 2, 3, 4, 5, 6] rfl ?_
                have e0 : ¬ i = k := fun z => c29 (congrArg nI z)
                have e1 : ¬ z_ahead r (t + 1) = q := fun z => c43 (congrArg nI z)
                have e2 : z_ahead r (t + 1) = p := (nI_eq (by omega) (by omega)).mp c57
                have e3 : z_ahead r t = q := (nI_eq (by omega) (by omega)).mp c69
                exact ih (i + 1) false (by omega) (by rw [hcl, hb2.1, hb2.2]; simp [e0, e2, e3])
              ·
                refine wa_iconst (1) dX3_mayGo_72 (by decide) ?_
                refine wa_goto 77 dX3_mayGo_73 rfl ?_
                refine wa_istore [(5, _), (6, _), (0, _), (1, _), (2, _), (3, _), (4, _)] dX3_mayGo_77 (Nat.le_of_ble_eq_true rfl) rfl ?_
                refine wa_iinc 1 [(6, _), (5, _), (0, _), (1, _), (2, _), (3, _), (4, _)] dX3_mayGo_79 rfl (w_inc i) (Nat.le_of_ble_eq_true rfl) rfl ?_
                refine wa_goto 10 dX3_mayGo_82 rfl ?_
                refine wa_locals [(6, _), (5, _), (0, _), (1, _), (2, _), (3, _), (4, _)] [0, 1, 2, 3, 4, 5, 6] rfl ?_
                have e0 : ¬ i = k := fun z => c29 (congrArg nI z)
                have e1 : ¬ z_ahead r (t + 1) = q := fun z => c43 (congrArg nI z)
                have e2 : z_ahead r (t + 1) = p := (nI_eq (by omega) (by omega)).mp c57
                have e3 : ¬ z_ahead r t = q := fun z => c69 (congrArg nI z)
                exact ih (i + 1) true (by omega) (by rw [hcl, hb2.1, hb2.2]; simp [e0, e1, e3])
  refine wa_aload_n 0 dX3_mayGo_0 rfl rfl ?_
  refine wa_iload_n 3 dX3_mayGo_1 rfl rfl ?_
  refine wc_isI (wr_V dX3_mayGo_2 mX3_93 (sp_mcanEnter H hr hs hq) hm rfl rfl rfl (Nat.le_of_ble_eq_true rfl)) ?_
  refine wa_istore [(5, _), (0, _), (1, _), (2, _), (3, _), (4, _)] dX3_mayGo_5 (Nat.le_of_ble_eq_true rfl) rfl ?_
  refine wa_iconst (0) dX3_mayGo_7 (by decide) ?_
  refine wa_istore [(6, _), (5, _), (0, _), (1, _), (2, _), (3, _), (4, _)] dX3_mayGo_8 (Nat.le_of_ble_eq_true rfl) rfl ?_
  refine wa_locals [(6, _), (5, _), (0, _), (1, _), (2, _), (3, _), (4, _)] [0, 1, 2, 3, 4, 5, 6] rfl ?_
  exact LP (z_robs c).length 0 _ (Nat.zero_add _) (by rw [z_clear, Bool.and_true])
theorem sp_mstateOf (H : z_mh M m f) (hr : z_mr c f) (hs : z_small c) (hh : z_held c) {i : Nat} {o : z_O} (hi : (z_ords c)[i]? = some o) : w_S l G tX3_stateOf (3, 0, 0) [.ref m, .int (nI i)] M (w_is (.inl (some (.int (nI (z_state o))))) M) := by
  have hsz := hs.size
  have hR6 : (z_robs c).length ≤ 6 := hs.2.2.2.2.1
  have hO10 : (z_ords c).length ≤ 10 := hs.2.2.2.2.2.1
  obtain ⟨fs, hm, hf⟩ := id H
  have hi10 : i < 10 := by have := (List.getElem?_eq_some_iff.mp hi).1; omega
  obtain ⟨q1, q2, q3, q4, q5, q6⟩ := hr.ord hi
  obtain ⟨g1, g2, g3, g4⟩ := hh.2 i o hi
  have hw := z_enc_neg (g := z_with c i) (fun k e => by obtain ⟨r, h1, -⟩ := z_with_some e; have := (List.getElem?_eq_some_iff.mp h1).1; omega)
  refine w_start (by decide) (Nat.le_of_ble_eq_true rfl) (fun X => ?_)
  refine wa_locals [(0, _), (1, _)] [0, 1] rfl ?_
  refine wa_aload_n 0 dX3_stateOf_0 rfl rfl ?_
  refine wa_iload_n 1 dX3_stateOf_1 rfl rfl ?_
  refine wa_iconst (4) dX3_stateOf_2 (by decide) ?_
  refine wc_isI (wr_V dX3_stateOf_3 mX3_109 (sp_mget H hi10 (w := 4) (by decide)) hm rfl rfl rfl (Nat.le_of_ble_eq_true rfl)) ?_
  rw [q5]
  refine wa_if_lt 13 dX3_stateOf_6 rfl (fun c6 => ?_) (fun c6 => ?_)
  ·
    refine wa_aload_n 0 dX3_stateOf_13 rfl rfl ?_
    refine wa_iload_n 1 dX3_stateOf_14 rfl rfl ?_
    refine wa_iconst (3) dX3_stateOf_15 (by decide) ?_
    refine wc_isI (wr_V dX3_stateOf_16 mX3_109 (sp_mget H hi10 (w := 3) (by decide)) hm rfl rfl rfl (Nat.le_of_ble_eq_true rfl)) ?_
    rw [q4]
    refine wa_if_lt 26 dX3_stateOf_19 rfl (fun c19 => ?_) (fun c19 => ?_)
    ·
      refine wa_iconst (0) dX3_stateOf_26 (by decide) ?_
      refine wa_iret FieldType.int dX3_stateOf_27 rfl rfl (Nat.le_of_ble_eq_true rfl) (Nat.le_of_ble_eq_true rfl) ?_
      have h2 : z_state o ≠ 2 := fun z => absurd c6 (Int32.not_lt.mpr (g2 z))
      have h1 : z_state o ≠ 1 := fun z => g1.mp z (hw.mp c19)
      exact ⟨by rw [show z_state o = 0 by have := g4.1; omega]; rfl, rfl⟩
    ·
      refine wa_iconst (1) dX3_stateOf_22 (by decide) ?_
      refine wa_goto 27 dX3_stateOf_23 rfl ?_
      refine wa_iret FieldType.int dX3_stateOf_27 rfl rfl (Nat.le_of_ble_eq_true rfl) (Nat.le_of_ble_eq_true rfl) ?_
      have h2 : z_state o ≠ 2 := fun z => absurd c6 (Int32.not_lt.mpr (g2 z))
      have h1 : z_state o = 1 := g1.mpr (fun z => c19 (hw.mpr z))
      exact ⟨by rw [h1]; rfl, rfl⟩
  ·
    refine wa_iconst (2) dX3_stateOf_9 (by decide) ?_
    refine wa_goto 27 dX3_stateOf_10 rfl ?_
    refine wa_iret FieldType.int dX3_stateOf_27 rfl rfl (Nat.le_of_ble_eq_true rfl) (Nat.le_of_ble_eq_true rfl) ?_
    have h2 : z_state o = 2 := Classical.byContradiction fun z => c6 (by rw [g3 z]; decide)
    exact ⟨by rw [h2]; rfl, rfl⟩
theorem sp_misLoaded (H : z_mh M m f) (hr : z_mr c f) (hs : z_small c) {k : Nat} {r : z_R} (hk : (z_robs c)[k]? = some r) : w_S l G tX3_isLoaded (3, 0, 0) [.ref m, .int (nI k)] M (w_is (.inl (some (.int (if z_loaded c r then 1 else 0)))) M) := by
  have hsz := hs.size
  have hR6 : (z_robs c).length ≤ 6 := hs.2.2.2.2.1
  have hO10 : (z_ords c).length ≤ 10 := hs.2.2.2.2.2.1
  obtain ⟨fs, hm, hf⟩ := id H
  have hk6 : k < 6 := by have := (List.getElem?_eq_some_iff.mp hk).1; omega
  have hhas := (hs.2.2.2.2.2.2.1 r (List.mem_of_getElem? hk)).2.2.2
  obtain ⟨q1, q2, q3, q4, q5, q6, q7⟩ := hr.rob hk
  have hw := z_enc_neg (g := z_has r) (fun k e => by have := hhas k e; omega)
  cases ho : z_has r with
  | none =>
    rw [ho] at q3
    have hl : z_loaded c r = false := by unfold z_loaded; rw [ho]
    rw [hl]
    refine w_start (by decide) (Nat.le_of_ble_eq_true rfl) (fun X => ?_)
    refine wa_locals [(0, _), (1, _)] [0, 1] rfl ?_
    refine wa_aload_n 0 dX3_isLoaded_0 rfl rfl ?_
    refine wa_iload_n 1 dX3_isLoaded_1 rfl rfl ?_
    refine wa_iconst (2) dX3_isLoaded_2 (by decide) ?_
    refine wc_isI (wr_V dX3_isLoaded_3 mX3_79 (sp_mof H hk6 (w := 2) (by decide)) hm rfl rfl rfl (Nat.le_of_ble_eq_true rfl)) ?_
    rw [q3]
    refine wa_if_lt 27 dX3_isLoaded_6 rfl (fun c6 => ?_) (fun c6 => absurd (by decide) c6)
    refine wa_iconst (0) dX3_isLoaded_27 (by decide) ?_
    refine wa_iret FieldType.boolean dX3_isLoaded_28 rfl rfl (Nat.le_of_ble_eq_true rfl) (Nat.le_of_ble_eq_true rfl) ?_
    exact ⟨rfl, rfl⟩
  | some o =>
    obtain ⟨od, hod⟩ : ∃ od, (z_ords c)[o]? = some od := ⟨_, List.getElem?_eq_getElem (hhas o ho)⟩
    have ho10 : o < 10 := by have := hhas o ho; omega
    have hpk := (hs.2.2.2.2.2.2.2 od (List.mem_of_getElem? hod))
    have hl : z_loaded c r = decide (0 < z_picked od) := by unfold z_loaded; rw [ho]; simp only [hod]
    rw [ho] at q3
    rw [hl]
    obtain ⟨p1, p2, p3, p4, p5, p6⟩ := hr.ord hod
    refine w_start (by decide) (Nat.le_of_ble_eq_true rfl) (fun X => ?_)
    refine wa_locals [(0, _), (1, _)] [0, 1] rfl ?_
    refine wa_aload_n 0 dX3_isLoaded_0 rfl rfl ?_
    refine wa_iload_n 1 dX3_isLoaded_1 rfl rfl ?_
    refine wa_iconst (2) dX3_isLoaded_2 (by decide) ?_
    refine wc_isI (wr_V dX3_isLoaded_3 mX3_79 (sp_mof H hk6 (w := 2) (by decide)) hm rfl rfl rfl (Nat.le_of_ble_eq_true rfl)) ?_
    rw [q3]
    rw [show z_enc (some o) = nI o from rfl]
    refine wa_if_lt 27 dX3_isLoaded_6 rfl (fun c6 => absurd c6 (nI_pos (by omega))) (fun c6 => ?_)
    refine wa_aload_n 0 dX3_isLoaded_9 rfl rfl ?_
    refine wa_aload_n 0 dX3_isLoaded_10 rfl rfl ?_
    refine wa_iload_n 1 dX3_isLoaded_11 rfl rfl ?_
    refine wa_iconst (2) dX3_isLoaded_12 (by decide) ?_
    refine wc_isI (wr_V dX3_isLoaded_13 mX3_79 (sp_mof H hk6 (w := 2) (by decide)) hm rfl rfl rfl (Nat.le_of_ble_eq_true rfl)) ?_
    rw [q3]
    rw [show z_enc (some o) = nI o from rfl]
    refine wa_iconst (2) dX3_isLoaded_16 (by decide) ?_
    refine wc_isI (wr_V dX3_isLoaded_17 mX3_109 (sp_mget H ho10 (w := 2) (by decide)) hm rfl rfl rfl (Nat.le_of_ble_eq_true rfl)) ?_
    rw [p3]
    refine wa_if_le 27 dX3_isLoaded_20 rfl (fun c20 => ?_) (fun c20 => ?_)
    ·
      refine wa_iconst (0) dX3_isLoaded_27 (by decide) ?_
      refine wa_iret FieldType.boolean dX3_isLoaded_28 rfl rfl (Nat.le_of_ble_eq_true rfl) (Nat.le_of_ble_eq_true rfl) ?_
      have hz : nI (z_picked od) ≤ 0 ↔ z_picked od ≤ 0 := nI_leI (b := 0) (by omega) (by decide)
      rw [hz] at c20
      exact ⟨by simp only [decide_eq_true_eq]; rw [if_neg (by omega)], rfl⟩
    ·
      refine wa_iconst (1) dX3_isLoaded_23 (by decide) ?_
      refine wa_goto 28 dX3_isLoaded_24 rfl ?_
      refine wa_iret FieldType.boolean dX3_isLoaded_28 rfl rfl (Nat.le_of_ble_eq_true rfl) (Nat.le_of_ble_eq_true rfl) ?_
      have hz : nI (z_picked od) ≤ 0 ↔ z_picked od ≤ 0 := nI_leI (b := 0) (by omega) (by decide)
      rw [hz] at c20
      exact ⟨by simp only [decide_eq_true_eq]; rw [if_pos (by omega)], rfl⟩
theorem z_atFrom_app {cl t : Nat} {but : Int32} : ∀ (rs : List z_R) (k : Nat) (r : z_R), z_atFrom k (rs ++ [r]) cl t but = match z_atFrom k rs cl t but with
    | some j => some j
    | none => if nI (k + rs.length) ≠ but ∧ z_ahead r t = cl then some (k + rs.length) else none := by
  intro rs
  induction rs with
  | nil => intro k r; simp [z_atFrom]
  | cons x rs ih =>
    intro k r
    simp only [List.cons_append, z_atFrom, List.length_cons]
    by_cases h : nI k ≠ but ∧ z_ahead x t = cl
    · rw [if_pos h, if_pos h]
    · rw [if_neg h, if_neg h, ih, show k + 1 + rs.length = k + (rs.length + 1) by omega]
theorem sp_mrobotIn (H : z_mh M m f) (hr : z_mr c f) (hs : z_small c) {cl t : Nat} (hcl : cl < 2 ^ 31) (ht : t < 2 ^ 31) : w_S l G tX3_robotIn (4, 0, 0) [.ref m, .int (nI cl), .int (nI t)] M (w_is (.inl (some (.int (z_enc (z_robotAt c cl t (-1)))))) M) := by
  have hsz := hs.size
  have hR6 : (z_robs c).length ≤ 6 := hs.2.2.2.2.1
  have hO10 : (z_ords c).length ≤ 10 := hs.2.2.2.2.2.1
  obtain ⟨fs, hm, hf⟩ := id H
  refine w_start (by decide) (Nat.le_of_ble_eq_true rfl) (fun X => ?_)
  refine wa_locals [(0, _), (1, _), (2, _)] [0, 1, 2] rfl ?_
  have LP : ∀ (n : Nat), n ≤ (z_robs c).length → w_A l G tX3_robotIn (4, 0, 0) X 0 0 M 12 [(4, .int (nI n - 1)), (3, .int (z_enc (z_atFrom n ((z_robs c).drop n) cl t (-1)))), (0, .ref m), (1, .int (nI cl)), (2, .int (nI t))] [] (w_is (.inl (some (.int (z_enc (z_robotAt c cl t (-1)))))) M) := by
    intro n
    induction n with
    | zero =>
      intro hn
      refine wa_iload 0 dX3_robotIn_12 rfl ?_
      refine wa_if_lt 41 dX3_robotIn_14 rfl (fun c14 => ?_) (fun c14 => absurd (by decide) c14)
      refine wa_iload_n 1 dX3_robotIn_41 rfl rfl ?_
      refine wa_iret FieldType.int dX3_robotIn_42 rfl rfl (Nat.le_of_ble_eq_true rfl) (Nat.le_of_ble_eq_true rfl) ?_
      exact ⟨rfl, rfl⟩
    | succ n ih =>
      intro hn
      have ih := ih (by omega)
      obtain ⟨r, hk⟩ : ∃ r, (z_robs c)[n]? = some r := ⟨_, List.getElem?_eq_getElem (show n < (z_robs c).length by omega)⟩
      have hdrop : (z_robs c).drop n = r :: (z_robs c).drop (n + 1) := by
        rw [List.drop_eq_getElem_cons (show n < (z_robs c).length by omega)]
        congr 1
        exact Option.some.inj ((List.getElem?_eq_getElem (show n < (z_robs c).length by omega)).symm.trans hk)
      have hne : nI n ≠ -1 := fun q => by have := nI_pos (n := n) (by omega); rw [q] at this; exact this (by decide)
      have hal := z_ahead_lt hs (List.mem_of_getElem? hk) t
      rw [hdrop, z_atFrom] at ih
      rw [nI_pred]
      refine wa_iload 0 dX3_robotIn_12 rfl ?_
      refine wa_if_lt 41 dX3_robotIn_14 rfl (fun c14 => absurd c14 (nI_pos (by omega))) (fun c14 => ?_)
      refine wa_aload_n 2 dX3_robotIn_17 rfl rfl ?_
      refine wa_iload 0 dX3_robotIn_18 rfl ?_
      refine wa_iload_n 4 dX3_robotIn_20 rfl rfl ?_
      refine wc_isI (wr_V dX3_robotIn_21 mX3_83 (sp_mcellOf H hr hs hk ht) hm rfl rfl rfl (Nat.le_of_ble_eq_true rfl)) ?_
      refine wa_iload_n 3 dX3_robotIn_24 rfl rfl ?_
      refine wa_icmp_ne 33 dX3_robotIn_25 rfl (fun c25 => ?_) (fun c25 => ?_)
      ·
        refine wa_iload_n 1 dX3_robotIn_33 rfl rfl ?_
        refine wa_istore_n [(3, _), (4, _), (0, _), (1, _), (2, _)] dX3_robotIn_34 rfl (Nat.le_of_ble_eq_true rfl) rfl ?_
        refine wa_iinc 1 [(4, _), (3, _), (0, _), (1, _), (2, _)] dX3_robotIn_35 rfl (w_incM (nI n)) (Nat.le_of_ble_eq_true rfl) rfl ?_
        refine wa_goto 12 dX3_robotIn_38 rfl ?_
        refine wa_locals [(4, _), (3, _), (0, _), (1, _), (2, _)] [0, 1, 2, 3, 4] rfl ?_
        have e : ¬ z_ahead r t = cl := fun z => c25 (congrArg nI z)
        rw [if_neg (fun q => e q.2)] at ih
        exact ih
      ·
        refine wa_iload 0 dX3_robotIn_28 rfl ?_
        refine wa_goto 34 dX3_robotIn_30 rfl ?_
        refine wa_istore_n [(3, _), (4, _), (0, _), (1, _), (2, _)] dX3_robotIn_34 rfl (Nat.le_of_ble_eq_true rfl) rfl ?_
        refine wa_iinc 1 [(4, _), (3, _), (0, _), (1, _), (2, _)] dX3_robotIn_35 rfl (w_incM (nI n)) (Nat.le_of_ble_eq_true rfl) rfl ?_
        refine wa_goto 12 dX3_robotIn_38 rfl ?_
        refine wa_locals [(4, _), (3, _), (0, _), (1, _), (2, _)] [0, 1, 2, 3, 4] rfl ?_
        have e : z_ahead r t = cl := (nI_eq (by omega) hcl).mp c25
        rw [if_pos ⟨hne, e⟩] at ih
        exact ih
  refine wa_iconst (-1) dX3_robotIn_0 (by decide) ?_
  refine wa_istore_n [(3, _), (0, _), (1, _), (2, _)] dX3_robotIn_1 rfl (Nat.le_of_ble_eq_true rfl) rfl ?_
  refine wa_aload_n 1 dX3_robotIn_2 rfl rfl ?_
  refine wa_getf dX3_robotIn_3 gX3_9 hm rfl ?_
  refine wa_iconst (3) dX3_robotIn_6 (by decide) ?_
  refine wa_iald dX3_robotIn_7 hf (vp_in_nI (n := 3) (by omega) (by omega)) ?_
  rw [hr.rn]
  refine wa_iconst (1) dX3_robotIn_8 (by decide) ?_
  refine wa_isub dX3_robotIn_9 ?_
  refine wa_istore [(4, _), (3, _), (0, _), (1, _), (2, _)] dX3_robotIn_10 (Nat.le_of_ble_eq_true rfl) rfl ?_
  refine wa_locals [(4, _), (3, _), (0, _), (1, _), (2, _)] [0, 1, 2, 3, 4] rfl ?_
  have := LP (z_robs c).length (Nat.le_refl _)
  rw [List.drop_length] at this
  exact this
end MK
