/-! ===== RobotAisles' accounts ===== -/
set_option maxRecDepth 100000
def z_sum {α : Type} (f : α → Int32) (xs : List α) (a : Int32) : Int32 := xs.foldl (fun s y => s + f y) a
theorem z_sum_at {α : Type} {f : α → Int32} {xs : List α} {k : Nat} {y : α} {a : Int32} (h : xs[k]? = some y) : z_sum f (xs.drop k) a = z_sum f (xs.drop (k + 1)) (a + f y) := by
  obtain ⟨h1, h2⟩ := List.getElem?_eq_some_iff.mp h
  rw [List.drop_eq_getElem_cons h1, h2]
  rfl
theorem z_sum_end {α : Type} {f : α → Int32} {xs : List α} {k : Nat} {a : Int32} (h : xs.length ≤ k) : z_sum f (xs.drop k) a = a := by
  rw [List.drop_eq_nil_of_le h]; rfl
def z_inSt (c : z_C) (s : Int32) : Int32 := z_sum (fun o => if nI (z_state o) = s then 1 else 0) (z_ords c) 0
def z_acct (S : z_S) : Nat → Int32
  | 0 => nI (z_rows (z_cur S))
  | 1 => nI (z_cols (z_cur S))
  | 2 => nI (z_robs (z_cur S)).length
  | 3 => nI (z_ords (z_cur S)).length
  | 4 => z_inSt (z_cur S) 0
  | 5 => z_inSt (z_cur S) 1
  | 6 => z_inSt (z_cur S) 2
  | 7 => z_pop (z_closed (z_cur S))
  | 8 => z_now (z_cur S)
  | 9 => z_sum z_steps (z_robs (z_cur S)) 0
  | 10 => z_sum (fun o => nI (z_picked o)) (z_ords (z_cur S)) 0
  | 11 => z_sum z_batt (z_robs (z_cur S)) 0
  | 12 => nI (z_past S).length
  | 13 => nI (z_txt S).length
  | n + 14 => z_sets (z_cur S) n
def z_acctA (S : z_S) (w : Int32) : Int32 ⊕ Nat := match z_idx w 17 with
  | none => .inr 1
  | some m => .inl (z_acct S m)
section AC
variable {l : Launch} {G : w_G} {M : w_M} {E : Nat → Prop} {x bl ba tx ca : Nat} {sv : Option Nat} {bas : List Nat} {S : z_S} {P : Nat → Prop} {kd rl ol sg ra oa : Nat} {ras oas : List Nat}
theorem sp_inState (h : z_sysL G M E x bl ba tx ca sv bas S) (hL : z_coreL G M P ca kd rl ol sg ra oa ras oas (z_cur S)) (hs : z_small (z_cur S)) {st : Int32} : w_S l G tX1_inState (4, 0, 0) [.ref x, .int st] M (w_is (.inl (some (.int (z_sum (fun o => if nI (z_state o) = st then 1 else 0) (z_ords (z_cur S)) 0)))) M) := by
  have hg := h.2.1
  have hgc := hL.2.1
  obtain ⟨n1, n2, n3⟩ := z_idxL hs
  have hal := hL.2.2.2.2.1
  have hgl := hal.choose_spec.1
  have hlen : ras.length = (z_robs (z_cur S)).length := hL.2.2.2.2.2.2.1
  have hol := hL.2.2.2.2.2.1
  have hgo := hol.choose_spec.1
  have hleo : oas.length = (z_ords (z_cur S)).length := hL.2.2.2.2.2.2.2.1
  refine w_start (by decide) (Nat.le_of_ble_eq_true rfl) (fun X => ?_)
  refine wa_locals [(0, _), (1, _)] [0, 1] rfl ?_
  have LP : ∀ (n k : Nat) (v : Int32), k + n = (z_ords (z_cur S)).length → z_sum (fun o => if nI (z_state o) = st then 1 else 0) ((z_ords (z_cur S)).drop k) v = z_sum (fun o => if nI (z_state o) = st then 1 else 0) (z_ords (z_cur S)) 0 → w_A l G tX1_inState (4, 0, 0) X 0 0 M 4 [(3, .int (nI k)), (2, .int v), (0, .ref x), (1, .int st)] [] (w_is (.inl (some (.int (z_sum (fun o => if nI (z_state o) = st then 1 else 0) (z_ords (z_cur S)) 0)))) M) := by
    intro n
    induction n with
    | zero =>
      intro k v hn e
      rw [z_sum_end (by omega)] at e
      refine wa_iload_n 0 dX1_inState_4 rfl rfl ?_
      refine wa_aload_n 2 dX1_inState_5 rfl rfl ?_
      refine wa_getf dX1_inState_6 gX1_14 hg rfl ?_
      refine wa_getf dX1_inState_9 gX1_283 hgc rfl ?_
      refine wc_isI (wr_V dX1_inState_12 mX1_68 (sp_size hol) hgo rfl rfl rfl (Nat.le_of_ble_eq_true rfl)) ?_
      refine wa_icmp_ge 53 dX1_inState_15 rfl (fun c15 => ?_) (fun c15 => absurd (nI_le (by omega) (by omega)) c15)
      refine wa_iload_n 1 dX1_inState_53 rfl rfl ?_
      refine wa_iret FieldType.int dX1_inState_54 rfl rfl (Nat.le_of_ble_eq_true rfl) (Nat.le_of_ble_eq_true rfl) ?_
      exact ⟨by rw [← e], rfl⟩
    | succ n ih =>
      intro k v hn e
      obtain ⟨o, hr⟩ : ∃ o, (z_ords (z_cur S))[k]? = some o := ⟨_, List.getElem?_eq_getElem (by omega)⟩
      obtain ⟨y, hy, hor⟩ := z_ordAt hL hr
      obtain ⟨la, hp1, hp2, hob, f, hla, hlf⟩ := id hor
      have hsm := hs.2.2.2.2.2.2.2 o (List.mem_of_getElem? hr)
      rw [z_sum_at hr] at e
      refine wa_iload_n 0 dX1_inState_4 rfl rfl ?_
      refine wa_aload_n 2 dX1_inState_5 rfl rfl ?_
      refine wa_getf dX1_inState_6 gX1_14 hg rfl ?_
      refine wa_getf dX1_inState_9 gX1_283 hgc rfl ?_
      refine wc_isI (wr_V dX1_inState_12 mX1_68 (sp_size hol) hgo rfl rfl rfl (Nat.le_of_ble_eq_true rfl)) ?_
      refine wa_icmp_ge 53 dX1_inState_15 rfl (fun c15 => absurd c15 (nI_lt_not (by omega) (by omega))) (fun c15 => ?_)
      refine wa_iload_n 1 dX1_inState_18 rfl rfl ?_
      refine wa_aload_n 2 dX1_inState_19 rfl rfl ?_
      refine wa_getf dX1_inState_20 gX1_14 hg rfl ?_
      refine wa_getf dX1_inState_23 gX1_283 hgc rfl ?_
      refine wa_iload_n 0 dX1_inState_26 rfl rfl ?_
      refine wc_isA (wr_V dX1_inState_27 mX1_230 (sp_get hol hy) hgo rfl rfl rfl (Nat.le_of_ble_eq_true rfl)) ?_
      refine wa_castS dX1_inState_30 q1548 hob rfl ?_
      refine wa_getf dX1_inState_33 gX1_301 hob rfl ?_
      refine wa_iload_n 3 dX1_inState_36 rfl rfl ?_
      refine wa_icmp_ne 44 dX1_inState_37 rfl (fun c37 => ?_) (fun c37 => ?_)
      ·
        refine wa_iconst (0) dX1_inState_44 (by decide) ?_
        refine wa_iadd dX1_inState_45 ?_
        refine wa_istore_n [(2, _), (3, _), (0, _), (1, _)] dX1_inState_46 rfl (Nat.le_of_ble_eq_true rfl) rfl ?_
        refine wa_iinc 1 [(3, _), (2, _), (0, _), (1, _)] dX1_inState_47 rfl (w_inc k) (Nat.le_of_ble_eq_true rfl) rfl ?_
        refine wa_goto 4 dX1_inState_50 rfl ?_
        refine wa_locals [(3, _), (2, _), (0, _), (1, _)] [0, 1, 2, 3] rfl ?_
        exact ih (k + 1) _ (by omega) (by rw [← e]; congr 2; exact (if_neg c37).symm)
      ·
        refine wa_iconst (1) dX1_inState_40 (by decide) ?_
        refine wa_goto 45 dX1_inState_41 rfl ?_
        refine wa_iadd dX1_inState_45 ?_
        refine wa_istore_n [(2, _), (3, _), (0, _), (1, _)] dX1_inState_46 rfl (Nat.le_of_ble_eq_true rfl) rfl ?_
        refine wa_iinc 1 [(3, _), (2, _), (0, _), (1, _)] dX1_inState_47 rfl (w_inc k) (Nat.le_of_ble_eq_true rfl) rfl ?_
        refine wa_goto 4 dX1_inState_50 rfl ?_
        refine wa_locals [(3, _), (2, _), (0, _), (1, _)] [0, 1, 2, 3] rfl ?_
        exact ih (k + 1) _ (by omega) (by rw [← e]; congr 2; exact (if_pos c37).symm)
  refine wa_iconst (0) dX1_inState_0 (by decide) ?_
  refine wa_istore_n [(2, _), (0, _), (1, _)] dX1_inState_1 rfl (Nat.le_of_ble_eq_true rfl) rfl ?_
  refine wa_iconst (0) dX1_inState_2 (by decide) ?_
  refine wa_istore_n [(3, _), (2, _), (0, _), (1, _)] dX1_inState_3 rfl (Nat.le_of_ble_eq_true rfl) rfl ?_
  refine wa_locals [(3, _), (2, _), (0, _), (1, _)] [0, 1, 2, 3] rfl ?_
  exact LP _ 0 0 (Nat.zero_add _) rfl
theorem sp_sumSteps (h : z_sysL G M E x bl ba tx ca sv bas S) (hL : z_coreL G M P ca kd rl ol sg ra oa ras oas (z_cur S)) (hs : z_small (z_cur S)) : w_S l G tX1_sumOverRobots (4, 0, 0) [.ref x, .int 1] M (w_is (.inl (some (.int (z_sum z_steps (z_robs (z_cur S)) 0)))) M) := by
  have hg := h.2.1
  have hgc := hL.2.1
  obtain ⟨n1, n2, n3⟩ := z_idxL hs
  have hal := hL.2.2.2.2.1
  have hgl := hal.choose_spec.1
  have hlen : ras.length = (z_robs (z_cur S)).length := hL.2.2.2.2.2.2.1
  have hol := hL.2.2.2.2.2.1
  have hgo := hol.choose_spec.1
  have hleo : oas.length = (z_ords (z_cur S)).length := hL.2.2.2.2.2.2.2.1
  refine w_start (by decide) (Nat.le_of_ble_eq_true rfl) (fun X => ?_)
  refine wa_locals [(0, _), (1, _)] [0, 1] rfl ?_
  have LP : ∀ (n k : Nat) (v : Int32), k + n = (z_robs (z_cur S)).length → z_sum z_steps ((z_robs (z_cur S)).drop k) v = z_sum z_steps (z_robs (z_cur S)) 0 → w_A l G tX1_sumOverRobots (4, 0, 0) X 0 0 M 4 [(3, .int (nI k)), (2, .int v), (0, .ref x), (1, .int 1)] [] (w_is (.inl (some (.int (z_sum z_steps (z_robs (z_cur S)) 0)))) M) := by
    intro n
    induction n with
    | zero =>
      intro k v hn e
      rw [z_sum_end (by omega)] at e
      refine wa_iload_n 0 dX1_sumOverRobots_4 rfl rfl ?_
      refine wa_aload_n 2 dX1_sumOverRobots_5 rfl rfl ?_
      refine wa_getf dX1_sumOverRobots_6 gX1_14 hg rfl ?_
      refine wa_getf dX1_sumOverRobots_9 gX1_227 hgc rfl ?_
      refine wc_isI (wr_V dX1_sumOverRobots_12 mX1_68 (sp_size hal) hgl rfl rfl rfl (Nat.le_of_ble_eq_true rfl)) ?_
      refine wa_icmp_ge 68 dX1_sumOverRobots_15 rfl (fun c15 => ?_) (fun c15 => absurd (nI_le (by omega) (by omega)) c15)
      refine wa_iload_n 1 dX1_sumOverRobots_68 rfl rfl ?_
      refine wa_iret FieldType.int dX1_sumOverRobots_69 rfl rfl (Nat.le_of_ble_eq_true rfl) (Nat.le_of_ble_eq_true rfl) ?_
      exact ⟨by rw [← e], rfl⟩
    | succ n ih =>
      intro k v hn e
      obtain ⟨r, hr⟩ : ∃ r, (z_robs (z_cur S))[k]? = some r := ⟨_, List.getElem?_eq_getElem (by omega)⟩
      obtain ⟨y, hy, pv, hrp, hrn⟩ := z_robAt hL hr
      obtain ⟨dn, hpy, hob, hrest⟩ := id hrp
      rw [z_sum_at hr] at e
      refine wa_iload_n 0 dX1_sumOverRobots_4 rfl rfl ?_
      refine wa_aload_n 2 dX1_sumOverRobots_5 rfl rfl ?_
      refine wa_getf dX1_sumOverRobots_6 gX1_14 hg rfl ?_
      refine wa_getf dX1_sumOverRobots_9 gX1_227 hgc rfl ?_
      refine wc_isI (wr_V dX1_sumOverRobots_12 mX1_68 (sp_size hal) hgl rfl rfl rfl (Nat.le_of_ble_eq_true rfl)) ?_
      refine wa_icmp_ge 68 dX1_sumOverRobots_15 rfl (fun c15 => absurd c15 (nI_lt_not (by omega) (by omega))) (fun c15 => ?_)
      refine wa_iload_n 1 dX1_sumOverRobots_18 rfl rfl ?_
      refine wa_iload_n 3 dX1_sumOverRobots_19 rfl rfl ?_
      refine wa_if_eq 43 dX1_sumOverRobots_20 rfl (fun c20 => absurd c20 (by decide)) (fun c20 => ?_)
      refine wa_aload_n 2 dX1_sumOverRobots_23 rfl rfl ?_
      refine wa_getf dX1_sumOverRobots_24 gX1_14 hg rfl ?_
      refine wa_getf dX1_sumOverRobots_27 gX1_227 hgc rfl ?_
      refine wa_iload_n 0 dX1_sumOverRobots_30 rfl rfl ?_
      refine wc_isA (wr_V dX1_sumOverRobots_31 mX1_230 (sp_get hal hy) hgl rfl rfl rfl (Nat.le_of_ble_eq_true rfl)) ?_
      refine wa_castS dX1_sumOverRobots_34 q1200 hob rfl ?_
      refine wa_getf dX1_sumOverRobots_37 gX1_260 hob rfl ?_
      refine wa_goto 60 dX1_sumOverRobots_40 rfl ?_
      refine wa_iadd dX1_sumOverRobots_60 ?_
      refine wa_istore_n [(2, _), (3, _), (0, _), (1, _)] dX1_sumOverRobots_61 rfl (Nat.le_of_ble_eq_true rfl) rfl ?_
      refine wa_iinc 1 [(3, _), (2, _), (0, _), (1, _)] dX1_sumOverRobots_62 rfl (w_inc k) (Nat.le_of_ble_eq_true rfl) rfl ?_
      refine wa_goto 4 dX1_sumOverRobots_65 rfl ?_
      refine wa_locals [(3, _), (2, _), (0, _), (1, _)] [0, 1, 2, 3] rfl ?_
      exact ih (k + 1) _ (by omega) e
  refine wa_iconst (0) dX1_sumOverRobots_0 (by decide) ?_
  refine wa_istore_n [(2, _), (0, _), (1, _)] dX1_sumOverRobots_1 rfl (Nat.le_of_ble_eq_true rfl) rfl ?_
  refine wa_iconst (0) dX1_sumOverRobots_2 (by decide) ?_
  refine wa_istore_n [(3, _), (2, _), (0, _), (1, _)] dX1_sumOverRobots_3 rfl (Nat.le_of_ble_eq_true rfl) rfl ?_
  refine wa_locals [(3, _), (2, _), (0, _), (1, _)] [0, 1, 2, 3] rfl ?_
  exact LP _ 0 0 (Nat.zero_add _) rfl
theorem sp_sumBatt (h : z_sysL G M E x bl ba tx ca sv bas S) (hL : z_coreL G M P ca kd rl ol sg ra oa ras oas (z_cur S)) (hs : z_small (z_cur S)) : w_S l G tX1_sumOverRobots (4, 0, 0) [.ref x, .int 0] M (w_is (.inl (some (.int (z_sum z_batt (z_robs (z_cur S)) 0)))) M) := by
  have hg := h.2.1
  have hgc := hL.2.1
  obtain ⟨n1, n2, n3⟩ := z_idxL hs
  have hal := hL.2.2.2.2.1
  have hgl := hal.choose_spec.1
  have hlen : ras.length = (z_robs (z_cur S)).length := hL.2.2.2.2.2.2.1
  have hol := hL.2.2.2.2.2.1
  have hgo := hol.choose_spec.1
  have hleo : oas.length = (z_ords (z_cur S)).length := hL.2.2.2.2.2.2.2.1
  refine w_start (by decide) (Nat.le_of_ble_eq_true rfl) (fun X => ?_)
  refine wa_locals [(0, _), (1, _)] [0, 1] rfl ?_
  have LP : ∀ (n k : Nat) (v : Int32), k + n = (z_robs (z_cur S)).length → z_sum z_batt ((z_robs (z_cur S)).drop k) v = z_sum z_batt (z_robs (z_cur S)) 0 → w_A l G tX1_sumOverRobots (4, 0, 0) X 0 0 M 4 [(3, .int (nI k)), (2, .int v), (0, .ref x), (1, .int 0)] [] (w_is (.inl (some (.int (z_sum z_batt (z_robs (z_cur S)) 0)))) M) := by
    intro n
    induction n with
    | zero =>
      intro k v hn e
      rw [z_sum_end (by omega)] at e
      refine wa_iload_n 0 dX1_sumOverRobots_4 rfl rfl ?_
      refine wa_aload_n 2 dX1_sumOverRobots_5 rfl rfl ?_
      refine wa_getf dX1_sumOverRobots_6 gX1_14 hg rfl ?_
      refine wa_getf dX1_sumOverRobots_9 gX1_227 hgc rfl ?_
      refine wc_isI (wr_V dX1_sumOverRobots_12 mX1_68 (sp_size hal) hgl rfl rfl rfl (Nat.le_of_ble_eq_true rfl)) ?_
      refine wa_icmp_ge 68 dX1_sumOverRobots_15 rfl (fun c15 => ?_) (fun c15 => absurd (nI_le (by omega) (by omega)) c15)
      refine wa_iload_n 1 dX1_sumOverRobots_68 rfl rfl ?_
      refine wa_iret FieldType.int dX1_sumOverRobots_69 rfl rfl (Nat.le_of_ble_eq_true rfl) (Nat.le_of_ble_eq_true rfl) ?_
      exact ⟨by rw [← e], rfl⟩
    | succ n ih =>
      intro k v hn e
      obtain ⟨r, hr⟩ : ∃ r, (z_robs (z_cur S))[k]? = some r := ⟨_, List.getElem?_eq_getElem (by omega)⟩
      obtain ⟨y, hy, pv, hrp, hrn⟩ := z_robAt hL hr
      obtain ⟨dn, hpy, hob, hrest⟩ := id hrp
      rw [z_sum_at hr] at e
      refine wa_iload_n 0 dX1_sumOverRobots_4 rfl rfl ?_
      refine wa_aload_n 2 dX1_sumOverRobots_5 rfl rfl ?_
      refine wa_getf dX1_sumOverRobots_6 gX1_14 hg rfl ?_
      refine wa_getf dX1_sumOverRobots_9 gX1_227 hgc rfl ?_
      refine wc_isI (wr_V dX1_sumOverRobots_12 mX1_68 (sp_size hal) hgl rfl rfl rfl (Nat.le_of_ble_eq_true rfl)) ?_
      refine wa_icmp_ge 68 dX1_sumOverRobots_15 rfl (fun c15 => absurd c15 (nI_lt_not (by omega) (by omega))) (fun c15 => ?_)
      refine wa_iload_n 1 dX1_sumOverRobots_18 rfl rfl ?_
      refine wa_iload_n 3 dX1_sumOverRobots_19 rfl rfl ?_
      refine wa_if_eq 43 dX1_sumOverRobots_20 rfl (fun c20 => ?_) (fun c20 => absurd rfl c20)
      refine wa_aload_n 2 dX1_sumOverRobots_43 rfl rfl ?_
      refine wa_getf dX1_sumOverRobots_44 gX1_14 hg rfl ?_
      refine wa_getf dX1_sumOverRobots_47 gX1_227 hgc rfl ?_
      refine wa_iload_n 0 dX1_sumOverRobots_50 rfl rfl ?_
      refine wc_isA (wr_V dX1_sumOverRobots_51 mX1_230 (sp_get hal hy) hgl rfl rfl rfl (Nat.le_of_ble_eq_true rfl)) ?_
      refine wa_castS dX1_sumOverRobots_54 q1200 hob rfl ?_
      refine wa_getf dX1_sumOverRobots_57 gX1_242 hob rfl ?_
      refine wa_iadd dX1_sumOverRobots_60 ?_
      refine wa_istore_n [(2, _), (3, _), (0, _), (1, _)] dX1_sumOverRobots_61 rfl (Nat.le_of_ble_eq_true rfl) rfl ?_
      refine wa_iinc 1 [(3, _), (2, _), (0, _), (1, _)] dX1_sumOverRobots_62 rfl (w_inc k) (Nat.le_of_ble_eq_true rfl) rfl ?_
      refine wa_goto 4 dX1_sumOverRobots_65 rfl ?_
      refine wa_locals [(3, _), (2, _), (0, _), (1, _)] [0, 1, 2, 3] rfl ?_
      exact ih (k + 1) _ (by omega) e
  refine wa_iconst (0) dX1_sumOverRobots_0 (by decide) ?_
  refine wa_istore_n [(2, _), (0, _), (1, _)] dX1_sumOverRobots_1 rfl (Nat.le_of_ble_eq_true rfl) rfl ?_
  refine wa_iconst (0) dX1_sumOverRobots_2 (by decide) ?_
  refine wa_istore_n [(3, _), (2, _), (0, _), (1, _)] dX1_sumOverRobots_3 rfl (Nat.le_of_ble_eq_true rfl) rfl ?_
  refine wa_locals [(3, _), (2, _), (0, _), (1, _)] [0, 1, 2, 3] rfl ?_
  exact LP _ 0 0 (Nat.zero_add _) rfl
theorem sp_picked (h : z_sysL G M E x bl ba tx ca sv bas S) (hL : z_coreL G M P ca kd rl ol sg ra oa ras oas (z_cur S)) (hs : z_small (z_cur S)) : w_S l G tX1_picked (4, 0, 0) [.ref x] M (w_is (.inl (some (.int (z_sum (fun o => nI (z_picked o)) (z_ords (z_cur S)) 0)))) M) := by
  have hg := h.2.1
  have hgc := hL.2.1
  obtain ⟨n1, n2, n3⟩ := z_idxL hs
  have hal := hL.2.2.2.2.1
  have hgl := hal.choose_spec.1
  have hlen : ras.length = (z_robs (z_cur S)).length := hL.2.2.2.2.2.2.1
  have hol := hL.2.2.2.2.2.1
  have hgo := hol.choose_spec.1
  have hleo : oas.length = (z_ords (z_cur S)).length := hL.2.2.2.2.2.2.2.1
  refine w_start (by decide) (Nat.le_of_ble_eq_true rfl) (fun X => ?_)
  refine wa_locals [(0, _)] [0] rfl ?_
  have LP : ∀ (n k : Nat) (v : Int32), k + n = (z_ords (z_cur S)).length → z_sum (fun o => nI (z_picked o)) ((z_ords (z_cur S)).drop k) v = z_sum (fun o => nI (z_picked o)) (z_ords (z_cur S)) 0 → w_A l G tX1_picked (4, 0, 0) X 0 0 M 4 [(2, .int (nI k)), (1, .int v), (0, .ref x)] [] (w_is (.inl (some (.int (z_sum (fun o => nI (z_picked o)) (z_ords (z_cur S)) 0)))) M) := by
    intro n
    induction n with
    | zero =>
      intro k v hn e
      rw [z_sum_end (by omega)] at e
      refine wa_iload_n 0 dX1_picked_4 rfl rfl ?_
      refine wa_aload_n 2 dX1_picked_5 rfl rfl ?_
      refine wa_getf dX1_picked_6 gX1_14 hg rfl ?_
      refine wa_getf dX1_picked_9 gX1_283 hgc rfl ?_
      refine wc_isI (wr_V dX1_picked_12 mX1_68 (sp_size hol) hgo rfl rfl rfl (Nat.le_of_ble_eq_true rfl)) ?_
      refine wa_icmp_ge 44 dX1_picked_15 rfl (fun c15 => ?_) (fun c15 => absurd (nI_le (by omega) (by omega)) c15)
      refine wa_iload_n 1 dX1_picked_44 rfl rfl ?_
      refine wa_iret FieldType.int dX1_picked_45 rfl rfl (Nat.le_of_ble_eq_true rfl) (Nat.le_of_ble_eq_true rfl) ?_
      exact ⟨by rw [← e], rfl⟩
    | succ n ih =>
      intro k v hn e
      obtain ⟨o, hr⟩ : ∃ o, (z_ords (z_cur S))[k]? = some o := ⟨_, List.getElem?_eq_getElem (by omega)⟩
      obtain ⟨y, hy, hor⟩ := z_ordAt hL hr
      obtain ⟨la, hp1, hp2, hob, f, hla, hlf⟩ := id hor
      have hsm := hs.2.2.2.2.2.2.2 o (List.mem_of_getElem? hr)
      rw [z_sum_at hr] at e
      refine wa_iload_n 0 dX1_picked_4 rfl rfl ?_
      refine wa_aload_n 2 dX1_picked_5 rfl rfl ?_
      refine wa_getf dX1_picked_6 gX1_14 hg rfl ?_
      refine wa_getf dX1_picked_9 gX1_283 hgc rfl ?_
      refine wc_isI (wr_V dX1_picked_12 mX1_68 (sp_size hol) hgo rfl rfl rfl (Nat.le_of_ble_eq_true rfl)) ?_
      refine wa_icmp_ge 44 dX1_picked_15 rfl (fun c15 => absurd c15 (nI_lt_not (by omega) (by omega))) (fun c15 => ?_)
      refine wa_iload_n 1 dX1_picked_18 rfl rfl ?_
      refine wa_aload_n 2 dX1_picked_19 rfl rfl ?_
      refine wa_getf dX1_picked_20 gX1_14 hg rfl ?_
      refine wa_getf dX1_picked_23 gX1_283 hgc rfl ?_
      refine wa_iload_n 0 dX1_picked_26 rfl rfl ?_
      refine wc_isA (wr_V dX1_picked_27 mX1_230 (sp_get hol hy) hgo rfl rfl rfl (Nat.le_of_ble_eq_true rfl)) ?_
      refine wa_castS dX1_picked_30 q1548 hob rfl ?_
      refine wa_getf dX1_picked_33 gX1_298 hob rfl ?_
      refine wa_iadd dX1_picked_36 ?_
      refine wa_istore_n [(1, _), (2, _), (0, _)] dX1_picked_37 rfl (Nat.le_of_ble_eq_true rfl) rfl ?_
      refine wa_iinc 1 [(2, _), (1, _), (0, _)] dX1_picked_38 rfl (w_inc k) (Nat.le_of_ble_eq_true rfl) rfl ?_
      refine wa_goto 4 dX1_picked_41 rfl ?_
      refine wa_locals [(2, _), (1, _), (0, _)] [0, 1, 2] rfl ?_
      exact ih (k + 1) _ (by omega) e
  refine wa_iconst (0) dX1_picked_0 (by decide) ?_
  refine wa_istore_n [(1, _), (0, _)] dX1_picked_1 rfl (Nat.le_of_ble_eq_true rfl) rfl ?_
  refine wa_iconst (0) dX1_picked_2 (by decide) ?_
  refine wa_istore_n [(2, _), (1, _), (0, _)] dX1_picked_3 rfl (Nat.le_of_ble_eq_true rfl) rfl ?_
  refine wa_locals [(2, _), (1, _), (0, _)] [0, 1, 2] rfl ?_
  exact LP _ 0 0 (Nat.zero_add _) rfl
theorem sp_X1_account (hS : z_sys G M E x bl tx S) (hs : z_small (z_cur S)) {w : Int32} : w_S l G tX1_account (9, 1, 6) [.ref x, .int w] M (z_anQ G E x bl tx M S (z_ask [z_IA] S (z_acctA S w))) := by
  have hS0 := hS
  obtain ⟨ba, ca, sv, bas, h⟩ := hS
  have hg := h.2.1
  obtain ⟨kd, rl, ol, sg, ra, oa, ras, oas, hL⟩ := h.2.2.1
  have hgc := hL.2.1
  obtain ⟨n1, n2, n3⟩ := z_idxL hs
  have hsz := hs.size
  have hal := hL.2.2.2.2.1
  have hgl := hal.choose_spec.1
  have hlen : ras.length = (z_robs (z_cur S)).length := hL.2.2.2.2.2.2.1
  have hol := hL.2.2.2.2.2.1
  have hgo := hol.choose_spec.1
  have hleo : oas.length = (z_ords (z_cur S)).length := hL.2.2.2.2.2.2.2.1
  have hbl := h.2.2.2.1
  have hgb := hbl.choose_spec.1
  have hleb : bas.length = (z_past S).length := h.2.2.2.2.1
  obtain ⟨sf, hs1, hs2⟩ := hL.2.2.2.1
  cases i2 : z_idx w 17 with
  | none =>
    have hr : z_acctA S w = .inr 1 := by simp only [z_acctA, i2]
    refine w_start (by decide) (Nat.le_of_ble_eq_true rfl) (fun X => ?_)
    refine wa_locals [(0, _), (1, _)] [0, 1] rfl ?_
    refine wa_iload_n 1 dX1_account_0 rfl rfl ?_
    refine wa_iconst (0) dX1_account_1 (by decide) ?_
    refine wa_bipush (16) dX1_account_2 (by decide) ?_
    refine wc_isI (wr_S dX1_account_4 mX1_182 (sp_betweenZ (z_btwZ (by decide) i2 (by decide))) rfl rfl rfl (Nat.le_of_ble_eq_true rfl)) ?_
    refine wc_isx (wr_S dX1_account_7 mX1_186 sp_requireArgumentT rfl rfl rfl (Nat.le_of_ble_eq_true rfl)) ?_
    exact wx_out (fun _ h => by cases h) (Nat.le_of_ble_eq_true rfl) (Nat.le_of_ble_eq_true rfl) (z_anN hS0 ((congrArg (z_ask _ S) hr).trans rfl) w_fr.rf.push)
  | some m =>
    have hm := z_idx_lt (by decide) i2
    have ew := z_idx_eq (by decide) i2
    subst ew
    have hr : z_acctA S (nI m) = .inl (z_acct S m) := by simp only [z_acctA, i2]
    rcases (show m = 0 ∨ m = 1 ∨ m = 2 ∨ m = 3 ∨ m = 4 ∨ m = 5 ∨ m = 6 ∨ m = 7 ∨ m = 8 ∨ m = 9 ∨ m = 10 ∨ m = 11 ∨ m = 12 ∨ m = 13 ∨ m = 14 ∨ m = 15 ∨ m = 16 by omega) with rfl | rfl | rfl | rfl | rfl | rfl | rfl | rfl | rfl | rfl | rfl | rfl | rfl | rfl | rfl | rfl | rfl
    ·
      refine w_start (by decide) (Nat.le_of_ble_eq_true rfl) (fun X => ?_)
      refine wa_locals [(0, _), (1, _)] [0, 1] rfl ?_
      refine wa_iload_n 1 dX1_account_0 rfl rfl ?_
      refine wa_iconst (0) dX1_account_1 (by decide) ?_
      refine wa_bipush (16) dX1_account_2 (by decide) ?_
      refine wc_isI (wr_S dX1_account_4 mX1_182 (sp_betweenY (by decide)) rfl rfl rfl (Nat.le_of_ble_eq_true rfl)) ?_
      refine wc_isV (wr_S dX1_account_7 mX1_186 sp_requireArgumentN rfl rfl rfl (Nat.le_of_ble_eq_true rfl)) ?_
      refine wa_iload_n 1 dX1_account_10 rfl rfl ?_
      refine wa_tableIn 80 dX1_account_11 (by decide) (by decide) rfl rfl ?_
      refine wa_aload_n 0 dX1_account_80 rfl rfl ?_
      refine wa_getf dX1_account_81 gX1_14 hg rfl ?_
      refine wa_getf dX1_account_84 gX1_352 hgc rfl ?_
      refine wa_iret FieldType.int dX1_account_87 rfl rfl (Nat.le_of_ble_eq_true rfl) (Nat.le_of_ble_eq_true rfl) ?_
      exact z_anY hS0 ((congrArg (z_ask _ S) hr).trans rfl) w_fr.rf
    ·
      refine w_start (by decide) (Nat.le_of_ble_eq_true rfl) (fun X => ?_)
      refine wa_locals [(0, _), (1, _)] [0, 1] rfl ?_
      refine wa_iload_n 1 dX1_account_0 rfl rfl ?_
      refine wa_iconst (0) dX1_account_1 (by decide) ?_
      refine wa_bipush (16) dX1_account_2 (by decide) ?_
      refine wc_isI (wr_S dX1_account_4 mX1_182 (sp_betweenY (by decide)) rfl rfl rfl (Nat.le_of_ble_eq_true rfl)) ?_
      refine wc_isV (wr_S dX1_account_7 mX1_186 sp_requireArgumentN rfl rfl rfl (Nat.le_of_ble_eq_true rfl)) ?_
      refine wa_iload_n 1 dX1_account_10 rfl rfl ?_
      refine wa_tableIn 88 dX1_account_11 (by decide) (by decide) rfl rfl ?_
      refine wa_aload_n 0 dX1_account_88 rfl rfl ?_
      refine wa_getf dX1_account_89 gX1_14 hg rfl ?_
      refine wa_getf dX1_account_92 gX1_355 hgc rfl ?_
      refine wa_iret FieldType.int dX1_account_95 rfl rfl (Nat.le_of_ble_eq_true rfl) (Nat.le_of_ble_eq_true rfl) ?_
      exact z_anY hS0 ((congrArg (z_ask _ S) hr).trans rfl) w_fr.rf
    ·
      refine w_start (by decide) (Nat.le_of_ble_eq_true rfl) (fun X => ?_)
      refine wa_locals [(0, _), (1, _)] [0, 1] rfl ?_
      refine wa_iload_n 1 dX1_account_0 rfl rfl ?_
      refine wa_iconst (0) dX1_account_1 (by decide) ?_
      refine wa_bipush (16) dX1_account_2 (by decide) ?_
      refine wc_isI (wr_S dX1_account_4 mX1_182 (sp_betweenY (by decide)) rfl rfl rfl (Nat.le_of_ble_eq_true rfl)) ?_
      refine wc_isV (wr_S dX1_account_7 mX1_186 sp_requireArgumentN rfl rfl rfl (Nat.le_of_ble_eq_true rfl)) ?_
      refine wa_iload_n 1 dX1_account_10 rfl rfl ?_
      refine wa_tableIn 96 dX1_account_11 (by decide) (by decide) rfl rfl ?_
      refine wa_aload_n 0 dX1_account_96 rfl rfl ?_
      refine wa_getf dX1_account_97 gX1_14 hg rfl ?_
      refine wa_getf dX1_account_100 gX1_227 hgc rfl ?_
      refine wc_isI (wr_V dX1_account_103 mX1_68 (sp_size hal) hgl rfl rfl rfl (Nat.le_of_ble_eq_true rfl)) ?_
      rw [hlen]
      refine wa_iret FieldType.int dX1_account_106 rfl rfl (Nat.le_of_ble_eq_true rfl) (Nat.le_of_ble_eq_true rfl) ?_
      exact z_anY hS0 ((congrArg (z_ask _ S) hr).trans rfl) w_fr.rf
    ·
      refine w_start (by decide) (Nat.le_of_ble_eq_true rfl) (fun X => ?_)
      refine wa_locals [(0, _), (1, _)] [0, 1] rfl ?_
      refine wa_iload_n 1 dX1_account_0 rfl rfl ?_
      refine wa_iconst (0) dX1_account_1 (by decide) ?_
      refine wa_bipush (16) dX1_account_2 (by decide) ?_
      refine wc_isI (wr_S dX1_account_4 mX1_182 (sp_betweenY (by decide)) rfl rfl rfl (Nat.le_of_ble_eq_true rfl)) ?_
      refine wc_isV (wr_S dX1_account_7 mX1_186 sp_requireArgumentN rfl rfl rfl (Nat.le_of_ble_eq_true rfl)) ?_
      refine wa_iload_n 1 dX1_account_10 rfl rfl ?_
      refine wa_tableIn 107 dX1_account_11 (by decide) (by decide) rfl rfl ?_
      refine wa_aload_n 0 dX1_account_107 rfl rfl ?_
      refine wa_getf dX1_account_108 gX1_14 hg rfl ?_
      refine wa_getf dX1_account_111 gX1_283 hgc rfl ?_
      refine wc_isI (wr_V dX1_account_114 mX1_68 (sp_size hol) hgo rfl rfl rfl (Nat.le_of_ble_eq_true rfl)) ?_
      rw [hleo]
      refine wa_iret FieldType.int dX1_account_117 rfl rfl (Nat.le_of_ble_eq_true rfl) (Nat.le_of_ble_eq_true rfl) ?_
      exact z_anY hS0 ((congrArg (z_ask _ S) hr).trans rfl) w_fr.rf
    ·
      refine w_start (by decide) (Nat.le_of_ble_eq_true rfl) (fun X => ?_)
      refine wa_locals [(0, _), (1, _)] [0, 1] rfl ?_
      refine wa_iload_n 1 dX1_account_0 rfl rfl ?_
      refine wa_iconst (0) dX1_account_1 (by decide) ?_
      refine wa_bipush (16) dX1_account_2 (by decide) ?_
      refine wc_isI (wr_S dX1_account_4 mX1_182 (sp_betweenY (by decide)) rfl rfl rfl (Nat.le_of_ble_eq_true rfl)) ?_
      refine wc_isV (wr_S dX1_account_7 mX1_186 sp_requireArgumentN rfl rfl rfl (Nat.le_of_ble_eq_true rfl)) ?_
      refine wa_iload_n 1 dX1_account_10 rfl rfl ?_
      refine wa_tableIn 118 dX1_account_11 (by decide) (by decide) rfl rfl ?_
      refine wa_aload_n 0 dX1_account_118 rfl rfl ?_
      refine wa_iload_n 1 dX1_account_119 rfl rfl ?_
      refine wa_iconst (4) dX1_account_120 (by decide) ?_
      refine wa_isub dX1_account_121 ?_
      rw [show nI 4 - 4 = 0 by decide]
      refine wc_isI (wr_V dX1_account_122 mX1_349 (sp_inState h hL hs) hg rfl rfl rfl (Nat.le_of_ble_eq_true rfl)) ?_
      refine wa_iret FieldType.int dX1_account_125 rfl rfl (Nat.le_of_ble_eq_true rfl) (Nat.le_of_ble_eq_true rfl) ?_
      exact z_anY hS0 ((congrArg (z_ask _ S) hr).trans rfl) w_fr.rf
    ·
      refine w_start (by decide) (Nat.le_of_ble_eq_true rfl) (fun X => ?_)
      refine wa_locals [(0, _), (1, _)] [0, 1] rfl ?_
      refine wa_iload_n 1 dX1_account_0 rfl rfl ?_
      refine wa_iconst (0) dX1_account_1 (by decide) ?_
      refine wa_bipush (16) dX1_account_2 (by decide) ?_
      refine wc_isI (wr_S dX1_account_4 mX1_182 (sp_betweenY (by decide)) rfl rfl rfl (Nat.le_of_ble_eq_true rfl)) ?_
      refine wc_isV (wr_S dX1_account_7 mX1_186 sp_requireArgumentN rfl rfl rfl (Nat.le_of_ble_eq_true rfl)) ?_
      refine wa_iload_n 1 dX1_account_10 rfl rfl ?_
      refine wa_tableIn 118 dX1_account_11 (by decide) (by decide) rfl rfl ?_
      refine wa_aload_n 0 dX1_account_118 rfl rfl ?_
      refine wa_iload_n 1 dX1_account_119 rfl rfl ?_
      refine wa_iconst (4) dX1_account_120 (by decide) ?_
      refine wa_isub dX1_account_121 ?_
      rw [show nI 5 - 4 = 1 by decide]
      refine wc_isI (wr_V dX1_account_122 mX1_349 (sp_inState h hL hs) hg rfl rfl rfl (Nat.le_of_ble_eq_true rfl)) ?_
      refine wa_iret FieldType.int dX1_account_125 rfl rfl (Nat.le_of_ble_eq_true rfl) (Nat.le_of_ble_eq_true rfl) ?_
      exact z_anY hS0 ((congrArg (z_ask _ S) hr).trans rfl) w_fr.rf
    ·
      refine w_start (by decide) (Nat.le_of_ble_eq_true rfl) (fun X => ?_)
      refine wa_locals [(0, _), (1, _)] [0, 1] rfl ?_
      refine wa_iload_n 1 dX1_account_0 rfl rfl ?_
      refine wa_iconst (0) dX1_account_1 (by decide) ?_
      refine wa_bipush (16) dX1_account_2 (by decide) ?_
      refine wc_isI (wr_S dX1_account_4 mX1_182 (sp_betweenY (by decide)) rfl rfl rfl (Nat.le_of_ble_eq_true rfl)) ?_
      refine wc_isV (wr_S dX1_account_7 mX1_186 sp_requireArgumentN rfl rfl rfl (Nat.le_of_ble_eq_true rfl)) ?_
      refine wa_iload_n 1 dX1_account_10 rfl rfl ?_
      refine wa_tableIn 118 dX1_account_11 (by decide) (by decide) rfl rfl ?_
      refine wa_aload_n 0 dX1_account_118 rfl rfl ?_
      refine wa_iload_n 1 dX1_account_119 rfl rfl ?_
      refine wa_iconst (4) dX1_account_120 (by decide) ?_
      refine wa_isub dX1_account_121 ?_
      rw [show nI 6 - 4 = 2 by decide]
      refine wc_isI (wr_V dX1_account_122 mX1_349 (sp_inState h hL hs) hg rfl rfl rfl (Nat.le_of_ble_eq_true rfl)) ?_
      refine wa_iret FieldType.int dX1_account_125 rfl rfl (Nat.le_of_ble_eq_true rfl) (Nat.le_of_ble_eq_true rfl) ?_
      exact z_anY hS0 ((congrArg (z_ask _ S) hr).trans rfl) w_fr.rf
    ·
      refine w_start (by decide) (Nat.le_of_ble_eq_true rfl) (fun X => ?_)
      refine wa_locals [(0, _), (1, _)] [0, 1] rfl ?_
      refine wa_iload_n 1 dX1_account_0 rfl rfl ?_
      refine wa_iconst (0) dX1_account_1 (by decide) ?_
      refine wa_bipush (16) dX1_account_2 (by decide) ?_
      refine wc_isI (wr_S dX1_account_4 mX1_182 (sp_betweenY (by decide)) rfl rfl rfl (Nat.le_of_ble_eq_true rfl)) ?_
      refine wc_isV (wr_S dX1_account_7 mX1_186 sp_requireArgumentN rfl rfl rfl (Nat.le_of_ble_eq_true rfl)) ?_
      refine wa_iload_n 1 dX1_account_10 rfl rfl ?_
      refine wa_tableIn 126 dX1_account_11 (by decide) (by decide) rfl rfl ?_
      refine wa_aload_n 0 dX1_account_126 rfl rfl ?_
      refine wa_getf dX1_account_127 gX1_14 hg rfl ?_
      refine wa_getf dX1_account_130 gX1_358 hgc rfl ?_
      refine wc_isI (wr_S dX1_account_133 mX1_362 sp_bitCount rfl rfl rfl (Nat.le_of_ble_eq_true rfl)) ?_
      refine wa_iret FieldType.int dX1_account_136 rfl rfl (Nat.le_of_ble_eq_true rfl) (Nat.le_of_ble_eq_true rfl) ?_
      exact z_anY hS0 ((congrArg (z_ask _ S) hr).trans rfl) w_fr.rf
    ·
      refine w_start (by decide) (Nat.le_of_ble_eq_true rfl) (fun X => ?_)
      refine wa_locals [(0, _), (1, _)] [0, 1] rfl ?_
      refine wa_iload_n 1 dX1_account_0 rfl rfl ?_
      refine wa_iconst (0) dX1_account_1 (by decide) ?_
      refine wa_bipush (16) dX1_account_2 (by decide) ?_
      refine wc_isI (wr_S dX1_account_4 mX1_182 (sp_betweenY (by decide)) rfl rfl rfl (Nat.le_of_ble_eq_true rfl)) ?_
      refine wc_isV (wr_S dX1_account_7 mX1_186 sp_requireArgumentN rfl rfl rfl (Nat.le_of_ble_eq_true rfl)) ?_
      refine wa_iload_n 1 dX1_account_10 rfl rfl ?_
      refine wa_tableIn 137 dX1_account_11 (by decide) (by decide) rfl rfl ?_
      refine wa_aload_n 0 dX1_account_137 rfl rfl ?_
      refine wa_getf dX1_account_138 gX1_14 hg rfl ?_
      refine wa_getf dX1_account_141 gX1_368 hgc rfl ?_
      refine wa_iret FieldType.int dX1_account_144 rfl rfl (Nat.le_of_ble_eq_true rfl) (Nat.le_of_ble_eq_true rfl) ?_
      exact z_anY hS0 ((congrArg (z_ask _ S) hr).trans rfl) w_fr.rf
    ·
      refine w_start (by decide) (Nat.le_of_ble_eq_true rfl) (fun X => ?_)
      refine wa_locals [(0, _), (1, _)] [0, 1] rfl ?_
      refine wa_iload_n 1 dX1_account_0 rfl rfl ?_
      refine wa_iconst (0) dX1_account_1 (by decide) ?_
      refine wa_bipush (16) dX1_account_2 (by decide) ?_
      refine wc_isI (wr_S dX1_account_4 mX1_182 (sp_betweenY (by decide)) rfl rfl rfl (Nat.le_of_ble_eq_true rfl)) ?_
      refine wc_isV (wr_S dX1_account_7 mX1_186 sp_requireArgumentN rfl rfl rfl (Nat.le_of_ble_eq_true rfl)) ?_
      refine wa_iload_n 1 dX1_account_10 rfl rfl ?_
      refine wa_tableIn 145 dX1_account_11 (by decide) (by decide) rfl rfl ?_
      refine wa_aload_n 0 dX1_account_145 rfl rfl ?_
      refine wa_iload_n 1 dX1_account_146 rfl rfl ?_
      refine wa_bipush (9) dX1_account_147 (by decide) ?_
      refine wa_icmp_ne 156 dX1_account_149 rfl (fun c149 => absurd (by decide) c149) (fun c149 => ?_)
      refine wa_iconst (1) dX1_account_152 (by decide) ?_
      refine wa_goto 157 dX1_account_153 rfl ?_
      refine wc_isI (wr_V dX1_account_157 mX1_371 (sp_sumSteps h hL hs) hg rfl rfl rfl (Nat.le_of_ble_eq_true rfl)) ?_
      refine wa_iret FieldType.int dX1_account_160 rfl rfl (Nat.le_of_ble_eq_true rfl) (Nat.le_of_ble_eq_true rfl) ?_
      exact z_anY hS0 ((congrArg (z_ask _ S) hr).trans rfl) w_fr.rf
    ·
      refine w_start (by decide) (Nat.le_of_ble_eq_true rfl) (fun X => ?_)
      refine wa_locals [(0, _), (1, _)] [0, 1] rfl ?_
      refine wa_iload_n 1 dX1_account_0 rfl rfl ?_
      refine wa_iconst (0) dX1_account_1 (by decide) ?_
      refine wa_bipush (16) dX1_account_2 (by decide) ?_
      refine wc_isI (wr_S dX1_account_4 mX1_182 (sp_betweenY (by decide)) rfl rfl rfl (Nat.le_of_ble_eq_true rfl)) ?_
      refine wc_isV (wr_S dX1_account_7 mX1_186 sp_requireArgumentN rfl rfl rfl (Nat.le_of_ble_eq_true rfl)) ?_
      refine wa_iload_n 1 dX1_account_10 rfl rfl ?_
      refine wa_tableIn 161 dX1_account_11 (by decide) (by decide) rfl rfl ?_
      refine wa_aload_n 0 dX1_account_161 rfl rfl ?_
      refine wc_isI (wr_V dX1_account_162 mX1_375 (sp_picked h hL hs) hg rfl rfl rfl (Nat.le_of_ble_eq_true rfl)) ?_
      refine wa_iret FieldType.int dX1_account_165 rfl rfl (Nat.le_of_ble_eq_true rfl) (Nat.le_of_ble_eq_true rfl) ?_
      exact z_anY hS0 ((congrArg (z_ask _ S) hr).trans rfl) w_fr.rf
    ·
      refine w_start (by decide) (Nat.le_of_ble_eq_true rfl) (fun X => ?_)
      refine wa_locals [(0, _), (1, _)] [0, 1] rfl ?_
      refine wa_iload_n 1 dX1_account_0 rfl rfl ?_
      refine wa_iconst (0) dX1_account_1 (by decide) ?_
      refine wa_bipush (16) dX1_account_2 (by decide) ?_
      refine wc_isI (wr_S dX1_account_4 mX1_182 (sp_betweenY (by decide)) rfl rfl rfl (Nat.le_of_ble_eq_true rfl)) ?_
      refine wc_isV (wr_S dX1_account_7 mX1_186 sp_requireArgumentN rfl rfl rfl (Nat.le_of_ble_eq_true rfl)) ?_
      refine wa_iload_n 1 dX1_account_10 rfl rfl ?_
      refine wa_tableIn 145 dX1_account_11 (by decide) (by decide) rfl rfl ?_
      refine wa_aload_n 0 dX1_account_145 rfl rfl ?_
      refine wa_iload_n 1 dX1_account_146 rfl rfl ?_
      refine wa_bipush (9) dX1_account_147 (by decide) ?_
      refine wa_icmp_ne 156 dX1_account_149 rfl (fun c149 => ?_) (fun c149 => absurd c149 (by decide))
      refine wa_iconst (0) dX1_account_156 (by decide) ?_
      refine wc_isI (wr_V dX1_account_157 mX1_371 (sp_sumBatt h hL hs) hg rfl rfl rfl (Nat.le_of_ble_eq_true rfl)) ?_
      refine wa_iret FieldType.int dX1_account_160 rfl rfl (Nat.le_of_ble_eq_true rfl) (Nat.le_of_ble_eq_true rfl) ?_
      exact z_anY hS0 ((congrArg (z_ask _ S) hr).trans rfl) w_fr.rf
    ·
      refine w_start (by decide) (Nat.le_of_ble_eq_true rfl) (fun X => ?_)
      refine wa_locals [(0, _), (1, _)] [0, 1] rfl ?_
      refine wa_iload_n 1 dX1_account_0 rfl rfl ?_
      refine wa_iconst (0) dX1_account_1 (by decide) ?_
      refine wa_bipush (16) dX1_account_2 (by decide) ?_
      refine wc_isI (wr_S dX1_account_4 mX1_182 (sp_betweenY (by decide)) rfl rfl rfl (Nat.le_of_ble_eq_true rfl)) ?_
      refine wc_isV (wr_S dX1_account_7 mX1_186 sp_requireArgumentN rfl rfl rfl (Nat.le_of_ble_eq_true rfl)) ?_
      refine wa_iload_n 1 dX1_account_10 rfl rfl ?_
      refine wa_tableIn 166 dX1_account_11 (by decide) (by decide) rfl rfl ?_
      refine wa_aload_n 0 dX1_account_166 rfl rfl ?_
      refine wa_getf dX1_account_167 gX1_21 hg rfl ?_
      refine wc_isI (wr_V dX1_account_170 mX1_68 (sp_size hbl) hgb rfl rfl rfl (Nat.le_of_ble_eq_true rfl)) ?_
      rw [hleb]
      refine wa_iret FieldType.int dX1_account_173 rfl rfl (Nat.le_of_ble_eq_true rfl) (Nat.le_of_ble_eq_true rfl) ?_
      exact z_anY hS0 ((congrArg (z_ask _ S) hr).trans rfl) w_fr.rf
    ·
      refine w_start (by decide) (Nat.le_of_ble_eq_true rfl) (fun X => ?_)
      refine wa_locals [(0, _), (1, _)] [0, 1] rfl ?_
      refine wa_iload_n 1 dX1_account_0 rfl rfl ?_
      refine wa_iconst (0) dX1_account_1 (by decide) ?_
      refine wa_bipush (16) dX1_account_2 (by decide) ?_
      refine wc_isI (wr_S dX1_account_4 mX1_182 (sp_betweenY (by decide)) rfl rfl rfl (Nat.le_of_ble_eq_true rfl)) ?_
      refine wc_isV (wr_S dX1_account_7 mX1_186 sp_requireArgumentN rfl rfl rfl (Nat.le_of_ble_eq_true rfl)) ?_
      refine wa_iload_n 1 dX1_account_10 rfl rfl ?_
      refine wa_tableIn 174 dX1_account_11 (by decide) (by decide) rfl rfl ?_
      refine wa_aload_n 0 dX1_account_174 rfl rfl ?_
      refine wa_getf dX1_account_175 gX1_138 hg rfl ?_
      refine wa_iret FieldType.int dX1_account_178 rfl rfl (Nat.le_of_ble_eq_true rfl) (Nat.le_of_ble_eq_true rfl) ?_
      exact z_anY hS0 ((congrArg (z_ask _ S) hr).trans rfl) w_fr.rf
    ·
      refine w_start (by decide) (Nat.le_of_ble_eq_true rfl) (fun X => ?_)
      refine wa_locals [(0, _), (1, _)] [0, 1] rfl ?_
      refine wa_iload_n 1 dX1_account_0 rfl rfl ?_
      refine wa_iconst (0) dX1_account_1 (by decide) ?_
      refine wa_bipush (16) dX1_account_2 (by decide) ?_
      refine wc_isI (wr_S dX1_account_4 mX1_182 (sp_betweenY (by decide)) rfl rfl rfl (Nat.le_of_ble_eq_true rfl)) ?_
      refine wc_isV (wr_S dX1_account_7 mX1_186 sp_requireArgumentN rfl rfl rfl (Nat.le_of_ble_eq_true rfl)) ?_
      refine wa_iload_n 1 dX1_account_10 rfl rfl ?_
      refine wa_tableOut 179 dX1_account_11 (by decide) rfl ?_
      refine wa_aload_n 0 dX1_account_179 rfl rfl ?_
      refine wa_getf dX1_account_180 gX1_14 hg rfl ?_
      refine wa_getf dX1_account_183 gX1_153 hgc rfl ?_
      refine wa_iload_n 1 dX1_account_186 rfl rfl ?_
      refine wa_bipush (14) dX1_account_187 (by decide) ?_
      refine wa_isub dX1_account_189 ?_
      rw [show nI 14 - 14 = nI 0 by decide]
      refine wa_iald dX1_account_190 hs1 (vp_in_nI (by decide) (by decide)) ?_
      rw [nI_clamp (by decide), hs2 0 (by decide)]
      refine wa_iret FieldType.int dX1_account_191 rfl rfl (Nat.le_of_ble_eq_true rfl) (Nat.le_of_ble_eq_true rfl) ?_
      exact z_anY hS0 ((congrArg (z_ask _ S) hr).trans rfl) w_fr.rf
    ·
      refine w_start (by decide) (Nat.le_of_ble_eq_true rfl) (fun X => ?_)
      refine wa_locals [(0, _), (1, _)] [0, 1] rfl ?_
      refine wa_iload_n 1 dX1_account_0 rfl rfl ?_
      refine wa_iconst (0) dX1_account_1 (by decide) ?_
      refine wa_bipush (16) dX1_account_2 (by decide) ?_
      refine wc_isI (wr_S dX1_account_4 mX1_182 (sp_betweenY (by decide)) rfl rfl rfl (Nat.le_of_ble_eq_true rfl)) ?_
      refine wc_isV (wr_S dX1_account_7 mX1_186 sp_requireArgumentN rfl rfl rfl (Nat.le_of_ble_eq_true rfl)) ?_
      refine wa_iload_n 1 dX1_account_10 rfl rfl ?_
      refine wa_tableOut 179 dX1_account_11 (by decide) rfl ?_
      refine wa_aload_n 0 dX1_account_179 rfl rfl ?_
      refine wa_getf dX1_account_180 gX1_14 hg rfl ?_
      refine wa_getf dX1_account_183 gX1_153 hgc rfl ?_
      refine wa_iload_n 1 dX1_account_186 rfl rfl ?_
      refine wa_bipush (14) dX1_account_187 (by decide) ?_
      refine wa_isub dX1_account_189 ?_
      rw [show nI 15 - 14 = nI 1 by decide]
      refine wa_iald dX1_account_190 hs1 (vp_in_nI (by decide) (by decide)) ?_
      rw [nI_clamp (by decide), hs2 1 (by decide)]
      refine wa_iret FieldType.int dX1_account_191 rfl rfl (Nat.le_of_ble_eq_true rfl) (Nat.le_of_ble_eq_true rfl) ?_
      exact z_anY hS0 ((congrArg (z_ask _ S) hr).trans rfl) w_fr.rf
    ·
      refine w_start (by decide) (Nat.le_of_ble_eq_true rfl) (fun X => ?_)
      refine wa_locals [(0, _), (1, _)] [0, 1] rfl ?_
      refine wa_iload_n 1 dX1_account_0 rfl rfl ?_
      refine wa_iconst (0) dX1_account_1 (by decide) ?_
      refine wa_bipush (16) dX1_account_2 (by decide) ?_
      refine wc_isI (wr_S dX1_account_4 mX1_182 (sp_betweenY (by decide)) rfl rfl rfl (Nat.le_of_ble_eq_true rfl)) ?_
      refine wc_isV (wr_S dX1_account_7 mX1_186 sp_requireArgumentN rfl rfl rfl (Nat.le_of_ble_eq_true rfl)) ?_
      refine wa_iload_n 1 dX1_account_10 rfl rfl ?_
      refine wa_tableOut 179 dX1_account_11 (by decide) rfl ?_
      refine wa_aload_n 0 dX1_account_179 rfl rfl ?_
      refine wa_getf dX1_account_180 gX1_14 hg rfl ?_
      refine wa_getf dX1_account_183 gX1_153 hgc rfl ?_
      refine wa_iload_n 1 dX1_account_186 rfl rfl ?_
      refine wa_bipush (14) dX1_account_187 (by decide) ?_
      refine wa_isub dX1_account_189 ?_
      rw [show nI 16 - 14 = nI 2 by decide]
      refine wa_iald dX1_account_190 hs1 (vp_in_nI (by decide) (by decide)) ?_
      rw [nI_clamp (by decide), hs2 2 (by decide)]
      refine wa_iret FieldType.int dX1_account_191 rfl rfl (Nat.le_of_ble_eq_true rfl) (Nat.le_of_ble_eq_true rfl) ?_
      exact z_anY hS0 ((congrArg (z_ask _ S) hr).trans rfl) w_fr.rf
end AC
