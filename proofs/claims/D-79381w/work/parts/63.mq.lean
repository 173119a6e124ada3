/-! ===== what is asked of the Model ===== -/
set_option maxRecDepth 100000
section MQ
variable {b : Nat} {M N : w_M} {m : Nat} {S : z_S} {th : Int32} {l : Launch} {G : w_G}
/-- an answer of any kind -/
def z_mX (b : Nat) (M : w_M) (m : Nat) (res : (Value × z_S) ⊕ String) (S : z_S) : w_O → w_M → Prop := fun o N => w_fr M N (z_mE m) ∧ match res with
  | .inl (v, S') => o = .inl (some v) ∧ z_mod b N m S' 0
  | .inr _ => ∃ v, o = .inl (some v) ∧ z_mod b N m S 1
theorem z_shutN_cnt {c : z_C} (h : ∀ k, k < 64 → z_bit (z_closed c) k = true → k < z_size c) (hs : z_size c ≤ 64) : z_pop (z_closed c) = nI (z_shutN c (z_size c)) := by
  have e1 : ∀ n, z_shutN c n = z_cnt (z_closed c) n := by
    intro n
    induction n with
    | zero => rfl
    | succ n ih => rw [z_shutN, z_cnt, ih]
  have e2 : ∀ d, z_size c + d ≤ 64 → z_cnt (z_closed c) (z_size c + d) = z_cnt (z_closed c) (z_size c) := by
    intro d
    induction d with
    | zero => intro _; rfl
    | succ d ih =>
      intro hd
      rw [← Nat.add_assoc, z_cnt, ih (by omega), if_neg (fun z => by have := h _ (by omega) z; omega), Nat.add_zero]
  rw [z_pop_cnt, e1, ← e2 (64 - z_size c) (by omega), show z_size c + (64 - z_size c) = 64 by omega]
theorem sp_mrobotOf (h : z_mod b M m S th) {x w : Int32} : w_S l G tX3_robotOf (5, 0, 0) [.ref m, .int x, .int w] M (z_mA b M m S (z_robotOfA (z_cur S) x w)) := by
  obtain ⟨is, rr, rc, f, sv, pf, ip, h⟩ := h
  obtain ⟨hm, hf, -⟩ := id h
  have H := h.mh
  have hr := h.mr
  have hg := h.gd
  have hs := hg.1
  have hh := hg.2.2.2.2.2.2.2
  have hsz := hs.size
  have hR6 : (z_robs (z_cur S)).length ≤ 6 := hs.2.2.2.2.1
  have hO10 : (z_ords (z_cur S)).length ≤ 10 := hs.2.2.2.2.2.1
  unfold z_robotOfA
  cases hx : z_idx x (z_robs (z_cur S)).length with
  | none =>
    refine w_start (by decide) (Nat.le_of_ble_eq_true rfl) (fun X => ?_)
    refine wa_locals [(0, _), (1, _), (2, _)] [0, 1, 2] rfl ?_
    refine wa_aload_n 0 dX3_robotOf_0 rfl rfl ?_
    refine wa_aload_n 0 dX3_robotOf_1 rfl rfl ?_
    refine wa_iload_n 1 dX3_robotOf_2 rfl rfl ?_
    refine wc_isI (wr_V dX3_robotOf_3 mX3_103 (sp_misRobotZ H hr hs hx) hm rfl rfl rfl (Nat.le_of_ble_eq_true rfl)) ?_
    refine wa_if_ne 13 dX3_robotOf_6 rfl (fun c6 => absurd (by decide) c6) (fun c6 => ?_)
    refine wa_iconst (1) dX3_robotOf_9 (by decide) ?_
    refine wa_goto 28 dX3_robotOf_10 rfl ?_
    refine wa_putf [_, _, _, _, _, _, _, _, _, _, _, _, _, _, _, _, _, _, _, _] dX3_robotOf_28 pX3_49 hm (Nat.le_of_ble_eq_true rfl) rfl rfl rfl ?_
    refine wa_aload_n 0 dX3_robotOf_31 rfl rfl ?_
    refine wa_getf dX3_robotOf_32 gX3_49 (w_set_self hm) rfl ?_
    refine wa_if_le 40 dX3_robotOf_35 rfl (fun c35 => absurd c35 (by decide)) (fun c35 => ?_)
    refine wa_iconst (0) dX3_robotOf_38 (by decide) ?_
    refine wa_iret FieldType.int dX3_robotOf_39 rfl rfl (Nat.le_of_ble_eq_true rfl) (Nat.le_of_ble_eq_true rfl) ?_
    exact ⟨_, rfl, (w_fr.rf.set z_mEm), (h.thr 1).md⟩
  | some k =>
    obtain ⟨r, hk⟩ : ∃ r, (z_robs (z_cur S))[k]? = some r := ⟨_, List.getElem?_eq_getElem (z_idx_lt (by omega) hx)⟩
    have hkl := (List.getElem?_eq_some_iff.mp hk).1
    have hk6 : k < 6 := by omega
    obtain ⟨q1, q2, q3, q4, q5, q6, q7⟩ := hr.rob hk
    have hp30 := (hs.2.2.2.2.2.2.1 r (List.mem_of_getElem? hk)).2.2.1
    have hxe := z_idx_eq (by omega) hx
    simp only [hk]
    cases hw : z_idx w 7 with
    | none =>
      have hwn : ¬ ((0 : Int32) ≤ w ∧ w ≤ 6) := (z_idx_none (n := 7) (by decide)).mp hw
      refine w_start (by decide) (Nat.le_of_ble_eq_true rfl) (fun X => ?_)
      refine wa_locals [(0, _), (1, _), (2, _)] [0, 1, 2] rfl ?_
      refine wa_aload_n 0 dX3_robotOf_0 rfl rfl ?_
      refine wa_aload_n 0 dX3_robotOf_1 rfl rfl ?_
      refine wa_iload_n 1 dX3_robotOf_2 rfl rfl ?_
      refine wc_isI (wr_V dX3_robotOf_3 mX3_103 (sp_misRobotY H hr hs hx) hm rfl rfl rfl (Nat.le_of_ble_eq_true rfl)) ?_
      refine wa_if_ne 13 dX3_robotOf_6 rfl (fun c6 => ?_) (fun c6 => absurd c6 (by decide))
      refine wa_iload_n 2 dX3_robotOf_13 rfl rfl ?_
      refine wa_iconst (0) dX3_robotOf_14 (by decide) ?_
      refine wa_bipush (6) dX3_robotOf_15 (by decide) ?_
      refine wc_isI (wr_S dX3_robotOf_17 mX3_71 (sp_mminZ hwn) rfl rfl rfl (Nat.le_of_ble_eq_true rfl)) ?_
      refine wa_if_ne 27 dX3_robotOf_20 rfl (fun c20 => absurd (by decide) c20) (fun c20 => ?_)
      refine wa_iconst (2) dX3_robotOf_23 (by decide) ?_
      refine wa_goto 28 dX3_robotOf_24 rfl ?_
      refine wa_putf [_, _, _, _, _, _, _, _, _, _, _, _, _, _, _, _, _, _, _, _] dX3_robotOf_28 pX3_49 hm (Nat.le_of_ble_eq_true rfl) rfl rfl rfl ?_
      refine wa_aload_n 0 dX3_robotOf_31 rfl rfl ?_
      refine wa_getf dX3_robotOf_32 gX3_49 (w_set_self hm) rfl ?_
      refine wa_if_le 40 dX3_robotOf_35 rfl (fun c35 => absurd c35 (by decide)) (fun c35 => ?_)
      refine wa_iconst (0) dX3_robotOf_38 (by decide) ?_
      refine wa_iret FieldType.int dX3_robotOf_39 rfl rfl (Nat.le_of_ble_eq_true rfl) (Nat.le_of_ble_eq_true rfl) ?_
      exact ⟨_, rfl, (w_fr.rf.set z_mEm), (h.thr 2).md⟩
    | some wn =>
      obtain ⟨hwn, hwe⟩ := (z_idx_some (n := 7) (by decide)).mp hw
      subst hwe
      have h0 := h.thr 0
      have H0 := h0.mh
      match wn, hwn with
      | 0, _ =>
        have hy : (0 : Int32) ≤ 0 ∧ (0 : Int32) ≤ 6 := by decide
        refine w_start (by decide) (Nat.le_of_ble_eq_true rfl) (fun X => ?_)
        refine wa_locals [(0, _), (1, _), (2, _)] [0, 1, 2] rfl ?_
        refine wa_aload_n 0 dX3_robotOf_0 rfl rfl ?_
        refine wa_aload_n 0 dX3_robotOf_1 rfl rfl ?_
        refine wa_iload_n 1 dX3_robotOf_2 rfl rfl ?_
        refine wc_isI (wr_V dX3_robotOf_3 mX3_103 (sp_misRobotY H hr hs hx) hm rfl rfl rfl (Nat.le_of_ble_eq_true rfl)) ?_
        refine wa_if_ne 13 dX3_robotOf_6 rfl (fun c6 => ?_) (fun c6 => absurd c6 (by decide))
        refine wa_iload_n 2 dX3_robotOf_13 rfl rfl ?_
        refine wa_iconst (0) dX3_robotOf_14 (by decide) ?_
        refine wa_bipush (6) dX3_robotOf_15 (by decide) ?_
        refine wc_isI (wr_S dX3_robotOf_17 mX3_71 (sp_mminY hy) rfl rfl rfl (Nat.le_of_ble_eq_true rfl)) ?_
        refine wa_if_ne 27 dX3_robotOf_20 rfl (fun c20 => ?_) (fun c20 => absurd c20 (by decide))
        refine wa_iconst (0) dX3_robotOf_27 (by decide) ?_
        refine wa_putf [_, _, _, _, _, _, _, _, _, _, _, _, _, _, _, _, _, _, _, _] dX3_robotOf_28 pX3_49 hm (Nat.le_of_ble_eq_true rfl) rfl rfl rfl ?_
        refine wa_aload_n 0 dX3_robotOf_31 rfl rfl ?_
        refine wa_getf dX3_robotOf_32 gX3_49 (w_set_self hm) rfl ?_
        refine wa_if_le 40 dX3_robotOf_35 rfl (fun c35 => ?_) (fun c35 => absurd (by decide) c35)
        subst hxe
        refine wa_iload_n 2 dX3_robotOf_40 rfl rfl ?_
        refine wa_tableOut 121 dX3_robotOf_41 (by decide) rfl ?_
        refine wa_aload_n 0 dX3_robotOf_121 rfl rfl ?_
        refine wa_iload_n 1 dX3_robotOf_122 rfl rfl ?_
        refine wa_iload_n 2 dX3_robotOf_123 rfl rfl ?_
        refine wc_isI (wr_V dX3_robotOf_124 mX3_79 (sp_mof H0 hk6 (w := 0) (by decide)) h0.1 rfl rfl rfl (Nat.le_of_ble_eq_true rfl)) ?_
        refine wa_iret FieldType.int dX3_robotOf_127 rfl rfl (Nat.le_of_ble_eq_true rfl) (Nat.le_of_ble_eq_true rfl) ?_
        exact ⟨_, rfl, (w_fr.rf.set z_mEm), q1, h0.md⟩
      | 1, _ =>
        have hy : (0 : Int32) ≤ 1 ∧ (1 : Int32) ≤ 6 := by decide
        refine w_start (by decide) (Nat.le_of_ble_eq_true rfl) (fun X => ?_)
        refine wa_locals [(0, _), (1, _), (2, _)] [0, 1, 2] rfl ?_
        refine wa_aload_n 0 dX3_robotOf_0 rfl rfl ?_
        refine wa_aload_n 0 dX3_robotOf_1 rfl rfl ?_
        refine wa_iload_n 1 dX3_robotOf_2 rfl rfl ?_
        refine wc_isI (wr_V dX3_robotOf_3 mX3_103 (sp_misRobotY H hr hs hx) hm rfl rfl rfl (Nat.le_of_ble_eq_true rfl)) ?_
        refine wa_if_ne 13 dX3_robotOf_6 rfl (fun c6 => ?_) (fun c6 => absurd c6 (by decide))
        refine wa_iload_n 2 dX3_robotOf_13 rfl rfl ?_
        refine wa_iconst (0) dX3_robotOf_14 (by decide) ?_
        refine wa_bipush (6) dX3_robotOf_15 (by decide) ?_
        refine wc_isI (wr_S dX3_robotOf_17 mX3_71 (sp_mminY hy) rfl rfl rfl (Nat.le_of_ble_eq_true rfl)) ?_
        refine wa_if_ne 27 dX3_robotOf_20 rfl (fun c20 => ?_) (fun c20 => absurd c20 (by decide))
        refine wa_iconst (0) dX3_robotOf_27 (by decide) ?_
        refine wa_putf [_, _, _, _, _, _, _, _, _, _, _, _, _, _, _, _, _, _, _, _] dX3_robotOf_28 pX3_49 hm (Nat.le_of_ble_eq_true rfl) rfl rfl rfl ?_
        refine wa_aload_n 0 dX3_robotOf_31 rfl rfl ?_
        refine wa_getf dX3_robotOf_32 gX3_49 (w_set_self hm) rfl ?_
        refine wa_if_le 40 dX3_robotOf_35 rfl (fun c35 => ?_) (fun c35 => absurd (by decide) c35)
        subst hxe
        refine wa_iload_n 2 dX3_robotOf_40 rfl rfl ?_
        refine wa_tableOut 121 dX3_robotOf_41 (by decide) rfl ?_
        refine wa_aload_n 0 dX3_robotOf_121 rfl rfl ?_
        refine wa_iload_n 1 dX3_robotOf_122 rfl rfl ?_
        refine wa_iload_n 2 dX3_robotOf_123 rfl rfl ?_
        refine wc_isI (wr_V dX3_robotOf_124 mX3_79 (sp_mof H0 hk6 (w := 1) (by decide)) h0.1 rfl rfl rfl (Nat.le_of_ble_eq_true rfl)) ?_
        refine wa_iret FieldType.int dX3_robotOf_127 rfl rfl (Nat.le_of_ble_eq_true rfl) (Nat.le_of_ble_eq_true rfl) ?_
        exact ⟨_, rfl, (w_fr.rf.set z_mEm), q2, h0.md⟩
      | 2, _ =>
        have hy : (0 : Int32) ≤ 2 ∧ (2 : Int32) ≤ 6 := by decide
        refine w_start (by decide) (Nat.le_of_ble_eq_true rfl) (fun X => ?_)
        refine wa_locals [(0, _), (1, _), (2, _)] [0, 1, 2] rfl ?_
        refine wa_aload_n 0 dX3_robotOf_0 rfl rfl ?_
        refine wa_aload_n 0 dX3_robotOf_1 rfl rfl ?_
        refine wa_iload_n 1 dX3_robotOf_2 rfl rfl ?_
        refine wc_isI (wr_V dX3_robotOf_3 mX3_103 (sp_misRobotY H hr hs hx) hm rfl rfl rfl (Nat.le_of_ble_eq_true rfl)) ?_
        refine wa_if_ne 13 dX3_robotOf_6 rfl (fun c6 => ?_) (fun c6 => absurd c6 (by decide))
        refine wa_iload_n 2 dX3_robotOf_13 rfl rfl ?_
        refine wa_iconst (0) dX3_robotOf_14 (by decide) ?_
        refine wa_bipush (6) dX3_robotOf_15 (by decide) ?_
        refine wc_isI (wr_S dX3_robotOf_17 mX3_71 (sp_mminY hy) rfl rfl rfl (Nat.le_of_ble_eq_true rfl)) ?_
        refine wa_if_ne 27 dX3_robotOf_20 rfl (fun c20 => ?_) (fun c20 => absurd c20 (by decide))
        refine wa_iconst (0) dX3_robotOf_27 (by decide) ?_
        refine wa_putf [_, _, _, _, _, _, _, _, _, _, _, _, _, _, _, _, _, _, _, _] dX3_robotOf_28 pX3_49 hm (Nat.le_of_ble_eq_true rfl) rfl rfl rfl ?_
        refine wa_aload_n 0 dX3_robotOf_31 rfl rfl ?_
        refine wa_getf dX3_robotOf_32 gX3_49 (w_set_self hm) rfl ?_
        refine wa_if_le 40 dX3_robotOf_35 rfl (fun c35 => ?_) (fun c35 => absurd (by decide) c35)
        subst hxe
        refine wa_iload_n 2 dX3_robotOf_40 rfl rfl ?_
        refine wa_tableOut 121 dX3_robotOf_41 (by decide) rfl ?_
        refine wa_aload_n 0 dX3_robotOf_121 rfl rfl ?_
        refine wa_iload_n 1 dX3_robotOf_122 rfl rfl ?_
        refine wa_iload_n 2 dX3_robotOf_123 rfl rfl ?_
        refine wc_isI (wr_V dX3_robotOf_124 mX3_79 (sp_mof H0 hk6 (w := 2) (by decide)) h0.1 rfl rfl rfl (Nat.le_of_ble_eq_true rfl)) ?_
        refine wa_iret FieldType.int dX3_robotOf_127 rfl rfl (Nat.le_of_ble_eq_true rfl) (Nat.le_of_ble_eq_true rfl) ?_
        exact ⟨_, rfl, (w_fr.rf.set z_mEm), q3, h0.md⟩
      | 3, _ =>
        have hy : (0 : Int32) ≤ 3 ∧ (3 : Int32) ≤ 6 := by decide
        refine w_start (by decide) (Nat.le_of_ble_eq_true rfl) (fun X => ?_)
        refine wa_locals [(0, _), (1, _), (2, _)] [0, 1, 2] rfl ?_
        refine wa_aload_n 0 dX3_robotOf_0 rfl rfl ?_
        refine wa_aload_n 0 dX3_robotOf_1 rfl rfl ?_
        refine wa_iload_n 1 dX3_robotOf_2 rfl rfl ?_
        refine wc_isI (wr_V dX3_robotOf_3 mX3_103 (sp_misRobotY H hr hs hx) hm rfl rfl rfl (Nat.le_of_ble_eq_true rfl)) ?_
        refine wa_if_ne 13 dX3_robotOf_6 rfl (fun c6 => ?_) (fun c6 => absurd c6 (by decide))
        refine wa_iload_n 2 dX3_robotOf_13 rfl rfl ?_
        refine wa_iconst (0) dX3_robotOf_14 (by decide) ?_
        refine wa_bipush (6) dX3_robotOf_15 (by decide) ?_
        refine wc_isI (wr_S dX3_robotOf_17 mX3_71 (sp_mminY hy) rfl rfl rfl (Nat.le_of_ble_eq_true rfl)) ?_
        refine wa_if_ne 27 dX3_robotOf_20 rfl (fun c20 => ?_) (fun c20 => absurd c20 (by decide))
        refine wa_iconst (0) dX3_robotOf_27 (by decide) ?_
        refine wa_putf [_, _, _, _, _, _, _, _, _, _, _, _, _, _, _, _, _, _, _, _] dX3_robotOf_28 pX3_49 hm (Nat.le_of_ble_eq_true rfl) rfl rfl rfl ?_
        refine wa_aload_n 0 dX3_robotOf_31 rfl rfl ?_
        refine wa_getf dX3_robotOf_32 gX3_49 (w_set_self hm) rfl ?_
        refine wa_if_le 40 dX3_robotOf_35 rfl (fun c35 => ?_) (fun c35 => absurd (by decide) c35)
        subst hxe
        refine wa_iload_n 2 dX3_robotOf_40 rfl rfl ?_
        refine wa_tableIn 72 dX3_robotOf_41 (by decide) (by decide) rfl rfl ?_
        refine wa_aload_n 0 dX3_robotOf_72 rfl rfl ?_
        refine wa_iload_n 1 dX3_robotOf_73 rfl rfl ?_
        refine wa_iconst (3) dX3_robotOf_74 (by decide) ?_
        refine wc_isI (wr_V dX3_robotOf_75 mX3_79 (sp_mof H0 hk6 (w := 3) (by decide)) h0.1 rfl rfl rfl (Nat.le_of_ble_eq_true rfl)) ?_
        refine wa_iret FieldType.int dX3_robotOf_78 rfl rfl (Nat.le_of_ble_eq_true rfl) (Nat.le_of_ble_eq_true rfl) ?_
        exact ⟨_, rfl, (w_fr.rf.set z_mEm), q4, h0.md⟩
      | 4, _ =>
        have hy : (0 : Int32) ≤ 4 ∧ (4 : Int32) ≤ 6 := by decide
        refine w_start (by decide) (Nat.le_of_ble_eq_true rfl) (fun X => ?_)
        refine wa_locals [(0, _), (1, _), (2, _)] [0, 1, 2] rfl ?_
        refine wa_aload_n 0 dX3_robotOf_0 rfl rfl ?_
        refine wa_aload_n 0 dX3_robotOf_1 rfl rfl ?_
        refine wa_iload_n 1 dX3_robotOf_2 rfl rfl ?_
        refine wc_isI (wr_V dX3_robotOf_3 mX3_103 (sp_misRobotY H hr hs hx) hm rfl rfl rfl (Nat.le_of_ble_eq_true rfl)) ?_
        refine wa_if_ne 13 dX3_robotOf_6 rfl (fun c6 => ?_) (fun c6 => absurd c6 (by decide))
        refine wa_iload_n 2 dX3_robotOf_13 rfl rfl ?_
        refine wa_iconst (0) dX3_robotOf_14 (by decide) ?_
        refine wa_bipush (6) dX3_robotOf_15 (by decide) ?_
        refine wc_isI (wr_S dX3_robotOf_17 mX3_71 (sp_mminY hy) rfl rfl rfl (Nat.le_of_ble_eq_true rfl)) ?_
        refine wa_if_ne 27 dX3_robotOf_20 rfl (fun c20 => ?_) (fun c20 => absurd c20 (by decide))
        refine wa_iconst (0) dX3_robotOf_27 (by decide) ?_
        refine wa_putf [_, _, _, _, _, _, _, _, _, _, _, _, _, _, _, _, _, _, _, _] dX3_robotOf_28 pX3_49 hm (Nat.le_of_ble_eq_true rfl) rfl rfl rfl ?_
        refine wa_aload_n 0 dX3_robotOf_31 rfl rfl ?_
        refine wa_getf dX3_robotOf_32 gX3_49 (w_set_self hm) rfl ?_
        refine wa_if_le 40 dX3_robotOf_35 rfl (fun c35 => ?_) (fun c35 => absurd (by decide) c35)
        subst hxe
        refine wa_iload_n 2 dX3_robotOf_40 rfl rfl ?_
        refine wa_tableIn 79 dX3_robotOf_41 (by decide) (by decide) rfl rfl ?_
        refine wa_aload_n 0 dX3_robotOf_79 rfl rfl ?_
        refine wa_iload_n 1 dX3_robotOf_80 rfl rfl ?_
        refine wa_iconst (3) dX3_robotOf_81 (by decide) ?_
        refine wc_isI (wr_V dX3_robotOf_82 mX3_79 (sp_mof H0 hk6 (w := 3) (by decide)) h0.1 rfl rfl rfl (Nat.le_of_ble_eq_true rfl)) ?_
        rw [show f (104 + 36 * k + 3) = nI (z_plan r).length from q4]
        refine wa_if_ne 92 dX3_robotOf_85 rfl (fun c85 => ?_) (fun c85 => ?_)
        ·
          refine wa_aload_n 0 dX3_robotOf_92 rfl rfl ?_
          refine wa_iload_n 1 dX3_robotOf_93 rfl rfl ?_
          refine wa_bipush (30) dX3_robotOf_94 (by decide) ?_
          refine wc_isI (wr_V dX3_robotOf_96 mX3_83 (sp_mcellOf H0 hr hs hk (t := 30) (by decide)) h0.1 rfl rfl rfl (Nat.le_of_ble_eq_true rfl)) ?_
          refine wa_iret FieldType.int dX3_robotOf_99 rfl rfl (Nat.le_of_ble_eq_true rfl) (Nat.le_of_ble_eq_true rfl) ?_
          have e : ¬ z_plan r = [] := fun z => c85 (by rw [z]; rfl)
          exact ⟨_, rfl, (w_fr.rf.set z_mEm), (if_neg e).symm, h0.md⟩
        ·
          refine wa_iconst (-1) dX3_robotOf_88 (by decide) ?_
          refine wa_goto 99 dX3_robotOf_89 rfl ?_
          refine wa_iret FieldType.int dX3_robotOf_99 rfl rfl (Nat.le_of_ble_eq_true rfl) (Nat.le_of_ble_eq_true rfl) ?_
          have e : z_plan r = [] := List.eq_nil_of_length_eq_zero ((nI_eq (b := 0) (by omega) (by decide)).mp c85)
          exact ⟨_, rfl, (w_fr.rf.set z_mEm), (if_pos e).symm, h0.md⟩
      | 5, _ =>
        have hy : (0 : Int32) ≤ 5 ∧ (5 : Int32) ≤ 6 := by decide
        refine w_start (by decide) (Nat.le_of_ble_eq_true rfl) (fun X => ?_)
        refine wa_locals [(0, _), (1, _), (2, _)] [0, 1, 2] rfl ?_
        refine wa_aload_n 0 dX3_robotOf_0 rfl rfl ?_
        refine wa_aload_n 0 dX3_robotOf_1 rfl rfl ?_
        refine wa_iload_n 1 dX3_robotOf_2 rfl rfl ?_
        refine wc_isI (wr_V dX3_robotOf_3 mX3_103 (sp_misRobotY H hr hs hx) hm rfl rfl rfl (Nat.le_of_ble_eq_true rfl)) ?_
        refine wa_if_ne 13 dX3_robotOf_6 rfl (fun c6 => ?_) (fun c6 => absurd c6 (by decide))
        refine wa_iload_n 2 dX3_robotOf_13 rfl rfl ?_
        refine wa_iconst (0) dX3_robotOf_14 (by decide) ?_
        refine wa_bipush (6) dX3_robotOf_15 (by decide) ?_
        refine wc_isI (wr_S dX3_robotOf_17 mX3_71 (sp_mminY hy) rfl rfl rfl (Nat.le_of_ble_eq_true rfl)) ?_
        refine wa_if_ne 27 dX3_robotOf_20 rfl (fun c20 => ?_) (fun c20 => absurd c20 (by decide))
        refine wa_iconst (0) dX3_robotOf_27 (by decide) ?_
        refine wa_putf [_, _, _, _, _, _, _, _, _, _, _, _, _, _, _, _, _, _, _, _] dX3_robotOf_28 pX3_49 hm (Nat.le_of_ble_eq_true rfl) rfl rfl rfl ?_
        refine wa_aload_n 0 dX3_robotOf_31 rfl rfl ?_
        refine wa_getf dX3_robotOf_32 gX3_49 (w_set_self hm) rfl ?_
        refine wa_if_le 40 dX3_robotOf_35 rfl (fun c35 => ?_) (fun c35 => absurd (by decide) c35)
        subst hxe
        refine wa_iload_n 2 dX3_robotOf_40 rfl rfl ?_
        refine wa_tableIn 100 dX3_robotOf_41 (by decide) (by decide) rfl rfl ?_
        refine wa_aload_n 0 dX3_robotOf_100 rfl rfl ?_
        refine wa_iload_n 1 dX3_robotOf_101 rfl rfl ?_
        refine wc_isI (wr_V dX3_robotOf_102 mX3_145 (sp_misLoaded H0 hr hs hk) h0.1 rfl rfl rfl (Nat.le_of_ble_eq_true rfl)) ?_
        refine wa_if_eq 112 dX3_robotOf_105 rfl (fun c105 => ?_) (fun c105 => ?_)
        ·
          refine wa_iconst (0) dX3_robotOf_112 (by decide) ?_
          refine wa_iret FieldType.int dX3_robotOf_113 rfl rfl (Nat.le_of_ble_eq_true rfl) (Nat.le_of_ble_eq_true rfl) ?_
          have e := z_if1.mp c105
          exact ⟨_, rfl, (w_fr.rf.set z_mEm), (if_neg e).symm, h0.md⟩
        ·
          refine wa_iconst (1) dX3_robotOf_108 (by decide) ?_
          refine wa_goto 113 dX3_robotOf_109 rfl ?_
          refine wa_iret FieldType.int dX3_robotOf_113 rfl rfl (Nat.le_of_ble_eq_true rfl) (Nat.le_of_ble_eq_true rfl) ?_
          have e : z_loaded (z_cur S) r = true := Classical.byContradiction fun z => c105 (if_neg z)
          exact ⟨_, rfl, (w_fr.rf.set z_mEm), (if_pos e).symm, h0.md⟩
      | 6, _ =>
        have hy : (0 : Int32) ≤ 6 ∧ (6 : Int32) ≤ 6 := by decide
        refine w_start (by decide) (Nat.le_of_ble_eq_true rfl) (fun X => ?_)
        refine wa_locals [(0, _), (1, _), (2, _)] [0, 1, 2] rfl ?_
        refine wa_aload_n 0 dX3_robotOf_0 rfl rfl ?_
        refine wa_aload_n 0 dX3_robotOf_1 rfl rfl ?_
        refine wa_iload_n 1 dX3_robotOf_2 rfl rfl ?_
        refine wc_isI (wr_V dX3_robotOf_3 mX3_103 (sp_misRobotY H hr hs hx) hm rfl rfl rfl (Nat.le_of_ble_eq_true rfl)) ?_
        refine wa_if_ne 13 dX3_robotOf_6 rfl (fun c6 => ?_) (fun c6 => absurd c6 (by decide))
        refine wa_iload_n 2 dX3_robotOf_13 rfl rfl ?_
        refine wa_iconst (0) dX3_robotOf_14 (by decide) ?_
        refine wa_bipush (6) dX3_robotOf_15 (by decide) ?_
        refine wc_isI (wr_S dX3_robotOf_17 mX3_71 (sp_mminY hy) rfl rfl rfl (Nat.le_of_ble_eq_true rfl)) ?_
        refine wa_if_ne 27 dX3_robotOf_20 rfl (fun c20 => ?_) (fun c20 => absurd c20 (by decide))
        refine wa_iconst (0) dX3_robotOf_27 (by decide) ?_
        refine wa_putf [_, _, _, _, _, _, _, _, _, _, _, _, _, _, _, _, _, _, _, _] dX3_robotOf_28 pX3_49 hm (Nat.le_of_ble_eq_true rfl) rfl rfl rfl ?_
        refine wa_aload_n 0 dX3_robotOf_31 rfl rfl ?_
        refine wa_getf dX3_robotOf_32 gX3_49 (w_set_self hm) rfl ?_
        refine wa_if_le 40 dX3_robotOf_35 rfl (fun c35 => ?_) (fun c35 => absurd (by decide) c35)
        subst hxe
        refine wa_iload_n 2 dX3_robotOf_40 rfl rfl ?_
        refine wa_tableIn 114 dX3_robotOf_41 (by decide) (by decide) rfl rfl ?_
        refine wa_aload_n 0 dX3_robotOf_114 rfl rfl ?_
        refine wa_iload_n 1 dX3_robotOf_115 rfl rfl ?_
        refine wa_iconst (5) dX3_robotOf_116 (by decide) ?_
        refine wc_isI (wr_V dX3_robotOf_117 mX3_79 (sp_mof H0 hk6 (w := 5) (by decide)) h0.1 rfl rfl rfl (Nat.le_of_ble_eq_true rfl)) ?_
        refine wa_iret FieldType.int dX3_robotOf_120 rfl rfl (Nat.le_of_ble_eq_true rfl) (Nat.le_of_ble_eq_true rfl) ?_
        exact ⟨_, rfl, (w_fr.rf.set z_mEm), q6, h0.md⟩
theorem sp_morderOf (h : z_mod b M m S th) {x w : Int32} : w_S l G tX3_orderOf (5, 0, 0) [.ref m, .int x, .int w] M (z_mA b M m S (z_orderOfA (z_cur S) x w)) := by
  obtain ⟨is, rr, rc, f, sv, pf, ip, h⟩ := h
  obtain ⟨hm, hf, -⟩ := id h
  have H := h.mh
  have hr := h.mr
  have hg := h.gd
  have hs := hg.1
  have hh := hg.2.2.2.2.2.2.2
  have hsz := hs.size
  have hR6 : (z_robs (z_cur S)).length ≤ 6 := hs.2.2.2.2.1
  have hO10 : (z_ords (z_cur S)).length ≤ 10 := hs.2.2.2.2.2.1
  unfold z_orderOfA
  cases hx : z_idx x (z_ords (z_cur S)).length with
  | none =>
    refine w_start (by decide) (Nat.le_of_ble_eq_true rfl) (fun X => ?_)
    refine wa_locals [(0, _), (1, _), (2, _)] [0, 1, 2] rfl ?_
    refine wa_aload_n 0 dX3_orderOf_0 rfl rfl ?_
    refine wa_aload_n 0 dX3_orderOf_1 rfl rfl ?_
    refine wa_iload_n 1 dX3_orderOf_2 rfl rfl ?_
    refine wc_isI (wr_V dX3_orderOf_3 mX3_112 (sp_misOrderZ H hr hs hx) hm rfl rfl rfl (Nat.le_of_ble_eq_true rfl)) ?_
    refine wa_if_ne 13 dX3_orderOf_6 rfl (fun c6 => absurd (by decide) c6) (fun c6 => ?_)
    refine wa_iconst (1) dX3_orderOf_9 (by decide) ?_
    refine wa_goto 27 dX3_orderOf_10 rfl ?_
    refine wa_putf [_, _, _, _, _, _, _, _, _, _, _, _, _, _, _, _, _, _, _, _] dX3_orderOf_27 pX3_49 hm (Nat.le_of_ble_eq_true rfl) rfl rfl rfl ?_
    refine wa_aload_n 0 dX3_orderOf_30 rfl rfl ?_
    refine wa_getf dX3_orderOf_31 gX3_49 (w_set_self hm) rfl ?_
    refine wa_if_le 39 dX3_orderOf_34 rfl (fun c34 => absurd c34 (by decide)) (fun c34 => ?_)
    refine wa_iconst (0) dX3_orderOf_37 (by decide) ?_
    refine wa_iret FieldType.int dX3_orderOf_38 rfl rfl (Nat.le_of_ble_eq_true rfl) (Nat.le_of_ble_eq_true rfl) ?_
    exact ⟨_, rfl, (w_fr.rf.set z_mEm), (h.thr 1).md⟩
  | some k =>
    obtain ⟨o, hk⟩ : ∃ o, (z_ords (z_cur S))[k]? = some o := ⟨_, List.getElem?_eq_getElem (z_idx_lt (by omega) hx)⟩
    have hkl := (List.getElem?_eq_some_iff.mp hk).1
    have hk10 : k < 10 := by omega
    obtain ⟨q1, q2, q3, q4, q5, q6⟩ := hr.ord hk
    have hxe := z_idx_eq (by omega) hx
    simp only [hk]
    cases hw : z_idx w 6 with
    | none =>
      have hwn : ¬ ((0 : Int32) ≤ w ∧ w ≤ 5) := (z_idx_none (n := 6) (by decide)).mp hw
      refine w_start (by decide) (Nat.le_of_ble_eq_true rfl) (fun X => ?_)
      refine wa_locals [(0, _), (1, _), (2, _)] [0, 1, 2] rfl ?_
      refine wa_aload_n 0 dX3_orderOf_0 rfl rfl ?_
      refine wa_aload_n 0 dX3_orderOf_1 rfl rfl ?_
      refine wa_iload_n 1 dX3_orderOf_2 rfl rfl ?_
      refine wc_isI (wr_V dX3_orderOf_3 mX3_112 (sp_misOrderY H hr hs hx) hm rfl rfl rfl (Nat.le_of_ble_eq_true rfl)) ?_
      refine wa_if_ne 13 dX3_orderOf_6 rfl (fun c6 => ?_) (fun c6 => absurd c6 (by decide))
      refine wa_iload_n 2 dX3_orderOf_13 rfl rfl ?_
      refine wa_iconst (0) dX3_orderOf_14 (by decide) ?_
      refine wa_iconst (5) dX3_orderOf_15 (by decide) ?_
      refine wc_isI (wr_S dX3_orderOf_16 mX3_71 (sp_mminZ hwn) rfl rfl rfl (Nat.le_of_ble_eq_true rfl)) ?_
      refine wa_if_ne 26 dX3_orderOf_19 rfl (fun c19 => absurd (by decide) c19) (fun c19 => ?_)
      refine wa_iconst (2) dX3_orderOf_22 (by decide) ?_
      refine wa_goto 27 dX3_orderOf_23 rfl ?_
      refine wa_putf [_, _, _, _, _, _, _, _, _, _, _, _, _, _, _, _, _, _, _, _] dX3_orderOf_27 pX3_49 hm (Nat.le_of_ble_eq_true rfl) rfl rfl rfl ?_
      refine wa_aload_n 0 dX3_orderOf_30 rfl rfl ?_
      refine wa_getf dX3_orderOf_31 gX3_49 (w_set_self hm) rfl ?_
      refine wa_if_le 39 dX3_orderOf_34 rfl (fun c34 => absurd c34 (by decide)) (fun c34 => ?_)
      refine wa_iconst (0) dX3_orderOf_37 (by decide) ?_
      refine wa_iret FieldType.int dX3_orderOf_38 rfl rfl (Nat.le_of_ble_eq_true rfl) (Nat.le_of_ble_eq_true rfl) ?_
      exact ⟨_, rfl, (w_fr.rf.set z_mEm), (h.thr 2).md⟩
    | some wn =>
      obtain ⟨hwn, hwe⟩ := (z_idx_some (n := 6) (by decide)).mp hw
      subst hwe
      have h0 := h.thr 0
      have H0 := h0.mh
      match wn, hwn with
      | 0, _ =>
        have hy : (0 : Int32) ≤ 0 ∧ (0 : Int32) ≤ 5 := by decide
        refine w_start (by decide) (Nat.le_of_ble_eq_true rfl) (fun X => ?_)
        refine wa_locals [(0, _), (1, _), (2, _)] [0, 1, 2] rfl ?_
        refine wa_aload_n 0 dX3_orderOf_0 rfl rfl ?_
        refine wa_aload_n 0 dX3_orderOf_1 rfl rfl ?_
        refine wa_iload_n 1 dX3_orderOf_2 rfl rfl ?_
        refine wc_isI (wr_V dX3_orderOf_3 mX3_112 (sp_misOrderY H hr hs hx) hm rfl rfl rfl (Nat.le_of_ble_eq_true rfl)) ?_
        refine wa_if_ne 13 dX3_orderOf_6 rfl (fun c6 => ?_) (fun c6 => absurd c6 (by decide))
        refine wa_iload_n 2 dX3_orderOf_13 rfl rfl ?_
        refine wa_iconst (0) dX3_orderOf_14 (by decide) ?_
        refine wa_iconst (5) dX3_orderOf_15 (by decide) ?_
        refine wc_isI (wr_S dX3_orderOf_16 mX3_71 (sp_mminY hy) rfl rfl rfl (Nat.le_of_ble_eq_true rfl)) ?_
        refine wa_if_ne 26 dX3_orderOf_19 rfl (fun c19 => ?_) (fun c19 => absurd c19 (by decide))
        refine wa_iconst (0) dX3_orderOf_26 (by decide) ?_
        refine wa_putf [_, _, _, _, _, _, _, _, _, _, _, _, _, _, _, _, _, _, _, _] dX3_orderOf_27 pX3_49 hm (Nat.le_of_ble_eq_true rfl) rfl rfl rfl ?_
        refine wa_aload_n 0 dX3_orderOf_30 rfl rfl ?_
        refine wa_getf dX3_orderOf_31 gX3_49 (w_set_self hm) rfl ?_
        refine wa_if_le 39 dX3_orderOf_34 rfl (fun c34 => ?_) (fun c34 => absurd (by decide) c34)
        subst hxe
        refine wa_iload_n 2 dX3_orderOf_39 rfl rfl ?_
        refine wa_tableOut 88 dX3_orderOf_40 (by decide) rfl ?_
        refine wa_aload_n 0 dX3_orderOf_88 rfl rfl ?_
        refine wa_iload_n 1 dX3_orderOf_89 rfl rfl ?_
        refine wa_iload_n 2 dX3_orderOf_90 rfl rfl ?_
        refine wc_isI (wr_V dX3_orderOf_91 mX3_109 (sp_mget H0 hk10 (w := 0) (by decide)) h0.1 rfl rfl rfl (Nat.le_of_ble_eq_true rfl)) ?_
        refine wa_iret FieldType.int dX3_orderOf_94 rfl rfl (Nat.le_of_ble_eq_true rfl) (Nat.le_of_ble_eq_true rfl) ?_
        exact ⟨_, rfl, (w_fr.rf.set z_mEm), q1, h0.md⟩
      | 1, _ =>
        have hy : (0 : Int32) ≤ 1 ∧ (1 : Int32) ≤ 5 := by decide
        refine w_start (by decide) (Nat.le_of_ble_eq_true rfl) (fun X => ?_)
        refine wa_locals [(0, _), (1, _), (2, _)] [0, 1, 2] rfl ?_
        refine wa_aload_n 0 dX3_orderOf_0 rfl rfl ?_
        refine wa_aload_n 0 dX3_orderOf_1 rfl rfl ?_
        refine wa_iload_n 1 dX3_orderOf_2 rfl rfl ?_
        refine wc_isI (wr_V dX3_orderOf_3 mX3_112 (sp_misOrderY H hr hs hx) hm rfl rfl rfl (Nat.le_of_ble_eq_true rfl)) ?_
        refine wa_if_ne 13 dX3_orderOf_6 rfl (fun c6 => ?_) (fun c6 => absurd c6 (by decide))
        refine wa_iload_n 2 dX3_orderOf_13 rfl rfl ?_
        refine wa_iconst (0) dX3_orderOf_14 (by decide) ?_
        refine wa_iconst (5) dX3_orderOf_15 (by decide) ?_
        refine wc_isI (wr_S dX3_orderOf_16 mX3_71 (sp_mminY hy) rfl rfl rfl (Nat.le_of_ble_eq_true rfl)) ?_
        refine wa_if_ne 26 dX3_orderOf_19 rfl (fun c19 => ?_) (fun c19 => absurd c19 (by decide))
        refine wa_iconst (0) dX3_orderOf_26 (by decide) ?_
        refine wa_putf [_, _, _, _, _, _, _, _, _, _, _, _, _, _, _, _, _, _, _, _] dX3_orderOf_27 pX3_49 hm (Nat.le_of_ble_eq_true rfl) rfl rfl rfl ?_
        refine wa_aload_n 0 dX3_orderOf_30 rfl rfl ?_
        refine wa_getf dX3_orderOf_31 gX3_49 (w_set_self hm) rfl ?_
        refine wa_if_le 39 dX3_orderOf_34 rfl (fun c34 => ?_) (fun c34 => absurd (by decide) c34)
        subst hxe
        refine wa_iload_n 2 dX3_orderOf_39 rfl rfl ?_
        refine wa_tableOut 88 dX3_orderOf_40 (by decide) rfl ?_
        refine wa_aload_n 0 dX3_orderOf_88 rfl rfl ?_
        refine wa_iload_n 1 dX3_orderOf_89 rfl rfl ?_
        refine wa_iload_n 2 dX3_orderOf_90 rfl rfl ?_
        refine wc_isI (wr_V dX3_orderOf_91 mX3_109 (sp_mget H0 hk10 (w := 1) (by decide)) h0.1 rfl rfl rfl (Nat.le_of_ble_eq_true rfl)) ?_
        refine wa_iret FieldType.int dX3_orderOf_94 rfl rfl (Nat.le_of_ble_eq_true rfl) (Nat.le_of_ble_eq_true rfl) ?_
        exact ⟨_, rfl, (w_fr.rf.set z_mEm), q2, h0.md⟩
      | 2, _ =>
        have hy : (0 : Int32) ≤ 2 ∧ (2 : Int32) ≤ 5 := by decide
        refine w_start (by decide) (Nat.le_of_ble_eq_true rfl) (fun X => ?_)
        refine wa_locals [(0, _), (1, _), (2, _)] [0, 1, 2] rfl ?_
        refine wa_aload_n 0 dX3_orderOf_0 rfl rfl ?_
        refine wa_aload_n 0 dX3_orderOf_1 rfl rfl ?_
        refine wa_iload_n 1 dX3_orderOf_2 rfl rfl ?_
        refine wc_isI (wr_V dX3_orderOf_3 mX3_112 (sp_misOrderY H hr hs hx) hm rfl rfl rfl (Nat.le_of_ble_eq_true rfl)) ?_
        refine wa_if_ne 13 dX3_orderOf_6 rfl (fun c6 => ?_) (fun c6 => absurd c6 (by decide))
        refine wa_iload_n 2 dX3_orderOf_13 rfl rfl ?_
        refine wa_iconst (0) dX3_orderOf_14 (by decide) ?_
        refine wa_iconst (5) dX3_orderOf_15 (by decide) ?_
        refine wc_isI (wr_S dX3_orderOf_16 mX3_71 (sp_mminY hy) rfl rfl rfl (Nat.le_of_ble_eq_true rfl)) ?_
        refine wa_if_ne 26 dX3_orderOf_19 rfl (fun c19 => ?_) (fun c19 => absurd c19 (by decide))
        refine wa_iconst (0) dX3_orderOf_26 (by decide) ?_
        refine wa_putf [_, _, _, _, _, _, _, _, _, _, _, _, _, _, _, _, _, _, _, _] dX3_orderOf_27 pX3_49 hm (Nat.le_of_ble_eq_true rfl) rfl rfl rfl ?_
        refine wa_aload_n 0 dX3_orderOf_30 rfl rfl ?_
        refine wa_getf dX3_orderOf_31 gX3_49 (w_set_self hm) rfl ?_
        refine wa_if_le 39 dX3_orderOf_34 rfl (fun c34 => ?_) (fun c34 => absurd (by decide) c34)
        subst hxe
        refine wa_iload_n 2 dX3_orderOf_39 rfl rfl ?_
        refine wa_tableOut 88 dX3_orderOf_40 (by decide) rfl ?_
        refine wa_aload_n 0 dX3_orderOf_88 rfl rfl ?_
        refine wa_iload_n 1 dX3_orderOf_89 rfl rfl ?_
        refine wa_iload_n 2 dX3_orderOf_90 rfl rfl ?_
        refine wc_isI (wr_V dX3_orderOf_91 mX3_109 (sp_mget H0 hk10 (w := 2) (by decide)) h0.1 rfl rfl rfl (Nat.le_of_ble_eq_true rfl)) ?_
        refine wa_iret FieldType.int dX3_orderOf_94 rfl rfl (Nat.le_of_ble_eq_true rfl) (Nat.le_of_ble_eq_true rfl) ?_
        exact ⟨_, rfl, (w_fr.rf.set z_mEm), q3, h0.md⟩
      | 3, _ =>
        have hy : (0 : Int32) ≤ 3 ∧ (3 : Int32) ≤ 5 := by decide
        refine w_start (by decide) (Nat.le_of_ble_eq_true rfl) (fun X => ?_)
        refine wa_locals [(0, _), (1, _), (2, _)] [0, 1, 2] rfl ?_
        refine wa_aload_n 0 dX3_orderOf_0 rfl rfl ?_
        refine wa_aload_n 0 dX3_orderOf_1 rfl rfl ?_
        refine wa_iload_n 1 dX3_orderOf_2 rfl rfl ?_
        refine wc_isI (wr_V dX3_orderOf_3 mX3_112 (sp_misOrderY H hr hs hx) hm rfl rfl rfl (Nat.le_of_ble_eq_true rfl)) ?_
        refine wa_if_ne 13 dX3_orderOf_6 rfl (fun c6 => ?_) (fun c6 => absurd c6 (by decide))
        refine wa_iload_n 2 dX3_orderOf_13 rfl rfl ?_
        refine wa_iconst (0) dX3_orderOf_14 (by decide) ?_
        refine wa_iconst (5) dX3_orderOf_15 (by decide) ?_
        refine wc_isI (wr_S dX3_orderOf_16 mX3_71 (sp_mminY hy) rfl rfl rfl (Nat.le_of_ble_eq_true rfl)) ?_
        refine wa_if_ne 26 dX3_orderOf_19 rfl (fun c19 => ?_) (fun c19 => absurd c19 (by decide))
        refine wa_iconst (0) dX3_orderOf_26 (by decide) ?_
        refine wa_putf [_, _, _, _, _, _, _, _, _, _, _, _, _, _, _, _, _, _, _, _] dX3_orderOf_27 pX3_49 hm (Nat.le_of_ble_eq_true rfl) rfl rfl rfl ?_
        refine wa_aload_n 0 dX3_orderOf_30 rfl rfl ?_
        refine wa_getf dX3_orderOf_31 gX3_49 (w_set_self hm) rfl ?_
        refine wa_if_le 39 dX3_orderOf_34 rfl (fun c34 => ?_) (fun c34 => absurd (by decide) c34)
        subst hxe
        refine wa_iload_n 2 dX3_orderOf_39 rfl rfl ?_
        refine wa_tableIn 68 dX3_orderOf_40 (by decide) (by decide) rfl rfl ?_
        refine wa_aload_n 0 dX3_orderOf_68 rfl rfl ?_
        refine wa_iload_n 1 dX3_orderOf_69 rfl rfl ?_
        refine wc_isI (wr_V dX3_orderOf_70 mX3_115 (sp_mstateOf H0 hr hs hh hk) h0.1 rfl rfl rfl (Nat.le_of_ble_eq_true rfl)) ?_
        refine wa_iret FieldType.int dX3_orderOf_73 rfl rfl (Nat.le_of_ble_eq_true rfl) (Nat.le_of_ble_eq_true rfl) ?_
        exact ⟨_, rfl, (w_fr.rf.set z_mEm), rfl, h0.md⟩
      | 4, _ =>
        have hy : (0 : Int32) ≤ 4 ∧ (4 : Int32) ≤ 5 := by decide
        refine w_start (by decide) (Nat.le_of_ble_eq_true rfl) (fun X => ?_)
        refine wa_locals [(0, _), (1, _), (2, _)] [0, 1, 2] rfl ?_
        refine wa_aload_n 0 dX3_orderOf_0 rfl rfl ?_
        refine wa_aload_n 0 dX3_orderOf_1 rfl rfl ?_
        refine wa_iload_n 1 dX3_orderOf_2 rfl rfl ?_
        refine wc_isI (wr_V dX3_orderOf_3 mX3_112 (sp_misOrderY H hr hs hx) hm rfl rfl rfl (Nat.le_of_ble_eq_true rfl)) ?_
        refine wa_if_ne 13 dX3_orderOf_6 rfl (fun c6 => ?_) (fun c6 => absurd c6 (by decide))
        refine wa_iload_n 2 dX3_orderOf_13 rfl rfl ?_
        refine wa_iconst (0) dX3_orderOf_14 (by decide) ?_
        refine wa_iconst (5) dX3_orderOf_15 (by decide) ?_
        refine wc_isI (wr_S dX3_orderOf_16 mX3_71 (sp_mminY hy) rfl rfl rfl (Nat.le_of_ble_eq_true rfl)) ?_
        refine wa_if_ne 26 dX3_orderOf_19 rfl (fun c19 => ?_) (fun c19 => absurd c19 (by decide))
        refine wa_iconst (0) dX3_orderOf_26 (by decide) ?_
        refine wa_putf [_, _, _, _, _, _, _, _, _, _, _, _, _, _, _, _, _, _, _, _] dX3_orderOf_27 pX3_49 hm (Nat.le_of_ble_eq_true rfl) rfl rfl rfl ?_
        refine wa_aload_n 0 dX3_orderOf_30 rfl rfl ?_
        refine wa_getf dX3_orderOf_31 gX3_49 (w_set_self hm) rfl ?_
        refine wa_if_le 39 dX3_orderOf_34 rfl (fun c34 => ?_) (fun c34 => absurd (by decide) c34)
        subst hxe
        refine wa_iload_n 2 dX3_orderOf_39 rfl rfl ?_
        refine wa_tableIn 74 dX3_orderOf_40 (by decide) (by decide) rfl rfl ?_
        refine wa_aload_n 0 dX3_orderOf_74 rfl rfl ?_
        refine wa_iload_n 1 dX3_orderOf_75 rfl rfl ?_
        refine wa_iconst (3) dX3_orderOf_76 (by decide) ?_
        refine wc_isI (wr_V dX3_orderOf_77 mX3_109 (sp_mget H0 hk10 (w := 3) (by decide)) h0.1 rfl rfl rfl (Nat.le_of_ble_eq_true rfl)) ?_
        refine wa_iret FieldType.int dX3_orderOf_80 rfl rfl (Nat.le_of_ble_eq_true rfl) (Nat.le_of_ble_eq_true rfl) ?_
        exact ⟨_, rfl, (w_fr.rf.set z_mEm), q4, h0.md⟩
      | 5, _ =>
        have hy : (0 : Int32) ≤ 5 ∧ (5 : Int32) ≤ 5 := by decide
        refine w_start (by decide) (Nat.le_of_ble_eq_true rfl) (fun X => ?_)
        refine wa_locals [(0, _), (1, _), (2, _)] [0, 1, 2] rfl ?_
        refine wa_aload_n 0 dX3_orderOf_0 rfl rfl ?_
        refine wa_aload_n 0 dX3_orderOf_1 rfl rfl ?_
        refine wa_iload_n 1 dX3_orderOf_2 rfl rfl ?_
        refine wc_isI (wr_V dX3_orderOf_3 mX3_112 (sp_misOrderY H hr hs hx) hm rfl rfl rfl (Nat.le_of_ble_eq_true rfl)) ?_
        refine wa_if_ne 13 dX3_orderOf_6 rfl (fun c6 => ?_) (fun c6 => absurd c6 (by decide))
        refine wa_iload_n 2 dX3_orderOf_13 rfl rfl ?_
        refine wa_iconst (0) dX3_orderOf_14 (by decide) ?_
        refine wa_iconst (5) dX3_orderOf_15 (by decide) ?_
        refine wc_isI (wr_S dX3_orderOf_16 mX3_71 (sp_mminY hy) rfl rfl rfl (Nat.le_of_ble_eq_true rfl)) ?_
        refine wa_if_ne 26 dX3_orderOf_19 rfl (fun c19 => ?_) (fun c19 => absurd c19 (by decide))
        refine wa_iconst (0) dX3_orderOf_26 (by decide) ?_
        refine wa_putf [_, _, _, _, _, _, _, _, _, _, _, _, _, _, _, _, _, _, _, _] dX3_orderOf_27 pX3_49 hm (Nat.le_of_ble_eq_true rfl) rfl rfl rfl ?_
        refine wa_aload_n 0 dX3_orderOf_30 rfl rfl ?_
        refine wa_getf dX3_orderOf_31 gX3_49 (w_set_self hm) rfl ?_
        refine wa_if_le 39 dX3_orderOf_34 rfl (fun c34 => ?_) (fun c34 => absurd (by decide) c34)
        subst hxe
        refine wa_iload_n 2 dX3_orderOf_39 rfl rfl ?_
        refine wa_tableIn 81 dX3_orderOf_40 (by decide) (by decide) rfl rfl ?_
        refine wa_aload_n 0 dX3_orderOf_81 rfl rfl ?_
        refine wa_iload_n 1 dX3_orderOf_82 rfl rfl ?_
        refine wa_iconst (4) dX3_orderOf_83 (by decide) ?_
        refine wc_isI (wr_V dX3_orderOf_84 mX3_109 (sp_mget H0 hk10 (w := 4) (by decide)) h0.1 rfl rfl rfl (Nat.le_of_ble_eq_true rfl)) ?_
        refine wa_iret FieldType.int dX3_orderOf_87 rfl rfl (Nat.le_of_ble_eq_true rfl) (Nat.le_of_ble_eq_true rfl) ?_
        exact ⟨_, rfl, (w_fr.rf.set z_mEm), q5, h0.md⟩
theorem sp_mcell (h : z_mod b M m S th) {x w : Int32} : w_S l G tX3_cell (5, 0, 0) [.ref m, .int x, .int w] M (z_mA b M m S (z_cellA (z_cur S) x w)) := by
  obtain ⟨is, rr, rc, f, sv, pf, ip, h⟩ := h
  obtain ⟨hm, hf, -⟩ := id h
  have H := h.mh
  have hr := h.mr
  have hg := h.gd
  have hs := hg.1
  have hh := hg.2.2.2.2.2.2.2
  have hsz := hs.size
  have hR6 : (z_robs (z_cur S)).length ≤ 6 := hs.2.2.2.2.1
  have hO10 : (z_ords (z_cur S)).length ≤ 10 := hs.2.2.2.2.2.1
  unfold z_cellA
  cases hx : z_idx x (z_size (z_cur S)) with
  | none =>
    refine w_start (by decide) (Nat.le_of_ble_eq_true rfl) (fun X => ?_)
    refine wa_locals [(0, _), (1, _), (2, _)] [0, 1, 2] rfl ?_
    refine wa_aload_n 0 dX3_cell_0 rfl rfl ?_
    refine wa_aload_n 0 dX3_cell_1 rfl rfl ?_
    refine wa_iload_n 1 dX3_cell_2 rfl rfl ?_
    refine wc_isI (wr_V dX3_cell_3 mX3_86 (sp_misCellZ H hr hs hx) hm rfl rfl rfl (Nat.le_of_ble_eq_true rfl)) ?_
    refine wa_if_ne 13 dX3_cell_6 rfl (fun c6 => absurd (by decide) c6) (fun c6 => ?_)
    refine wa_iconst (1) dX3_cell_9 (by decide) ?_
    refine wa_goto 27 dX3_cell_10 rfl ?_
    refine wa_putf [_, _, _, _, _, _, _, _, _, _, _, _, _, _, _, _, _, _, _, _] dX3_cell_27 pX3_49 hm (Nat.le_of_ble_eq_true rfl) rfl rfl rfl ?_
    refine wa_aload_n 0 dX3_cell_30 rfl rfl ?_
    refine wa_getf dX3_cell_31 gX3_49 (w_set_self hm) rfl ?_
    refine wa_if_le 39 dX3_cell_34 rfl (fun c34 => absurd c34 (by decide)) (fun c34 => ?_)
    refine wa_iconst (0) dX3_cell_37 (by decide) ?_
    refine wa_iret FieldType.int dX3_cell_38 rfl rfl (Nat.le_of_ble_eq_true rfl) (Nat.le_of_ble_eq_true rfl) ?_
    exact ⟨_, rfl, (w_fr.rf.set z_mEm), (h.thr 1).md⟩
  | some k =>
    have hkl := z_idx_lt (by omega) hx
    have hxe := z_idx_eq (by omega) hx
    cases hw : z_idx w 4 with
    | none =>
      have hwn : ¬ ((0 : Int32) ≤ w ∧ w ≤ 3) := (z_idx_none (n := 4) (by decide)).mp hw
      refine w_start (by decide) (Nat.le_of_ble_eq_true rfl) (fun X => ?_)
      refine wa_locals [(0, _), (1, _), (2, _)] [0, 1, 2] rfl ?_
      refine wa_aload_n 0 dX3_cell_0 rfl rfl ?_
      refine wa_aload_n 0 dX3_cell_1 rfl rfl ?_
      refine wa_iload_n 1 dX3_cell_2 rfl rfl ?_
      refine wc_isI (wr_V dX3_cell_3 mX3_86 (sp_misCellY H hr hs hx) hm rfl rfl rfl (Nat.le_of_ble_eq_true rfl)) ?_
      refine wa_if_ne 13 dX3_cell_6 rfl (fun c6 => ?_) (fun c6 => absurd c6 (by decide))
      refine wa_iload_n 2 dX3_cell_13 rfl rfl ?_
      refine wa_iconst (0) dX3_cell_14 (by decide) ?_
      refine wa_iconst (3) dX3_cell_15 (by decide) ?_
      refine wc_isI (wr_S dX3_cell_16 mX3_71 (sp_mminZ hwn) rfl rfl rfl (Nat.le_of_ble_eq_true rfl)) ?_
      refine wa_if_ne 26 dX3_cell_19 rfl (fun c19 => absurd (by decide) c19) (fun c19 => ?_)
      refine wa_iconst (2) dX3_cell_22 (by decide) ?_
      refine wa_goto 27 dX3_cell_23 rfl ?_
      refine wa_putf [_, _, _, _, _, _, _, _, _, _, _, _, _, _, _, _, _, _, _, _] dX3_cell_27 pX3_49 hm (Nat.le_of_ble_eq_true rfl) rfl rfl rfl ?_
      refine wa_aload_n 0 dX3_cell_30 rfl rfl ?_
      refine wa_getf dX3_cell_31 gX3_49 (w_set_self hm) rfl ?_
      refine wa_if_le 39 dX3_cell_34 rfl (fun c34 => absurd c34 (by decide)) (fun c34 => ?_)
      refine wa_iconst (0) dX3_cell_37 (by decide) ?_
      refine wa_iret FieldType.int dX3_cell_38 rfl rfl (Nat.le_of_ble_eq_true rfl) (Nat.le_of_ble_eq_true rfl) ?_
      exact ⟨_, rfl, (w_fr.rf.set z_mEm), (h.thr 2).md⟩
    | some wn =>
      obtain ⟨hwn, hwe⟩ := (z_idx_some (n := 4) (by decide)).mp hw
      subst hwe
      have h0 := h.thr 0
      have H0 := h0.mh
      match wn, hwn with
      | 0, _ =>
        have hy : (0 : Int32) ≤ 0 ∧ (0 : Int32) ≤ 3 := by decide
        refine w_start (by decide) (Nat.le_of_ble_eq_true rfl) (fun X => ?_)
        refine wa_locals [(0, _), (1, _), (2, _)] [0, 1, 2] rfl ?_
        refine wa_aload_n 0 dX3_cell_0 rfl rfl ?_
        refine wa_aload_n 0 dX3_cell_1 rfl rfl ?_
        refine wa_iload_n 1 dX3_cell_2 rfl rfl ?_
        refine wc_isI (wr_V dX3_cell_3 mX3_86 (sp_misCellY H hr hs hx) hm rfl rfl rfl (Nat.le_of_ble_eq_true rfl)) ?_
        refine wa_if_ne 13 dX3_cell_6 rfl (fun c6 => ?_) (fun c6 => absurd c6 (by decide))
        refine wa_iload_n 2 dX3_cell_13 rfl rfl ?_
        refine wa_iconst (0) dX3_cell_14 (by decide) ?_
        refine wa_iconst (3) dX3_cell_15 (by decide) ?_
        refine wc_isI (wr_S dX3_cell_16 mX3_71 (sp_mminY hy) rfl rfl rfl (Nat.le_of_ble_eq_true rfl)) ?_
        refine wa_if_ne 26 dX3_cell_19 rfl (fun c19 => ?_) (fun c19 => absurd c19 (by decide))
        refine wa_iconst (0) dX3_cell_26 (by decide) ?_
        refine wa_putf [_, _, _, _, _, _, _, _, _, _, _, _, _, _, _, _, _, _, _, _] dX3_cell_27 pX3_49 hm (Nat.le_of_ble_eq_true rfl) rfl rfl rfl ?_
        refine wa_aload_n 0 dX3_cell_30 rfl rfl ?_
        refine wa_getf dX3_cell_31 gX3_49 (w_set_self hm) rfl ?_
        refine wa_if_le 39 dX3_cell_34 rfl (fun c34 => ?_) (fun c34 => absurd (by decide) c34)
        subst hxe
        refine wa_iload_n 2 dX3_cell_39 rfl rfl ?_
        refine wa_tableIn 68 dX3_cell_40 (by decide) (by decide) rfl rfl ?_
        refine wa_aload_n 0 dX3_cell_68 rfl rfl ?_
        refine wa_getf dX3_cell_69 gX3_9 h0.1 rfl ?_
        refine wa_bipush (8) dX3_cell_72 (by decide) ?_
        refine wa_iload_n 1 dX3_cell_74 rfl rfl ?_
        refine wa_iadd dX3_cell_75 ?_
        rw [show (8 : Int32) + nI k = nI (8 + k) from nI_add 8 k]
        refine wa_iald dX3_cell_76 h0.2.1 (vp_in_nI (by omega) (by omega)) ?_
        rw [nI_clamp (by omega), hr.kind hkl]
        refine wa_iret FieldType.int dX3_cell_77 rfl rfl (Nat.le_of_ble_eq_true rfl) (Nat.le_of_ble_eq_true rfl) ?_
        exact ⟨_, rfl, (w_fr.rf.set z_mEm), rfl, h0.md⟩
      | 1, _ =>
        have hy : (0 : Int32) ≤ 1 ∧ (1 : Int32) ≤ 3 := by decide
        refine w_start (by decide) (Nat.le_of_ble_eq_true rfl) (fun X => ?_)
        refine wa_locals [(0, _), (1, _), (2, _)] [0, 1, 2] rfl ?_
        refine wa_aload_n 0 dX3_cell_0 rfl rfl ?_
        refine wa_aload_n 0 dX3_cell_1 rfl rfl ?_
        refine wa_iload_n 1 dX3_cell_2 rfl rfl ?_
        refine wc_isI (wr_V dX3_cell_3 mX3_86 (sp_misCellY H hr hs hx) hm rfl rfl rfl (Nat.le_of_ble_eq_true rfl)) ?_
        refine wa_if_ne 13 dX3_cell_6 rfl (fun c6 => ?_) (fun c6 => absurd c6 (by decide))
        refine wa_iload_n 2 dX3_cell_13 rfl rfl ?_
        refine wa_iconst (0) dX3_cell_14 (by decide) ?_
        refine wa_iconst (3) dX3_cell_15 (by decide) ?_
        refine wc_isI (wr_S dX3_cell_16 mX3_71 (sp_mminY hy) rfl rfl rfl (Nat.le_of_ble_eq_true rfl)) ?_
        refine wa_if_ne 26 dX3_cell_19 rfl (fun c19 => ?_) (fun c19 => absurd c19 (by decide))
        refine wa_iconst (0) dX3_cell_26 (by decide) ?_
        refine wa_putf [_, _, _, _, _, _, _, _, _, _, _, _, _, _, _, _, _, _, _, _] dX3_cell_27 pX3_49 hm (Nat.le_of_ble_eq_true rfl) rfl rfl rfl ?_
        refine wa_aload_n 0 dX3_cell_30 rfl rfl ?_
        refine wa_getf dX3_cell_31 gX3_49 (w_set_self hm) rfl ?_
        refine wa_if_le 39 dX3_cell_34 rfl (fun c34 => ?_) (fun c34 => absurd (by decide) c34)
        subst hxe
        refine wa_iload_n 2 dX3_cell_39 rfl rfl ?_
        refine wa_tableIn 78 dX3_cell_40 (by decide) (by decide) rfl rfl ?_
        refine wa_aload_n 0 dX3_cell_78 rfl rfl ?_
        refine wa_iload_n 1 dX3_cell_79 rfl rfl ?_
        refine wc_isI (wr_V dX3_cell_80 mX3_93 (sp_mcanEnter H0 hr hs hkl) h0.1 rfl rfl rfl (Nat.le_of_ble_eq_true rfl)) ?_
        refine wa_if_eq 90 dX3_cell_83 rfl (fun c83 => ?_) (fun c83 => ?_)
        ·
          refine wa_iconst (0) dX3_cell_90 (by decide) ?_
          refine wa_iret FieldType.int dX3_cell_91 rfl rfl (Nat.le_of_ble_eq_true rfl) (Nat.le_of_ble_eq_true rfl) ?_
          have e := z_if1.mp c83
          exact ⟨_, rfl, (w_fr.rf.set z_mEm), (if_neg e).symm, h0.md⟩
        ·
          refine wa_iconst (1) dX3_cell_86 (by decide) ?_
          refine wa_goto 91 dX3_cell_87 rfl ?_
          refine wa_iret FieldType.int dX3_cell_91 rfl rfl (Nat.le_of_ble_eq_true rfl) (Nat.le_of_ble_eq_true rfl) ?_
          have e : z_free (z_cur S) k = true := Classical.byContradiction fun z => c83 (if_neg z)
          exact ⟨_, rfl, (w_fr.rf.set z_mEm), (if_pos e).symm, h0.md⟩
      | 2, _ =>
        have hy : (0 : Int32) ≤ 2 ∧ (2 : Int32) ≤ 3 := by decide
        refine w_start (by decide) (Nat.le_of_ble_eq_true rfl) (fun X => ?_)
        refine wa_locals [(0, _), (1, _), (2, _)] [0, 1, 2] rfl ?_
        refine wa_aload_n 0 dX3_cell_0 rfl rfl ?_
        refine wa_aload_n 0 dX3_cell_1 rfl rfl ?_
        refine wa_iload_n 1 dX3_cell_2 rfl rfl ?_
        refine wc_isI (wr_V dX3_cell_3 mX3_86 (sp_misCellY H hr hs hx) hm rfl rfl rfl (Nat.le_of_ble_eq_true rfl)) ?_
        refine wa_if_ne 13 dX3_cell_6 rfl (fun c6 => ?_) (fun c6 => absurd c6 (by decide))
        refine wa_iload_n 2 dX3_cell_13 rfl rfl ?_
        refine wa_iconst (0) dX3_cell_14 (by decide) ?_
        refine wa_iconst (3) dX3_cell_15 (by decide) ?_
        refine wc_isI (wr_S dX3_cell_16 mX3_71 (sp_mminY hy) rfl rfl rfl (Nat.le_of_ble_eq_true rfl)) ?_
        refine wa_if_ne 26 dX3_cell_19 rfl (fun c19 => ?_) (fun c19 => absurd c19 (by decide))
        refine wa_iconst (0) dX3_cell_26 (by decide) ?_
        refine wa_putf [_, _, _, _, _, _, _, _, _, _, _, _, _, _, _, _, _, _, _, _] dX3_cell_27 pX3_49 hm (Nat.le_of_ble_eq_true rfl) rfl rfl rfl ?_
        refine wa_aload_n 0 dX3_cell_30 rfl rfl ?_
        refine wa_getf dX3_cell_31 gX3_49 (w_set_self hm) rfl ?_
        refine wa_if_le 39 dX3_cell_34 rfl (fun c34 => ?_) (fun c34 => absurd (by decide) c34)
        subst hxe
        refine wa_iload_n 2 dX3_cell_39 rfl rfl ?_
        refine wa_tableIn 92 dX3_cell_40 (by decide) (by decide) rfl rfl ?_
        refine wa_aload_n 0 dX3_cell_92 rfl rfl ?_
        refine wa_iload_n 1 dX3_cell_93 rfl rfl ?_
        refine wa_iconst (0) dX3_cell_94 (by decide) ?_
        refine wc_isI (wr_V dX3_cell_95 mX3_168 (sp_mrobotIn H0 hr hs (t := 0) (by omega) (by decide)) h0.1 rfl rfl rfl (Nat.le_of_ble_eq_true rfl)) ?_
        refine wa_iret FieldType.int dX3_cell_98 rfl rfl (Nat.le_of_ble_eq_true rfl) (Nat.le_of_ble_eq_true rfl) ?_
        exact ⟨_, rfl, (w_fr.rf.set z_mEm), rfl, h0.md⟩
      | 3, _ =>
        have hy : (0 : Int32) ≤ 3 ∧ (3 : Int32) ≤ 3 := by decide
        refine w_start (by decide) (Nat.le_of_ble_eq_true rfl) (fun X => ?_)
        refine wa_locals [(0, _), (1, _), (2, _)] [0, 1, 2] rfl ?_
        refine wa_aload_n 0 dX3_cell_0 rfl rfl ?_
        refine wa_aload_n 0 dX3_cell_1 rfl rfl ?_
        refine wa_iload_n 1 dX3_cell_2 rfl rfl ?_
        refine wc_isI (wr_V dX3_cell_3 mX3_86 (sp_misCellY H hr hs hx) hm rfl rfl rfl (Nat.le_of_ble_eq_true rfl)) ?_
        refine wa_if_ne 13 dX3_cell_6 rfl (fun c6 => ?_) (fun c6 => absurd c6 (by decide))
        refine wa_iload_n 2 dX3_cell_13 rfl rfl ?_
        refine wa_iconst (0) dX3_cell_14 (by decide) ?_
        refine wa_iconst (3) dX3_cell_15 (by decide) ?_
        refine wc_isI (wr_S dX3_cell_16 mX3_71 (sp_mminY hy) rfl rfl rfl (Nat.le_of_ble_eq_true rfl)) ?_
        refine wa_if_ne 26 dX3_cell_19 rfl (fun c19 => ?_) (fun c19 => absurd c19 (by decide))
        refine wa_iconst (0) dX3_cell_26 (by decide) ?_
        refine wa_putf [_, _, _, _, _, _, _, _, _, _, _, _, _, _, _, _, _, _, _, _] dX3_cell_27 pX3_49 hm (Nat.le_of_ble_eq_true rfl) rfl rfl rfl ?_
        refine wa_aload_n 0 dX3_cell_30 rfl rfl ?_
        refine wa_getf dX3_cell_31 gX3_49 (w_set_self hm) rfl ?_
        refine wa_if_le 39 dX3_cell_34 rfl (fun c34 => ?_) (fun c34 => absurd (by decide) c34)
        subst hxe
        refine wa_iload_n 2 dX3_cell_39 rfl rfl ?_
        refine wa_tableOut 99 dX3_cell_40 (by decide) rfl ?_
        refine wa_iconst (0) dX3_cell_99 (by decide) ?_
        refine wa_istore_n [(3, _), (0, _), (1, _), (2, _)] dX3_cell_100 rfl (Nat.le_of_ble_eq_true rfl) rfl ?_
        refine wa_iconst (0) dX3_cell_101 (by decide) ?_
        refine wa_istore [(4, _), (3, _), (0, _), (1, _), (2, _)] dX3_cell_102 (Nat.le_of_ble_eq_true rfl) rfl ?_
        refine wa_locals [(4, _), (3, _), (0, _), (1, _)] [0, 1, 2, 3] rfl ?_
        have LP : ∀ (n w : Nat), w + n = 4 → w_A l G tX3_cell (5, 0, 0) X 0 0 (M.set m (z_mo m is (nI (z_past S).length) 0 (z_why S) (z_det S) (nI (z_txt S).length) (z_flt S) rr rc)) 104 [(4, .int (nI w)), (3, .int (nI (z_nbN (z_cur S) k w))), (0, .ref m), (1, .int (nI k))] [] (z_mA b M m S (.inl (nI (z_nbN (z_cur S) k 4)))) := by
          intro n
          induction n with
          | zero =>
            intro w hn
            have hw4 : w = 4 := by omega
            subst hw4
            refine wa_iload 0 dX3_cell_104 rfl ?_
            refine wa_iconst (4) dX3_cell_106 (by decide) ?_
            refine wa_icmp_ge 147 dX3_cell_107 rfl (fun c107 => ?_) (fun c107 => absurd (by decide) c107)
            refine wa_iload_n 1 dX3_cell_147 rfl rfl ?_
            refine wa_iret FieldType.int dX3_cell_148 rfl rfl (Nat.le_of_ble_eq_true rfl) (Nat.le_of_ble_eq_true rfl) ?_
            exact ⟨_, rfl, (w_fr.rf.set z_mEm), rfl, h0.md⟩
          | succ n ih =>
            intro w hn
            have hnb := z_bes_nb (z_cur S) k (w := w) (by omega)
            have hng := z_enc_neg (g := z_bes (z_cur S) k w) (fun t e => by have := z_bes_lt hs hkl e; omega)
            refine wa_iload 0 dX3_cell_104 rfl ?_
            refine wa_iconst (4) dX3_cell_106 (by decide) ?_
            refine wa_icmp_ge 147 dX3_cell_107 rfl (fun c107 => absurd c107 (nI_lt_not (b := 4) (by omega) (by decide))) (fun c107 => ?_)
            refine wa_aload_n 2 dX3_cell_110 rfl rfl ?_
            refine wa_iload_n 3 dX3_cell_111 rfl rfl ?_
            refine wa_iload 0 dX3_cell_112 rfl ?_
            refine wc_isI (wr_V dX3_cell_114 mX3_124 (sp_mbes H0 hr hs hkl (by omega)) h0.1 rfl rfl rfl (Nat.le_of_ble_eq_true rfl)) ?_
            refine wa_istore [(5, _), (4, _), (3, _), (0, _), (1, _)] dX3_cell_117 (Nat.le_of_ble_eq_true rfl) rfl ?_
            refine wa_iload_n 2 dX3_cell_119 rfl rfl ?_
            refine wa_iload 0 dX3_cell_120 rfl ?_
            refine wa_if_lt 138 dX3_cell_122 rfl (fun c122 => ?_) (fun c122 => ?_)
            ·
              refine wa_iconst (0) dX3_cell_138 (by decide) ?_
              refine wa_iadd dX3_cell_139 ?_
              refine wa_istore_n [(3, _), (5, _), (4, _), (0, _), (1, _)] dX3_cell_140 rfl (Nat.le_of_ble_eq_true rfl) rfl ?_
              refine wa_iinc 2 [(4, _), (3, _), (5, _), (0, _), (1, _)] dX3_cell_141 rfl (w_inc w) (Nat.le_of_ble_eq_true rfl) rfl ?_
              refine wa_goto 104 dX3_cell_144 rfl ?_
              refine wa_locals [(4, _), (3, _), (0, _), (1, _)] [0, 1, 3, 4] rfl ?_
              have ih := ih (w + 1) (by omega)
              rw [z_nbN] at ih
              rw [hng.mp c122] at hnb
              have hnb : z_nb (z_cur S) k w = none := hnb
              rw [if_pos hnb, Nat.add_zero] at ih
              rw [Int32.add_zero]
              exact ih
            ·
              obtain ⟨t, ht⟩ : ∃ t, z_bes (z_cur S) k w = some t := Option.ne_none_iff_exists'.mp (fun z => c122 (hng.mpr z))
              have htl := z_bes_lt hs hkl ht
              rw [ht] at hnb
              have hnb : z_nb (z_cur S) k w = if z_free (z_cur S) t = true then some t else none := hnb
              rw [ht]
              rw [show z_enc (some t) = nI t from rfl]
              refine wa_aload_n 3 dX3_cell_125 rfl rfl ?_
              refine wa_iload 0 dX3_cell_126 rfl ?_
              refine wc_isI (wr_V dX3_cell_128 mX3_93 (sp_mcanEnter H0 hr hs htl) h0.1 rfl rfl rfl (Nat.le_of_ble_eq_true rfl)) ?_
              refine wa_if_eq 138 dX3_cell_131 rfl (fun c131 => ?_) (fun c131 => ?_)
              ·
                refine wa_iconst (0) dX3_cell_138 (by decide) ?_
                refine wa_iadd dX3_cell_139 ?_
                refine wa_istore_n [(3, _), (5, _), (4, _), (0, _), (1, _)] dX3_cell_140 rfl (Nat.le_of_ble_eq_true rfl) rfl ?_
                refine wa_iinc 2 [(4, _), (3, _), (5, _), (0, _), (1, _)] dX3_cell_141 rfl (w_inc w) (Nat.le_of_ble_eq_true rfl) rfl ?_
                refine wa_goto 104 dX3_cell_144 rfl ?_
                refine wa_locals [(4, _), (3, _), (0, _), (1, _)] [0, 1, 3, 4] rfl ?_
                have ih := ih (w + 1) (by omega)
                rw [z_nbN] at ih
                rw [if_neg (z_if1.mp c131)] at hnb
                rw [if_pos hnb, Nat.add_zero] at ih
                rw [Int32.add_zero]
                exact ih
              ·
                refine wa_iconst (1) dX3_cell_134 (by decide) ?_
                refine wa_goto 139 dX3_cell_135 rfl ?_
                refine wa_iadd dX3_cell_139 ?_
                refine wa_istore_n [(3, _), (5, _), (4, _), (0, _), (1, _)] dX3_cell_140 rfl (Nat.le_of_ble_eq_true rfl) rfl ?_
                refine wa_iinc 2 [(4, _), (3, _), (5, _), (0, _), (1, _)] dX3_cell_141 rfl (w_inc w) (Nat.le_of_ble_eq_true rfl) rfl ?_
                refine wa_goto 104 dX3_cell_144 rfl ?_
                refine wa_locals [(4, _), (3, _), (0, _), (1, _)] [0, 1, 3, 4] rfl ?_
                have ih := ih (w + 1) (by omega)
                rw [z_nbN] at ih
                have e : z_free (z_cur S) t = true := Classical.byContradiction fun z => c131 (if_neg z)
                rw [if_pos e] at hnb
                rw [if_neg (by rw [hnb]; exact fun z => by cases z)] at ih
                rw [show nI (z_nbN (z_cur S) k w) + 1 = nI (z_nbN (z_cur S) k w + 1) from nI_1 _]
                exact ih
        exact LP 4 0 (Nat.zero_add _)
theorem sp_mplanned (h : z_mod b M m S th) {x w : Int32} : w_S l G tX3_planned (5, 0, 0) [.ref m, .int x, .int w] M (z_mA b M m S (z_plannedA (z_cur S) x w)) := by
  obtain ⟨is, rr, rc, f, sv, pf, ip, h⟩ := h
  obtain ⟨hm, hf, -⟩ := id h
  have H := h.mh
  have hr := h.mr
  have hg := h.gd
  have hs := hg.1
  have hh := hg.2.2.2.2.2.2.2
  have hsz := hs.size
  have hR6 : (z_robs (z_cur S)).length ≤ 6 := hs.2.2.2.2.1
  have hO10 : (z_ords (z_cur S)).length ≤ 10 := hs.2.2.2.2.2.1
  unfold z_plannedA
  cases hx : z_idx x (z_robs (z_cur S)).length with
  | none =>
    refine w_start (by decide) (Nat.le_of_ble_eq_true rfl) (fun X => ?_)
    refine wa_locals [(0, _), (1, _), (2, _)] [0, 1, 2] rfl ?_
    refine wa_aload_n 0 dX3_planned_0 rfl rfl ?_
    refine wa_aload_n 0 dX3_planned_1 rfl rfl ?_
    refine wa_iload_n 1 dX3_planned_2 rfl rfl ?_
    refine wc_isI (wr_V dX3_planned_3 mX3_103 (sp_misRobotZ H hr hs hx) hm rfl rfl rfl (Nat.le_of_ble_eq_true rfl)) ?_
    refine wa_if_ne 13 dX3_planned_6 rfl (fun c6 => absurd (by decide) c6) (fun c6 => ?_)
    refine wa_iconst (1) dX3_planned_9 (by decide) ?_
    refine wa_goto 22 dX3_planned_10 rfl ?_
    refine wa_putf [_, _, _, _, _, _, _, _, _, _, _, _, _, _, _, _, _, _, _, _] dX3_planned_22 pX3_49 hm (Nat.le_of_ble_eq_true rfl) rfl rfl rfl ?_
    refine wa_aload_n 0 dX3_planned_25 rfl rfl ?_
    refine wa_getf dX3_planned_26 gX3_49 (w_set_self hm) rfl ?_
    refine wa_if_le 36 dX3_planned_29 rfl (fun c29 => absurd c29 (by decide)) (fun c29 => ?_)
    refine wa_iconst (0) dX3_planned_32 (by decide) ?_
    refine wa_goto 42 dX3_planned_33 rfl ?_
    refine wa_iret FieldType.int dX3_planned_42 rfl rfl (Nat.le_of_ble_eq_true rfl) (Nat.le_of_ble_eq_true rfl) ?_
    exact ⟨_, rfl, (w_fr.rf.set z_mEm), (h.thr 1).md⟩
  | some k =>
    obtain ⟨r, hk⟩ : ∃ r, (z_robs (z_cur S))[k]? = some r := ⟨_, List.getElem?_eq_getElem (z_idx_lt (by omega) hx)⟩
    have hkl := (List.getElem?_eq_some_iff.mp hk).1
    have hk6 : k < 6 := by omega
    obtain ⟨q1, q2, q3, q4, q5, q6, q7⟩ := hr.rob hk
    have hp30 := (hs.2.2.2.2.2.2.1 r (List.mem_of_getElem? hk)).2.2.1
    have hxe := z_idx_eq (by omega) hx
    simp only [hk]
    have h0 := h.thr 0
    have H0 := h0.mh
    by_cases hw : 0 ≤ w
    ·
      rw [if_pos hw]
      obtain ⟨tn, htn, hte⟩ := nI_of (Int32.not_lt.mpr hw)
      rw [hte, nI_clamp htn]
      rw [hte] at hw
      refine w_start (by decide) (Nat.le_of_ble_eq_true rfl) (fun X => ?_)
      refine wa_locals [(0, _), (1, _), (2, _)] [0, 1, 2] rfl ?_
      refine wa_aload_n 0 dX3_planned_0 rfl rfl ?_
      refine wa_aload_n 0 dX3_planned_1 rfl rfl ?_
      refine wa_iload_n 1 dX3_planned_2 rfl rfl ?_
      refine wc_isI (wr_V dX3_planned_3 mX3_103 (sp_misRobotY H hr hs hx) hm rfl rfl rfl (Nat.le_of_ble_eq_true rfl)) ?_
      refine wa_if_ne 13 dX3_planned_6 rfl (fun c6 => ?_) (fun c6 => absurd c6 (by decide))
      refine wa_iload_n 2 dX3_planned_13 rfl rfl ?_
      refine wa_if_ge 21 dX3_planned_14 rfl (fun c14 => ?_) (fun c14 => absurd hw c14)
      refine wa_iconst (0) dX3_planned_21 (by decide) ?_
      refine wa_putf [_, _, _, _, _, _, _, _, _, _, _, _, _, _, _, _, _, _, _, _] dX3_planned_22 pX3_49 hm (Nat.le_of_ble_eq_true rfl) rfl rfl rfl ?_
      refine wa_aload_n 0 dX3_planned_25 rfl rfl ?_
      refine wa_getf dX3_planned_26 gX3_49 (w_set_self hm) rfl ?_
      refine wa_if_le 36 dX3_planned_29 rfl (fun c29 => ?_) (fun c29 => absurd (by decide) c29)
      subst hxe
      refine wa_aload_n 0 dX3_planned_36 rfl rfl ?_
      refine wa_iload_n 1 dX3_planned_37 rfl rfl ?_
      refine wa_iload_n 2 dX3_planned_38 rfl rfl ?_
      refine wc_isI (wr_V dX3_planned_39 mX3_83 (sp_mcellOf H0 hr hs hk htn) h0.1 rfl rfl rfl (Nat.le_of_ble_eq_true rfl)) ?_
      refine wa_iret FieldType.int dX3_planned_42 rfl rfl (Nat.le_of_ble_eq_true rfl) (Nat.le_of_ble_eq_true rfl) ?_
      exact ⟨_, rfl, (w_fr.rf.set z_mEm), rfl, h0.md⟩
    ·
      rw [if_neg hw]
      refine w_start (by decide) (Nat.le_of_ble_eq_true rfl) (fun X => ?_)
      refine wa_locals [(0, _), (1, _), (2, _)] [0, 1, 2] rfl ?_
      refine wa_aload_n 0 dX3_planned_0 rfl rfl ?_
      refine wa_aload_n 0 dX3_planned_1 rfl rfl ?_
      refine wa_iload_n 1 dX3_planned_2 rfl rfl ?_
      refine wc_isI (wr_V dX3_planned_3 mX3_103 (sp_misRobotY H hr hs hx) hm rfl rfl rfl (Nat.le_of_ble_eq_true rfl)) ?_
      refine wa_if_ne 13 dX3_planned_6 rfl (fun c6 => ?_) (fun c6 => absurd c6 (by decide))
      refine wa_iload_n 2 dX3_planned_13 rfl rfl ?_
      refine wa_if_ge 21 dX3_planned_14 rfl (fun c14 => absurd c14 hw) (fun c14 => ?_)
      refine wa_iconst (2) dX3_planned_17 (by decide) ?_
      refine wa_goto 22 dX3_planned_18 rfl ?_
      refine wa_putf [_, _, _, _, _, _, _, _, _, _, _, _, _, _, _, _, _, _, _, _] dX3_planned_22 pX3_49 hm (Nat.le_of_ble_eq_true rfl) rfl rfl rfl ?_
      refine wa_aload_n 0 dX3_planned_25 rfl rfl ?_
      refine wa_getf dX3_planned_26 gX3_49 (w_set_self hm) rfl ?_
      refine wa_if_le 36 dX3_planned_29 rfl (fun c29 => absurd c29 (by decide)) (fun c29 => ?_)
      refine wa_iconst (0) dX3_planned_32 (by decide) ?_
      refine wa_goto 42 dX3_planned_33 rfl ?_
      refine wa_iret FieldType.int dX3_planned_42 rfl rfl (Nat.le_of_ble_eq_true rfl) (Nat.le_of_ble_eq_true rfl) ?_
      exact ⟨_, rfl, (w_fr.rf.set z_mEm), (h.thr 2).md⟩
theorem sp_mreserved (h : z_mod b M m S th) {x w : Int32} : w_S l G tX3_reserved (5, 0, 0) [.ref m, .int x, .int w] M (z_mA b M m S (z_reservedA (z_cur S) x w)) := by
  obtain ⟨is, rr, rc, f, sv, pf, ip, h⟩ := h
  obtain ⟨hm, hf, -⟩ := id h
  have H := h.mh
  have hr := h.mr
  have hg := h.gd
  have hs := hg.1
  have hh := hg.2.2.2.2.2.2.2
  have hsz := hs.size
  have hR6 : (z_robs (z_cur S)).length ≤ 6 := hs.2.2.2.2.1
  have hO10 : (z_ords (z_cur S)).length ≤ 10 := hs.2.2.2.2.2.1
  unfold z_reservedA
  cases hx : z_idx x (z_size (z_cur S)) with
  | none =>
    refine w_start (by decide) (Nat.le_of_ble_eq_true rfl) (fun X => ?_)
    refine wa_locals [(0, _), (1, _), (2, _)] [0, 1, 2] rfl ?_
    refine wa_aload_n 0 dX3_reserved_0 rfl rfl ?_
    refine wa_aload_n 0 dX3_reserved_1 rfl rfl ?_
    refine wa_iload_n 1 dX3_reserved_2 rfl rfl ?_
    refine wc_isI (wr_V dX3_reserved_3 mX3_86 (sp_misCellZ H hr hs hx) hm rfl rfl rfl (Nat.le_of_ble_eq_true rfl)) ?_
    refine wa_if_ne 13 dX3_reserved_6 rfl (fun c6 => absurd (by decide) c6) (fun c6 => ?_)
    refine wa_iconst (1) dX3_reserved_9 (by decide) ?_
    refine wa_goto 22 dX3_reserved_10 rfl ?_
    refine wa_putf [_, _, _, _, _, _, _, _, _, _, _, _, _, _, _, _, _, _, _, _] dX3_reserved_22 pX3_49 hm (Nat.le_of_ble_eq_true rfl) rfl rfl rfl ?_
    refine wa_aload_n 0 dX3_reserved_25 rfl rfl ?_
    refine wa_getf dX3_reserved_26 gX3_49 (w_set_self hm) rfl ?_
    refine wa_if_le 36 dX3_reserved_29 rfl (fun c29 => absurd c29 (by decide)) (fun c29 => ?_)
    refine wa_iconst (0) dX3_reserved_32 (by decide) ?_
    refine wa_goto 42 dX3_reserved_33 rfl ?_
    refine wa_iret FieldType.int dX3_reserved_42 rfl rfl (Nat.le_of_ble_eq_true rfl) (Nat.le_of_ble_eq_true rfl) ?_
    exact ⟨_, rfl, (w_fr.rf.set z_mEm), (h.thr 1).md⟩
  | some k =>
    have hkl := z_idx_lt (by omega) hx
    have hxe := z_idx_eq (by omega) hx
    have h0 := h.thr 0
    have H0 := h0.mh
    dsimp only
    by_cases hw : 0 ≤ w
    ·
      rw [if_pos hw]
      obtain ⟨tn, htn, hte⟩ := nI_of (Int32.not_lt.mpr hw)
      rw [hte, nI_clamp htn]
      rw [hte] at hw
      refine w_start (by decide) (Nat.le_of_ble_eq_true rfl) (fun X => ?_)
      refine wa_locals [(0, _), (1, _), (2, _)] [0, 1, 2] rfl ?_
      refine wa_aload_n 0 dX3_reserved_0 rfl rfl ?_
      refine wa_aload_n 0 dX3_reserved_1 rfl rfl ?_
      refine wa_iload_n 1 dX3_reserved_2 rfl rfl ?_
      refine wc_isI (wr_V dX3_reserved_3 mX3_86 (sp_misCellY H hr hs hx) hm rfl rfl rfl (Nat.le_of_ble_eq_true rfl)) ?_
      refine wa_if_ne 13 dX3_reserved_6 rfl (fun c6 => ?_) (fun c6 => absurd c6 (by decide))
      refine wa_iload_n 2 dX3_reserved_13 rfl rfl ?_
      refine wa_if_ge 21 dX3_reserved_14 rfl (fun c14 => ?_) (fun c14 => absurd hw c14)
      refine wa_iconst (0) dX3_reserved_21 (by decide) ?_
      refine wa_putf [_, _, _, _, _, _, _, _, _, _, _, _, _, _, _, _, _, _, _, _] dX3_reserved_22 pX3_49 hm (Nat.le_of_ble_eq_true rfl) rfl rfl rfl ?_
      refine wa_aload_n 0 dX3_reserved_25 rfl rfl ?_
      refine wa_getf dX3_reserved_26 gX3_49 (w_set_self hm) rfl ?_
      refine wa_if_le 36 dX3_reserved_29 rfl (fun c29 => ?_) (fun c29 => absurd (by decide) c29)
      subst hxe
      refine wa_aload_n 0 dX3_reserved_36 rfl rfl ?_
      refine wa_iload_n 1 dX3_reserved_37 rfl rfl ?_
      refine wa_iload_n 2 dX3_reserved_38 rfl rfl ?_
      refine wc_isI (wr_V dX3_reserved_39 mX3_168 (sp_mrobotIn H0 hr hs (by omega) htn) h0.1 rfl rfl rfl (Nat.le_of_ble_eq_true rfl)) ?_
      refine wa_iret FieldType.int dX3_reserved_42 rfl rfl (Nat.le_of_ble_eq_true rfl) (Nat.le_of_ble_eq_true rfl) ?_
      exact ⟨_, rfl, (w_fr.rf.set z_mEm), rfl, h0.md⟩
    ·
      rw [if_neg hw]
      refine w_start (by decide) (Nat.le_of_ble_eq_true rfl) (fun X => ?_)
      refine wa_locals [(0, _), (1, _), (2, _)] [0, 1, 2] rfl ?_
      refine wa_aload_n 0 dX3_reserved_0 rfl rfl ?_
      refine wa_aload_n 0 dX3_reserved_1 rfl rfl ?_
      refine wa_iload_n 1 dX3_reserved_2 rfl rfl ?_
      refine wc_isI (wr_V dX3_reserved_3 mX3_86 (sp_misCellY H hr hs hx) hm rfl rfl rfl (Nat.le_of_ble_eq_true rfl)) ?_
      refine wa_if_ne 13 dX3_reserved_6 rfl (fun c6 => ?_) (fun c6 => absurd c6 (by decide))
      refine wa_iload_n 2 dX3_reserved_13 rfl rfl ?_
      refine wa_if_ge 21 dX3_reserved_14 rfl (fun c14 => absurd c14 hw) (fun c14 => ?_)
      refine wa_iconst (2) dX3_reserved_17 (by decide) ?_
      refine wa_goto 22 dX3_reserved_18 rfl ?_
      refine wa_putf [_, _, _, _, _, _, _, _, _, _, _, _, _, _, _, _, _, _, _, _] dX3_reserved_22 pX3_49 hm (Nat.le_of_ble_eq_true rfl) rfl rfl rfl ?_
      refine wa_aload_n 0 dX3_reserved_25 rfl rfl ?_
      refine wa_getf dX3_reserved_26 gX3_49 (w_set_self hm) rfl ?_
      refine wa_if_le 36 dX3_reserved_29 rfl (fun c29 => absurd c29 (by decide)) (fun c29 => ?_)
      refine wa_iconst (0) dX3_reserved_32 (by decide) ?_
      refine wa_goto 42 dX3_reserved_33 rfl ?_
      refine wa_iret FieldType.int dX3_reserved_42 rfl rfl (Nat.le_of_ble_eq_true rfl) (Nat.le_of_ble_eq_true rfl) ?_
      exact ⟨_, rfl, (w_fr.rf.set z_mEm), (h.thr 2).md⟩
theorem sp_mline (h : z_mod b M m S th) {x w : Int32} : w_S l G tX3_line (5, 0, 0) [.ref m, .int x, .int w] M (z_mA b M m S (z_lineA (z_cur S) x w)) := by
  obtain ⟨is, rr, rc, f, sv, pf, ip, h⟩ := h
  obtain ⟨hm, hf, -⟩ := id h
  have H := h.mh
  have hr := h.mr
  have hg := h.gd
  have hs := hg.1
  have hh := hg.2.2.2.2.2.2.2
  have hsz := hs.size
  have hR6 : (z_robs (z_cur S)).length ≤ 6 := hs.2.2.2.2.1
  have hO10 : (z_ords (z_cur S)).length ≤ 10 := hs.2.2.2.2.2.1
  unfold z_lineA
  cases hx : z_idx x (z_ords (z_cur S)).length with
  | none =>
    refine w_start (by decide) (Nat.le_of_ble_eq_true rfl) (fun X => ?_)
    refine wa_locals [(0, _), (1, _), (2, _)] [0, 1, 2] rfl ?_
    refine wa_aload_n 0 dX3_line_0 rfl rfl ?_
    refine wa_aload_n 0 dX3_line_1 rfl rfl ?_
    refine wa_iload_n 1 dX3_line_2 rfl rfl ?_
    refine wc_isI (wr_V dX3_line_3 mX3_112 (sp_misOrderZ H hr hs hx) hm rfl rfl rfl (Nat.le_of_ble_eq_true rfl)) ?_
    refine wa_if_eq 29 dX3_line_6 rfl (fun c6 => ?_) (fun c6 => absurd (by decide) c6)
    refine wa_iconst (1) dX3_line_29 (by decide) ?_
    refine wa_putf [_, _, _, _, _, _, _, _, _, _, _, _, _, _, _, _, _, _, _, _] dX3_line_30 pX3_49 hm (Nat.le_of_ble_eq_true rfl) rfl rfl rfl ?_
    refine wa_aload_n 0 dX3_line_33 rfl rfl ?_
    refine wa_getf dX3_line_34 gX3_49 (w_set_self hm) rfl ?_
    refine wa_if_le 44 dX3_line_37 rfl (fun c37 => absurd c37 (by decide)) (fun c37 => ?_)
    refine wa_iconst (0) dX3_line_40 (by decide) ?_
    refine wa_goto 52 dX3_line_41 rfl ?_
    refine wa_iret FieldType.int dX3_line_52 rfl rfl (Nat.le_of_ble_eq_true rfl) (Nat.le_of_ble_eq_true rfl) ?_
    exact ⟨_, rfl, (w_fr.rf.set z_mEm), (h.thr 1).md⟩
  | some k =>
    obtain ⟨o, hk⟩ : ∃ o, (z_ords (z_cur S))[k]? = some o := ⟨_, List.getElem?_eq_getElem (z_idx_lt (by omega) hx)⟩
    have hkl := (List.getElem?_eq_some_iff.mp hk).1
    have hk10 : k < 10 := by omega
    obtain ⟨q1, q2, q3, q4, q5, q6⟩ := hr.ord hk
    have hxe := z_idx_eq (by omega) hx
    simp only [hk]
    have hlen := (hs.2.2.2.2.2.2.2 o (List.mem_of_getElem? hk)).2.1
    rw [hxe]
    rw [hxe] at hx
    cases hw : z_idx w (z_lines o).length with
    | none =>
      have hwn := (z_idx_none (n := (z_lines o).length) (by omega)).mp hw
      refine w_start (by decide) (Nat.le_of_ble_eq_true rfl) (fun X => ?_)
      refine wa_locals [(0, _), (1, _), (2, _)] [0, 1, 2] rfl ?_
      refine wa_aload_n 0 dX3_line_0 rfl rfl ?_
      refine wa_aload_n 0 dX3_line_1 rfl rfl ?_
      refine wa_iload_n 1 dX3_line_2 rfl rfl ?_
      refine wc_isI (wr_V dX3_line_3 mX3_112 (sp_misOrderY H hr hs hx) hm rfl rfl rfl (Nat.le_of_ble_eq_true rfl)) ?_
      refine wa_if_eq 29 dX3_line_6 rfl (fun c6 => absurd c6 (by decide)) (fun c6 => ?_)
      refine wa_iload_n 2 dX3_line_9 rfl rfl ?_
      refine wa_iconst (0) dX3_line_10 (by decide) ?_
      refine wa_aload_n 0 dX3_line_11 rfl rfl ?_
      refine wa_iload_n 1 dX3_line_12 rfl rfl ?_
      refine wa_iconst (1) dX3_line_13 (by decide) ?_
      refine wc_isI (wr_V dX3_line_14 mX3_109 (sp_mget H hk10 (w := 1) (by decide)) hm rfl rfl rfl (Nat.le_of_ble_eq_true rfl)) ?_
      rw [q2]
      refine wa_iconst (1) dX3_line_17 (by decide) ?_
      refine wa_isub dX3_line_18 ?_
      refine wc_isI (wr_S dX3_line_19 mX3_71 (sp_mminZ hwn) rfl rfl rfl (Nat.le_of_ble_eq_true rfl)) ?_
      refine wa_if_eq 29 dX3_line_22 rfl (fun c22 => ?_) (fun c22 => absurd (by decide) c22)
      refine wa_iconst (1) dX3_line_29 (by decide) ?_
      refine wa_putf [_, _, _, _, _, _, _, _, _, _, _, _, _, _, _, _, _, _, _, _] dX3_line_30 pX3_49 hm (Nat.le_of_ble_eq_true rfl) rfl rfl rfl ?_
      refine wa_aload_n 0 dX3_line_33 rfl rfl ?_
      refine wa_getf dX3_line_34 gX3_49 (w_set_self hm) rfl ?_
      refine wa_if_le 44 dX3_line_37 rfl (fun c37 => absurd c37 (by decide)) (fun c37 => ?_)
      refine wa_iconst (0) dX3_line_40 (by decide) ?_
      refine wa_goto 52 dX3_line_41 rfl ?_
      refine wa_iret FieldType.int dX3_line_52 rfl rfl (Nat.le_of_ble_eq_true rfl) (Nat.le_of_ble_eq_true rfl) ?_
      exact ⟨_, rfl, (w_fr.rf.set z_mEm), (h.thr 1).md⟩
    | some j =>
      obtain ⟨hj, hwe⟩ := (z_idx_some (n := (z_lines o).length) (by omega)).mp hw
      subst hwe
      have hwy : 0 ≤ nI j ∧ nI j ≤ nI (z_lines o).length - 1 := Classical.byContradiction fun z => by rw [(z_idx_none (by omega)).mpr z] at hw; cases hw
      obtain ⟨q, hq⟩ : ∃ q, (z_lines o)[j]? = some q := ⟨_, List.getElem?_eq_getElem hj⟩
      simp only [hq]
      have h0 := h.thr 0
      have H0 := h0.mh
      refine w_start (by decide) (Nat.le_of_ble_eq_true rfl) (fun X => ?_)
      refine wa_locals [(0, _), (1, _), (2, _)] [0, 1, 2] rfl ?_
      refine wa_aload_n 0 dX3_line_0 rfl rfl ?_
      refine wa_aload_n 0 dX3_line_1 rfl rfl ?_
      refine wa_iload_n 1 dX3_line_2 rfl rfl ?_
      refine wc_isI (wr_V dX3_line_3 mX3_112 (sp_misOrderY H hr hs hx) hm rfl rfl rfl (Nat.le_of_ble_eq_true rfl)) ?_
      refine wa_if_eq 29 dX3_line_6 rfl (fun c6 => absurd c6 (by decide)) (fun c6 => ?_)
      refine wa_iload_n 2 dX3_line_9 rfl rfl ?_
      refine wa_iconst (0) dX3_line_10 (by decide) ?_
      refine wa_aload_n 0 dX3_line_11 rfl rfl ?_
      refine wa_iload_n 1 dX3_line_12 rfl rfl ?_
      refine wa_iconst (1) dX3_line_13 (by decide) ?_
      refine wc_isI (wr_V dX3_line_14 mX3_109 (sp_mget H hk10 (w := 1) (by decide)) hm rfl rfl rfl (Nat.le_of_ble_eq_true rfl)) ?_
      rw [q2]
      refine wa_iconst (1) dX3_line_17 (by decide) ?_
      refine wa_isub dX3_line_18 ?_
      refine wc_isI (wr_S dX3_line_19 mX3_71 (sp_mminY hwy) rfl rfl rfl (Nat.le_of_ble_eq_true rfl)) ?_
      refine wa_if_eq 29 dX3_line_22 rfl (fun c22 => absurd c22 (by decide)) (fun c22 => ?_)
      refine wa_iconst (0) dX3_line_25 (by decide) ?_
      refine wa_goto 30 dX3_line_26 rfl ?_
      refine wa_putf [_, _, _, _, _, _, _, _, _, _, _, _, _, _, _, _, _, _, _, _] dX3_line_30 pX3_49 hm (Nat.le_of_ble_eq_true rfl) rfl rfl rfl ?_
      refine wa_aload_n 0 dX3_line_33 rfl rfl ?_
      refine wa_getf dX3_line_34 gX3_49 (w_set_self hm) rfl ?_
      refine wa_if_le 44 dX3_line_37 rfl (fun c37 => ?_) (fun c37 => absurd (by decide) c37)
      refine wa_aload_n 0 dX3_line_44 rfl rfl ?_
      refine wa_iload_n 1 dX3_line_45 rfl rfl ?_
      refine wa_iconst (5) dX3_line_46 (by decide) ?_
      refine wa_iload_n 2 dX3_line_47 rfl rfl ?_
      refine wa_iadd dX3_line_48 ?_
      rw [show (5 : Int32) + nI j = nI (5 + j) from nI_add 5 j]
      refine wc_isI (wr_V dX3_line_49 mX3_109 (sp_mget H0 hk10 (w := 5 + j) (by omega)) h0.1 rfl rfl rfl (Nat.le_of_ble_eq_true rfl)) ?_
      refine wa_iret FieldType.int dX3_line_52 rfl rfl (Nat.le_of_ble_eq_true rfl) (Nat.le_of_ble_eq_true rfl) ?_
      exact ⟨_, rfl, (w_fr.rf.set z_mEm), (by rw [← Nat.add_assoc]; exact q6 j q hq), h0.md⟩
end MQ
