/-! ===== the Model: its row of numbers against the core; what is asked of the row ===== -/
set_option maxRecDepth 100000
/-- a robot at the place a of the row -/
def z_mrR (f : Nat → Int32) (a : Nat) (r : z_R) : Prop := f a = nI (z_cell r) ∧ f (a + 1) = z_batt r ∧ f (a + 2) = z_enc (z_has r) ∧ f (a + 3) = nI (z_plan r).length ∧ (z_plan r ≠ [] → f (a + 4) = z_cost r) ∧ f (a + 5) = z_steps r ∧ ∀ j q : Nat, (z_plan r)[j]? = some q → f (a + 6 + j) = nI q
/-- an order at the place a of the row; w: which robot has it -/
def z_mrO (f : Nat → Int32) (a : Nat) (w : Option Nat) (o : z_O) : Prop := f a = z_due o ∧ f (a + 1) = nI (z_lines o).length ∧ f (a + 2) = nI (z_picked o) ∧ f (a + 3) = z_enc w ∧ f (a + 4) = z_del o ∧ ∀ j q : Nat, (z_lines o)[j]? = some q → f (a + 5 + j) = nI q
def z_mr (c : z_C) (f : Nat → Int32) : Prop := (f 0 = nI (z_rows c) ∧ f 1 = nI (z_cols c) ∧ f 2 = z_now c ∧ f 3 = nI (z_robs c).length ∧ f 4 = nI (z_ords c).length) ∧
  (∀ k, k < 3 → f (5 + k) = z_sets c k) ∧ (∀ k, k < z_size c → f (8 + k) = z_kinds c k) ∧ (∀ k, k < z_size c → f (56 + k) = if z_bit (z_closed c) k = true then 1 else 0) ∧
  (∀ (i : Nat) (r : z_R), (z_robs c)[i]? = some r → z_mrR f (104 + 36 * i) r) ∧ ∀ (i : Nat) (o : z_O), (z_ords c)[i]? = some o → z_mrO f (320 + 8 * i) (z_with c i) o
/-- the Model's object at m, its row right behind it -/
def z_mh (M : w_M) (m : Nat) (f : Nat → Int32) : Prop := ∃ fs, M.get m = some (.inr (2, Value.ref (m + 1) :: fs)) ∧ M.get (m + 1) = some (.inl (.int, 400, .inl f))
section MR
variable {c : z_C} {f : Nat → Int32}
theorem z_mr.rows (h : z_mr c f) : f (Int32.toNatClampNeg 0) = nI (z_rows c) := h.1.1
theorem z_mr.cols (h : z_mr c f) : f (Int32.toNatClampNeg 1) = nI (z_cols c) := h.1.2.1
theorem z_mr.now (h : z_mr c f) : f (Int32.toNatClampNeg 2) = z_now c := h.1.2.2.1
theorem z_mr.rn (h : z_mr c f) : f (Int32.toNatClampNeg 3) = nI (z_robs c).length := h.1.2.2.2.1
theorem z_mr.on (h : z_mr c f) : f (Int32.toNatClampNeg 4) = nI (z_ords c).length := h.1.2.2.2.2
theorem z_mr.kind (h : z_mr c f) {k : Nat} (hk : k < z_size c) : f (8 + k) = z_kinds c k := h.2.2.1 k hk
theorem z_mr.shut (h : z_mr c f) {k : Nat} (hk : k < z_size c) : f (56 + k) = if z_bit (z_closed c) k = true then 1 else 0 := h.2.2.2.1 k hk
theorem z_mr.rob (h : z_mr c f) {i : Nat} {r : z_R} (hr : (z_robs c)[i]? = some r) : z_mrR f (104 + 36 * i) r := h.2.2.2.2.1 i r hr
theorem z_mr.ord (h : z_mr c f) {i : Nat} {o : z_O} (hr : (z_ords c)[i]? = some o) : z_mrO f (320 + 8 * i) (z_with c i) o := h.2.2.2.2.2 i o hr
end MR
/-- the cell above (0), right (1), below (2), left (3), the cell itself (4) -/
def z_bes (c : z_C) (p w : Nat) : Option Nat := if w = 4 then some p else z_beside (z_rows c) (z_cols c) p w
/-- whether a robot is in a cell at one of n ticks from t on -/
def z_ev (r : z_R) (cl : Nat) : Nat → Nat → Bool
  | 0, _ => false
  | n + 1, t => decide (z_ahead r t = cl) || z_ev r cl n (t + 1)
def z_wFrom (cl t : Nat) (but : Int32) : Nat → List z_R → Option Nat
  | _, [] => none
  | k, r :: rs => if z_ev r cl (32 - t) t = true ∧ nI k ≠ but then some k else z_wFrom cl t but (k + 1) rs
def z_wil (c : z_C) (cl t : Nat) (but : Int32) : Option Nat := z_wFrom cl t but 0 (z_robs c)
/-- whether none of the first n robots, but k, hinders from going from p to q behind the tick t -/
def z_clear (c : z_C) (k p q t : Nat) : Nat → Bool
  | 0 => true
  | n + 1 => z_clear c k p q t n && (decide (n = k) || match (z_robs c)[n]? with
    | none => true
    | some r => !decide (z_ahead r (t + 1) = q) && !(decide (z_ahead r (t + 1) = p) && decide (z_ahead r t = q)))
def z_mgo (c : z_C) (k p q t : Nat) : Bool := z_free c q && z_clear c k p q t (z_robs c).length
def z_shutN (c : z_C) : Nat → Nat
  | 0 => 0
  | n + 1 => z_shutN c n + if z_bit (z_closed c) n = true then 1 else 0
section MH
variable {l : Launch} {G : w_G} {M : w_M} {m : Nat} {c : z_C} {f : Nat → Int32}
theorem z_if1 {b : Prop} [Decidable b] : ((if b then (1 : Int32) else 0) = 0) ↔ ¬ b := by by_cases h : b <;> simp [h]
theorem sp_min {v lo hi : Int32} : w_S l G tX3_in (1, 0, 0) [.int v, .int lo, .int hi] M (w_is (.inl (some (.int (if lo ≤ v ∧ v ≤ hi then 1 else 0)))) M) := by
  refine w_start (by decide) (Nat.le_of_ble_eq_true rfl) (fun X => ?_)
  refine wa_locals [(0, _), (1, _), (2, _)] [0, 1, 2] rfl ?_
  refine wa_iload_n 0 dX3_in_0 rfl rfl ?_
  refine wa_iload_n 1 dX3_in_1 rfl rfl ?_
  refine wa_icmp_lt 14 dX3_in_2 rfl (fun c2 => ?_) (fun c2 => ?_)
  ·
    refine wa_iconst (0) dX3_in_14 (by decide) ?_
    refine wa_iret FieldType.boolean dX3_in_15 rfl rfl (Nat.le_of_ble_eq_true rfl) (Nat.le_of_ble_eq_true rfl) ?_
    exact ⟨by rw [if_neg (fun q => Int32.not_le.mpr c2 q.1)], rfl⟩
  ·
    refine wa_iload_n 0 dX3_in_5 rfl rfl ?_
    refine wa_iload_n 2 dX3_in_6 rfl rfl ?_
    refine wa_icmp_gt 14 dX3_in_7 rfl (fun c7 => ?_) (fun c7 => ?_)
    ·
      refine wa_iconst (0) dX3_in_14 (by decide) ?_
      refine wa_iret FieldType.boolean dX3_in_15 rfl rfl (Nat.le_of_ble_eq_true rfl) (Nat.le_of_ble_eq_true rfl) ?_
      exact ⟨by rw [if_neg (fun q => Int32.not_le.mpr c7 q.2)], rfl⟩
    ·
      refine wa_iconst (1) dX3_in_10 (by decide) ?_
      refine wa_goto 15 dX3_in_11 rfl ?_
      refine wa_iret FieldType.boolean dX3_in_15 rfl rfl (Nat.le_of_ble_eq_true rfl) (Nat.le_of_ble_eq_true rfl) ?_
      exact ⟨by rw [if_pos ⟨Int32.not_lt.mp c2, Int32.not_lt.mp c7⟩], rfl⟩
theorem sp_mminY {v lo hi : Int32} (h : lo ≤ v ∧ v ≤ hi) : w_S l G tX3_in (1, 0, 0) [.int v, .int lo, .int hi] M (w_is (.inl (some (.int 1))) M) := by
  have := sp_min (l := l) (G := G) (M := M) (v := v) (lo := lo) (hi := hi)
  rwa [if_pos h] at this
theorem sp_mminZ {v lo hi : Int32} (h : ¬ (lo ≤ v ∧ v ≤ hi)) : w_S l G tX3_in (1, 0, 0) [.int v, .int lo, .int hi] M (w_is (.inl (some (.int 0))) M) := by
  have := sp_min (l := l) (G := G) (M := M) (v := v) (lo := lo) (hi := hi)
  rwa [if_neg h] at this
theorem sp_mcells (H : z_mh M m f) (hr : z_mr c f) : w_S l G tX3_cells (1, 0, 0) [.ref m] M (w_is (.inl (some (.int (nI (z_size c))))) M) := by
  obtain ⟨fs, hm, hf⟩ := H
  refine w_start (by decide) (Nat.le_of_ble_eq_true rfl) (fun X => ?_)
  refine wa_locals [(0, _)] [0] rfl ?_
  refine wa_aload_n 0 dX3_cells_0 rfl rfl ?_
  refine wa_getf dX3_cells_1 gX3_9 hm rfl ?_
  refine wa_iconst (0) dX3_cells_4 (by decide) ?_
  refine wa_iald dX3_cells_5 hf (vp_in_nI (n := 0) (by omega) (by omega)) ?_
  rw [hr.rows]
  refine wa_aload_n 0 dX3_cells_6 rfl rfl ?_
  refine wa_getf dX3_cells_7 gX3_9 hm rfl ?_
  refine wa_iconst (1) dX3_cells_10 (by decide) ?_
  refine wa_iald dX3_cells_11 hf (vp_in_nI (n := 1) (by omega) (by omega)) ?_
  rw [hr.cols]
  refine wa_imul dX3_cells_12 ?_
  refine wa_iret FieldType.int dX3_cells_13 rfl rfl (Nat.le_of_ble_eq_true rfl) (Nat.le_of_ble_eq_true rfl) ?_
  exact ⟨by rw [pk_mul]; rfl, rfl⟩
theorem sp_misCell (H : z_mh M m f) (hr : z_mr c f) (hs : z_small c) {x : Int32} : w_S l G tX3_isCell (2, 0, 0) [.ref m, .int x] M (w_is (.inl (some (.int (if (z_idx x (z_size c)).isSome then 1 else 0)))) M) := by
  have hsz := hs.size
  have hR6 : (z_robs c).length ≤ 6 := hs.2.2.2.2.1
  have hO10 : (z_ords c).length ≤ 10 := hs.2.2.2.2.2.1
  have e : (if 0 ≤ x ∧ x ≤ nI (z_size c) - 1 then (1 : Int32) else 0) = if (z_idx x (z_size c)).isSome then 1 else 0 := by
    have := z_idx_none (x := x) (n := (z_size c)) (by omega)
    cases hx : z_idx x (z_size c) with
    | none => rw [if_neg (this.mp hx)]; rfl
    | some j => rw [if_pos (Classical.byContradiction fun q => by have := this.mpr q; rw [hx] at this; cases this)]; rfl
  have hm := H.choose_spec.1
  refine w_start (by decide) (Nat.le_of_ble_eq_true rfl) (fun X => ?_)
  refine wa_locals [(0, _), (1, _)] [0, 1] rfl ?_
  refine wa_iload_n 1 dX3_isCell_0 rfl rfl ?_
  refine wa_iconst (0) dX3_isCell_1 (by decide) ?_
  refine wa_aload_n 0 dX3_isCell_2 rfl rfl ?_
  refine wc_isI (wr_V dX3_isCell_3 mX3_67 (sp_mcells H hr) hm rfl rfl rfl (Nat.le_of_ble_eq_true rfl)) ?_
  refine wa_iconst (1) dX3_isCell_6 (by decide) ?_
  refine wa_isub dX3_isCell_7 ?_
  refine wc_isI (wr_S dX3_isCell_8 mX3_71 sp_min rfl rfl rfl (Nat.le_of_ble_eq_true rfl)) ?_
  rw [e]
  refine wa_iret FieldType.boolean dX3_isCell_11 rfl (by split <;> rfl) (Nat.le_of_ble_eq_true rfl) (Nat.le_of_ble_eq_true rfl) ?_
  exact ⟨rfl, rfl⟩
theorem sp_misRobot (H : z_mh M m f) (hr : z_mr c f) (hs : z_small c) {x : Int32} : w_S l G tX3_isRobot (2, 0, 0) [.ref m, .int x] M (w_is (.inl (some (.int (if (z_idx x (z_robs c).length).isSome then 1 else 0)))) M) := by
  have hsz := hs.size
  have hR6 : (z_robs c).length ≤ 6 := hs.2.2.2.2.1
  have hO10 : (z_ords c).length ≤ 10 := hs.2.2.2.2.2.1
  have e : (if 0 ≤ x ∧ x ≤ nI (z_robs c).length - 1 then (1 : Int32) else 0) = if (z_idx x (z_robs c).length).isSome then 1 else 0 := by
    have := z_idx_none (x := x) (n := (z_robs c).length) (by omega)
    cases hx : z_idx x (z_robs c).length with
    | none => rw [if_neg (this.mp hx)]; rfl
    | some j => rw [if_pos (Classical.byContradiction fun q => by have := this.mpr q; rw [hx] at this; cases this)]; rfl
  obtain ⟨fs, hm, hf⟩ := H
  refine w_start (by decide) (Nat.le_of_ble_eq_true rfl) (fun X => ?_)
  refine wa_locals [(0, _), (1, _)] [0, 1] rfl ?_
  refine wa_iload_n 1 dX3_isRobot_0 rfl rfl ?_
  refine wa_iconst (0) dX3_isRobot_1 (by decide) ?_
  refine wa_aload_n 0 dX3_isRobot_2 rfl rfl ?_
  refine wa_getf dX3_isRobot_3 gX3_9 hm rfl ?_
  refine wa_iconst (3) dX3_isRobot_6 (by decide) ?_
  refine wa_iald dX3_isRobot_7 hf (vp_in_nI (n := 3) (by omega) (by omega)) ?_
  rw [hr.rn]
  refine wa_iconst (1) dX3_isRobot_8 (by decide) ?_
  refine wa_isub dX3_isRobot_9 ?_
  refine wc_isI (wr_S dX3_isRobot_10 mX3_71 sp_min rfl rfl rfl (Nat.le_of_ble_eq_true rfl)) ?_
  rw [e]
  refine wa_iret FieldType.boolean dX3_isRobot_13 rfl (by split <;> rfl) (Nat.le_of_ble_eq_true rfl) (Nat.le_of_ble_eq_true rfl) ?_
  exact ⟨rfl, rfl⟩
theorem sp_misOrder (H : z_mh M m f) (hr : z_mr c f) (hs : z_small c) {x : Int32} : w_S l G tX3_isOrder (2, 0, 0) [.ref m, .int x] M (w_is (.inl (some (.int (if (z_idx x (z_ords c).length).isSome then 1 else 0)))) M) := by
  have hsz := hs.size
  have hR6 : (z_robs c).length ≤ 6 := hs.2.2.2.2.1
  have hO10 : (z_ords c).length ≤ 10 := hs.2.2.2.2.2.1
  have e : (if 0 ≤ x ∧ x ≤ nI (z_ords c).length - 1 then (1 : Int32) else 0) = if (z_idx x (z_ords c).length).isSome then 1 else 0 := by
    have := z_idx_none (x := x) (n := (z_ords c).length) (by omega)
    cases hx : z_idx x (z_ords c).length with
    | none => rw [if_neg (this.mp hx)]; rfl
    | some j => rw [if_pos (Classical.byContradiction fun q => by have := this.mpr q; rw [hx] at this; cases this)]; rfl
  obtain ⟨fs, hm, hf⟩ := H
  refine w_start (by decide) (Nat.le_of_ble_eq_true rfl) (fun X => ?_)
  refine wa_locals [(0, _), (1, _)] [0, 1] rfl ?_
  refine wa_iload_n 1 dX3_isOrder_0 rfl rfl ?_
  refine wa_iconst (0) dX3_isOrder_1 (by decide) ?_
  refine wa_aload_n 0 dX3_isOrder_2 rfl rfl ?_
  refine wa_getf dX3_isOrder_3 gX3_9 hm rfl ?_
  refine wa_iconst (4) dX3_isOrder_6 (by decide) ?_
  refine wa_iald dX3_isOrder_7 hf (vp_in_nI (n := 4) (by omega) (by omega)) ?_
  rw [hr.on]
  refine wa_iconst (1) dX3_isOrder_8 (by decide) ?_
  refine wa_isub dX3_isOrder_9 ?_
  refine wc_isI (wr_S dX3_isOrder_10 mX3_71 sp_min rfl rfl rfl (Nat.le_of_ble_eq_true rfl)) ?_
  rw [e]
  refine wa_iret FieldType.boolean dX3_isOrder_13 rfl (by split <;> rfl) (Nat.le_of_ble_eq_true rfl) (Nat.le_of_ble_eq_true rfl) ?_
  exact ⟨rfl, rfl⟩
theorem sp_misCellY (H : z_mh M m f) (hr : z_mr c f) (hs : z_small c) {x : Int32} {j : Nat} (h : z_idx x (z_size c) = some j) : w_S l G tX3_isCell (2, 0, 0) [.ref m, .int x] M (w_is (.inl (some (.int 1))) M) := by
  have := sp_misCell (l := l) (G := G) H hr hs (x := x)
  rwa [h] at this
theorem sp_misCellZ (H : z_mh M m f) (hr : z_mr c f) (hs : z_small c) {x : Int32} (h : z_idx x (z_size c) = none) : w_S l G tX3_isCell (2, 0, 0) [.ref m, .int x] M (w_is (.inl (some (.int 0))) M) := by
  have := sp_misCell (l := l) (G := G) H hr hs (x := x)
  rwa [h] at this
theorem sp_misRobotY (H : z_mh M m f) (hr : z_mr c f) (hs : z_small c) {x : Int32} {j : Nat} (h : z_idx x (z_robs c).length = some j) : w_S l G tX3_isRobot (2, 0, 0) [.ref m, .int x] M (w_is (.inl (some (.int 1))) M) := by
  have := sp_misRobot (l := l) (G := G) H hr hs (x := x)
  rwa [h] at this
theorem sp_misRobotZ (H : z_mh M m f) (hr : z_mr c f) (hs : z_small c) {x : Int32} (h : z_idx x (z_robs c).length = none) : w_S l G tX3_isRobot (2, 0, 0) [.ref m, .int x] M (w_is (.inl (some (.int 0))) M) := by
  have := sp_misRobot (l := l) (G := G) H hr hs (x := x)
  rwa [h] at this
theorem sp_misOrderY (H : z_mh M m f) (hr : z_mr c f) (hs : z_small c) {x : Int32} {j : Nat} (h : z_idx x (z_ords c).length = some j) : w_S l G tX3_isOrder (2, 0, 0) [.ref m, .int x] M (w_is (.inl (some (.int 1))) M) := by
  have := sp_misOrder (l := l) (G := G) H hr hs (x := x)
  rwa [h] at this
theorem sp_misOrderZ (H : z_mh M m f) (hr : z_mr c f) (hs : z_small c) {x : Int32} (h : z_idx x (z_ords c).length = none) : w_S l G tX3_isOrder (2, 0, 0) [.ref m, .int x] M (w_is (.inl (some (.int 0))) M) := by
  have := sp_misOrder (l := l) (G := G) H hr hs (x := x)
  rwa [h] at this
theorem sp_mat {k : Nat} : w_S l G tX3_at (1, 0, 0) [.int (nI k)] M (w_is (.inl (some (.int (nI (104 + 36 * k))))) M) := by
  refine w_start (by decide) (Nat.le_of_ble_eq_true rfl) (fun X => ?_)
  refine wa_locals [(0, _)] [0] rfl ?_
  refine wa_bipush (104) dX3_at_0 (by decide) ?_
  refine wa_bipush (36) dX3_at_2 (by decide) ?_
  refine wa_iload_n 0 dX3_at_4 rfl rfl ?_
  refine wa_imul dX3_at_5 ?_
  refine wa_iadd dX3_at_6 ?_
  refine wa_iret FieldType.int dX3_at_7 rfl rfl (Nat.le_of_ble_eq_true rfl) (Nat.le_of_ble_eq_true rfl) ?_
  exact ⟨by rw [show (36 : Int32) * nI k = nI (36 * k) from pk_mul 36 k, show (104 : Int32) + nI (36 * k) = nI (104 + 36 * k) from nI_add 104 _], rfl⟩
theorem sp_mord {k : Nat} : w_S l G tX3_order (1, 0, 0) [.int (nI k)] M (w_is (.inl (some (.int (nI (320 + 8 * k))))) M) := by
  refine w_start (by decide) (Nat.le_of_ble_eq_true rfl) (fun X => ?_)
  refine wa_locals [(0, _)] [0] rfl ?_
  refine wa_sipush (320) dX3_order_0 (by decide) ?_
  refine wa_bipush (8) dX3_order_3 (by decide) ?_
  refine wa_iload_n 0 dX3_order_5 rfl rfl ?_
  refine wa_imul dX3_order_6 ?_
  refine wa_iadd dX3_order_7 ?_
  refine wa_iret FieldType.int dX3_order_8 rfl rfl (Nat.le_of_ble_eq_true rfl) (Nat.le_of_ble_eq_true rfl) ?_
  exact ⟨by rw [show (8 : Int32) * nI k = nI (8 * k) from pk_mul 8 k, show (320 : Int32) + nI (8 * k) = nI (320 + 8 * k) from nI_add 320 _], rfl⟩
theorem sp_mof (H : z_mh M m f) {k w : Nat} (hk : k < 6) (hw : w < 36) : w_S l G tX3_of (2, 0, 0) [.ref m, .int (nI k), .int (nI w)] M (w_is (.inl (some (.int (f (104 + 36 * k + w))))) M) := by
  obtain ⟨fs, hm, hf⟩ := H
  refine w_start (by decide) (Nat.le_of_ble_eq_true rfl) (fun X => ?_)
  refine wa_locals [(0, _), (1, _), (2, _)] [0, 1, 2] rfl ?_
  refine wa_aload_n 0 dX3_of_0 rfl rfl ?_
  refine wa_getf dX3_of_1 gX3_9 hm rfl ?_
  refine wa_iload_n 1 dX3_of_4 rfl rfl ?_
  refine wc_isI (wr_S dX3_of_5 mX3_75 sp_mat rfl rfl rfl (Nat.le_of_ble_eq_true rfl)) ?_
  refine wa_iload_n 2 dX3_of_8 rfl rfl ?_
  refine wa_iadd dX3_of_9 ?_
  rw [nI_add]
  refine wa_iald dX3_of_10 hf (vp_in_nI (by omega) (by omega)) ?_
  rw [nI_clamp (by omega)]
  refine wa_iret FieldType.int dX3_of_11 rfl rfl (Nat.le_of_ble_eq_true rfl) (Nat.le_of_ble_eq_true rfl) ?_
  exact ⟨rfl, rfl⟩
theorem sp_mget (H : z_mh M m f) {k w : Nat} (hk : k < 10) (hw : w < 8) : w_S l G tX3_get (2, 0, 0) [.ref m, .int (nI k), .int (nI w)] M (w_is (.inl (some (.int (f (320 + 8 * k + w))))) M) := by
  obtain ⟨fs, hm, hf⟩ := H
  refine w_start (by decide) (Nat.le_of_ble_eq_true rfl) (fun X => ?_)
  refine wa_locals [(0, _), (1, _), (2, _)] [0, 1, 2] rfl ?_
  refine wa_aload_n 0 dX3_get_0 rfl rfl ?_
  refine wa_getf dX3_get_1 gX3_9 hm rfl ?_
  refine wa_iload_n 1 dX3_get_4 rfl rfl ?_
  refine wc_isI (wr_S dX3_get_5 mX3_106 sp_mord rfl rfl rfl (Nat.le_of_ble_eq_true rfl)) ?_
  refine wa_iload_n 2 dX3_get_8 rfl rfl ?_
  refine wa_iadd dX3_get_9 ?_
  rw [nI_add]
  refine wa_iald dX3_get_10 hf (vp_in_nI (by omega) (by omega)) ?_
  rw [nI_clamp (by omega)]
  refine wa_iret FieldType.int dX3_get_11 rfl rfl (Nat.le_of_ble_eq_true rfl) (Nat.le_of_ble_eq_true rfl) ?_
  exact ⟨rfl, rfl⟩
theorem sp_mcanEnter (H : z_mh M m f) (hr : z_mr c f) (hs : z_small c) {k : Nat} (hk : k < z_size c) : w_S l G tX3_canEnter (2, 0, 0) [.ref m, .int (nI k)] M (w_is (.inl (some (.int (if z_free c k then 1 else 0)))) M) := by
  have hsz := hs.size
  have hR6 : (z_robs c).length ≤ 6 := hs.2.2.2.2.1
  have hO10 : (z_ords c).length ≤ 10 := hs.2.2.2.2.2.1
  obtain ⟨fs, hm, hf⟩ := H
  refine w_start (by decide) (Nat.le_of_ble_eq_true rfl) (fun X => ?_)
  refine wa_locals [(0, _), (1, _)] [0, 1] rfl ?_
  refine wa_aload_n 0 dX3_canEnter_0 rfl rfl ?_
  refine wa_getf dX3_canEnter_1 gX3_9 hm rfl ?_
  refine wa_bipush (8) dX3_canEnter_4 (by decide) ?_
  refine wa_iload_n 1 dX3_canEnter_6 rfl rfl ?_
  refine wa_iadd dX3_canEnter_7 ?_
  rw [show (8 : Int32) + nI k = nI (8 + k) from nI_add 8 k]
  refine wa_iald dX3_canEnter_8 hf (vp_in_nI (by omega) (by omega)) ?_
  rw [nI_clamp (by omega), hr.kind hk]
  refine wa_iconst (1) dX3_canEnter_9 (by decide) ?_
  refine wa_icmp_eq 29 dX3_canEnter_10 rfl (fun c10 => ?_) (fun c10 => ?_)
  ·
    refine wa_iconst (0) dX3_canEnter_29 (by decide) ?_
    refine wa_iret FieldType.boolean dX3_canEnter_30 rfl rfl (Nat.le_of_ble_eq_true rfl) (Nat.le_of_ble_eq_true rfl) ?_
    refine ⟨?_, rfl⟩
    unfold z_free
    simp [c10]
  ·
    refine wa_aload_n 0 dX3_canEnter_13 rfl rfl ?_
    refine wa_getf dX3_canEnter_14 gX3_9 hm rfl ?_
    refine wa_bipush (56) dX3_canEnter_17 (by decide) ?_
    refine wa_iload_n 1 dX3_canEnter_19 rfl rfl ?_
    refine wa_iadd dX3_canEnter_20 ?_
    rw [show (56 : Int32) + nI k = nI (56 + k) from nI_add 56 k]
    refine wa_iald dX3_canEnter_21 hf (vp_in_nI (by omega) (by omega)) ?_
    rw [nI_clamp (by omega), hr.shut hk]
    refine wa_if_ne 29 dX3_canEnter_22 rfl (fun c22 => ?_) (fun c22 => ?_)
    ·
      refine wa_iconst (0) dX3_canEnter_29 (by decide) ?_
      refine wa_iret FieldType.boolean dX3_canEnter_30 rfl rfl (Nat.le_of_ble_eq_true rfl) (Nat.le_of_ble_eq_true rfl) ?_
      refine ⟨?_, rfl⟩
      unfold z_free
      have c22 := Classical.not_not.mp (fun z => c22 (z_if1.mpr z))
      simp [c22]
    ·
      refine wa_iconst (1) dX3_canEnter_25 (by decide) ?_
      refine wa_goto 30 dX3_canEnter_26 rfl ?_
      refine wa_iret FieldType.boolean dX3_canEnter_30 rfl rfl (Nat.le_of_ble_eq_true rfl) (Nat.le_of_ble_eq_true rfl) ?_
      refine ⟨?_, rfl⟩
      unfold z_free
      have c22 := z_if1.mp c22
      simp [c10, c22]
theorem sp_mbes0 (H : z_mh M m f) (hr : z_mr c f) (hs : z_small c) {j : Nat} (hj : j < z_size c) : w_S l G tX3_beside (2, 0, 0) [.ref m, .int (nI j), .int 0] M (w_is (.inl (some (.int (z_enc (z_bes c j 0))))) M) := by
  have hsz := hs.size
  have hR6 : (z_robs c).length ≤ 6 := hs.2.2.2.2.1
  have hO10 : (z_ords c).length ≤ 10 := hs.2.2.2.2.2.1
  obtain ⟨fs, hm, hf⟩ := H
  have hrw : 0 < z_rows c := hs.1
  have hrw6 : z_rows c ≤ 6 := hs.2.1
  have hcl : 0 < z_cols c := hs.2.2.1
  have hcl8 : z_cols c ≤ 8 := hs.2.2.2.1
  have hdm : z_cols c * (j / z_cols c) + j % z_cols c = j := Nat.div_add_mod j (z_cols c)
  have hq : j % z_cols c < z_cols c := Nat.mod_lt _ hcl
  have hr9 : j / z_cols c < z_rows c := Nat.div_lt_of_lt_mul (by rw [Nat.mul_comm]; exact hj)
  have hdiv : nI j / nI (z_cols c) = nI (j / z_cols c) := pk_div (by omega) hcl (by omega)
  have hrem : nI j - nI j / nI (z_cols c) * nI (z_cols c) = nI (j % z_cols c) := pk_rem (by omega) hcl (by omega)
  have hnz : ¬ nI (z_cols c) = 0 := nI_ne0 hcl (by omega)
  by_cases hc : z_cols c ≤ j
  ·
    have hge : 1 ≤ j / z_cols c := (Nat.le_div_iff_mul_le hcl).mpr (by omega)
    have hrow : nI j / nI (z_cols c) + (-1) = nI (j / z_cols c - 1) := by rw [hdiv]; have := pk_m1 (j / z_cols c - 1); rwa [show j / z_cols c - 1 + 1 = j / z_cols c by omega] at this
    have hcol : nI j - nI j / nI (z_cols c) * nI (z_cols c) + 0 = nI (j % z_cols c) := by rw [hrem]; exact Int32.add_zero _
    have hmul : z_cols c * (j / z_cols c - 1) + z_cols c = z_cols c * (j / z_cols c) := by rw [← Nat.mul_succ]; congr 1; omega
    have hsum : nI (z_cols c) * nI (j / z_cols c - 1) + nI (j % z_cols c) = nI (j - z_cols c) := by rw [pk_mul, nI_add]; congr 1; omega
    have hnb : z_bes c j 0 = some (j - z_cols c) := by unfold z_bes z_beside; rw [if_neg (by decide)]; simp only [if_pos hc]
    refine w_start (by decide) (Nat.le_of_ble_eq_true rfl) (fun X => ?_)
    refine wa_locals [(0, _), (1, _), (2, _)] [0, 1, 2] rfl ?_
    refine wa_iload_n 1 dX3_beside_0 rfl rfl ?_
    refine wa_aload_n 0 dX3_beside_1 rfl rfl ?_
    refine wa_getf dX3_beside_2 gX3_9 hm rfl ?_
    refine wa_iconst (1) dX3_beside_5 (by decide) ?_
    refine wa_iald dX3_beside_6 hf (vp_in_nI (n := 1) (by omega) (by omega)) ?_
    rw [hr.cols]
    refine wa_idiv dX3_beside_7 hnz ?_
    refine wa_istore_n [(3, _), (0, _), (1, _), (2, _)] dX3_beside_8 rfl (Nat.le_of_ble_eq_true rfl) rfl ?_
    refine wa_iload_n 2 dX3_beside_9 rfl rfl ?_
    refine wa_aload_n 1 dX3_beside_10 rfl rfl ?_
    refine wa_getf dX3_beside_11 gX3_9 hm rfl ?_
    refine wa_iconst (1) dX3_beside_14 (by decide) ?_
    refine wa_iald dX3_beside_15 hf (vp_in_nI (n := 1) (by omega) (by omega)) ?_
    rw [hr.cols]
    refine wa_irem dX3_beside_16 hnz ?_
    refine wa_istore [(4, _), (3, _), (0, _), (1, _), (2, _)] dX3_beside_17 (Nat.le_of_ble_eq_true rfl) rfl ?_
    refine wa_iload_n 1 dX3_beside_19 rfl rfl ?_
    refine wa_iload_n 4 dX3_beside_20 rfl rfl ?_
    refine wa_if_ne 28 dX3_beside_21 rfl (fun c21 => absurd (by decide) c21) (fun c21 => ?_)
    refine wa_iconst (-1) dX3_beside_24 (by decide) ?_
    refine wa_goto 38 dX3_beside_25 rfl ?_
    refine wa_iadd dX3_beside_38 ?_
    rw [hrow]
    refine wa_istore_n [(3, _), (4, _), (0, _), (1, _), (2, _)] dX3_beside_39 rfl (Nat.le_of_ble_eq_true rfl) rfl ?_
    refine wa_iload 1 dX3_beside_40 rfl ?_
    refine wa_iload_n 4 dX3_beside_42 rfl rfl ?_
    refine wa_iconst (1) dX3_beside_43 (by decide) ?_
    refine wa_icmp_ne 51 dX3_beside_44 rfl (fun c44 => ?_) (fun c44 => absurd c44 (by decide))
    refine wa_iload_n 4 dX3_beside_51 rfl rfl ?_
    refine wa_iconst (3) dX3_beside_52 (by decide) ?_
    refine wa_icmp_ne 60 dX3_beside_53 rfl (fun c53 => ?_) (fun c53 => absurd c53 (by decide))
    refine wa_iconst (0) dX3_beside_60 (by decide) ?_
    refine wa_iadd dX3_beside_61 ?_
    rw [hcol]
    refine wa_istore [(4, _), (3, _), (0, _), (1, _), (2, _)] dX3_beside_62 (Nat.le_of_ble_eq_true rfl) rfl ?_
    refine wa_iload_n 1 dX3_beside_64 rfl rfl ?_
    refine wa_iconst (0) dX3_beside_65 (by decide) ?_
    refine wa_aload_n 2 dX3_beside_66 rfl rfl ?_
    refine wa_getf dX3_beside_67 gX3_9 hm rfl ?_
    refine wa_iconst (0) dX3_beside_70 (by decide) ?_
    refine wa_iald dX3_beside_71 hf (vp_in_nI (n := 0) (by omega) (by omega)) ?_
    rw [hr.rows]
    refine wa_iconst (1) dX3_beside_72 (by decide) ?_
    refine wa_isub dX3_beside_73 ?_
    refine wc_isI (wr_S dX3_beside_74 mX3_71 sp_min rfl rfl rfl (Nat.le_of_ble_eq_true rfl)) ?_
    rw [z_btw1 (show j / z_cols c - 1 < z_rows c by omega) (by omega)]
    refine wa_if_eq 111 dX3_beside_77 rfl (fun c77 => absurd c77 (by decide)) (fun c77 => ?_)
    refine wa_iload 0 dX3_beside_80 rfl ?_
    refine wa_iconst (0) dX3_beside_82 (by decide) ?_
    refine wa_aload_n 2 dX3_beside_83 rfl rfl ?_
    refine wa_getf dX3_beside_84 gX3_9 hm rfl ?_
    refine wa_iconst (1) dX3_beside_87 (by decide) ?_
    refine wa_iald dX3_beside_88 hf (vp_in_nI (n := 1) (by omega) (by omega)) ?_
    rw [hr.cols]
    refine wa_iconst (1) dX3_beside_89 (by decide) ?_
    refine wa_isub dX3_beside_90 ?_
    refine wc_isI (wr_S dX3_beside_91 mX3_71 sp_min rfl rfl rfl (Nat.le_of_ble_eq_true rfl)) ?_
    rw [z_btw1 (show j % z_cols c < z_cols c by omega) (by omega)]
    refine wa_if_eq 111 dX3_beside_94 rfl (fun c94 => absurd c94 (by decide)) (fun c94 => ?_)
    refine wa_aload_n 2 dX3_beside_97 rfl rfl ?_
    refine wa_getf dX3_beside_98 gX3_9 hm rfl ?_
    refine wa_iconst (1) dX3_beside_101 (by decide) ?_
    refine wa_iald dX3_beside_102 hf (vp_in_nI (n := 1) (by omega) (by omega)) ?_
    rw [hr.cols]
    refine wa_iload_n 1 dX3_beside_103 rfl rfl ?_
    refine wa_imul dX3_beside_104 ?_
    refine wa_iload 0 dX3_beside_105 rfl ?_
    refine wa_iadd dX3_beside_107 ?_
    rw [hsum]
    refine wa_goto 112 dX3_beside_108 rfl ?_
    refine wa_iret FieldType.int dX3_beside_112 rfl rfl (Nat.le_of_ble_eq_true rfl) (Nat.le_of_ble_eq_true rfl) ?_
    exact ⟨by rw [hnb]; rfl, rfl⟩
  ·
    have hr0 : j / z_cols c = 0 := Nat.div_eq_of_lt (by omega)
    have hrow : nI j / nI (z_cols c) + (-1) = -1 := by rw [hdiv, hr0]; decide
    have hcol : nI j - nI j / nI (z_cols c) * nI (z_cols c) + 0 = nI (j % z_cols c) := by rw [hrem]; exact Int32.add_zero _
    have hnb : z_bes c j 0 = none := by unfold z_bes z_beside; rw [if_neg (by decide)]; simp only [if_neg hc]
    refine w_start (by decide) (Nat.le_of_ble_eq_true rfl) (fun X => ?_)
    refine wa_locals [(0, _), (1, _), (2, _)] [0, 1, 2] rfl ?_
    refine wa_iload_n 1 dX3_beside_0 rfl rfl ?_
    refine wa_aload_n 0 dX3_beside_1 rfl rfl ?_
    refine wa_getf dX3_beside_2 gX3_9 hm rfl ?_
    refine wa_iconst (1) dX3_beside_5 (by decide) ?_
    refine wa_iald dX3_beside_6 hf (vp_in_nI (n := 1) (by omega) (by omega)) ?_
    rw [hr.cols]
    refine wa_idiv dX3_beside_7 hnz ?_
    refine wa_istore_n [(3, _), (0, _), (1, _), (2, _)] dX3_beside_8 rfl (Nat.le_of_ble_eq_true rfl) rfl ?_
    refine wa_iload_n 2 dX3_beside_9 rfl rfl ?_
    refine wa_aload_n 1 dX3_beside_10 rfl rfl ?_
    refine wa_getf dX3_beside_11 gX3_9 hm rfl ?_
    refine wa_iconst (1) dX3_beside_14 (by decide) ?_
    refine wa_iald dX3_beside_15 hf (vp_in_nI (n := 1) (by omega) (by omega)) ?_
    rw [hr.cols]
    refine wa_irem dX3_beside_16 hnz ?_
    refine wa_istore [(4, _), (3, _), (0, _), (1, _), (2, _)] dX3_beside_17 (Nat.le_of_ble_eq_true rfl) rfl ?_
    refine wa_iload_n 1 dX3_beside_19 rfl rfl ?_
    refine wa_iload_n 4 dX3_beside_20 rfl rfl ?_
    refine wa_if_ne 28 dX3_beside_21 rfl (fun c21 => absurd (by decide) c21) (fun c21 => ?_)
    refine wa_iconst (-1) dX3_beside_24 (by decide) ?_
    refine wa_goto 38 dX3_beside_25 rfl ?_
    refine wa_iadd dX3_beside_38 ?_
    rw [hrow]
    refine wa_istore_n [(3, _), (4, _), (0, _), (1, _), (2, _)] dX3_beside_39 rfl (Nat.le_of_ble_eq_true rfl) rfl ?_
    refine wa_iload 1 dX3_beside_40 rfl ?_
    refine wa_iload_n 4 dX3_beside_42 rfl rfl ?_
    refine wa_iconst (1) dX3_beside_43 (by decide) ?_
    refine wa_icmp_ne 51 dX3_beside_44 rfl (fun c44 => ?_) (fun c44 => absurd c44 (by decide))
    refine wa_iload_n 4 dX3_beside_51 rfl rfl ?_
    refine wa_iconst (3) dX3_beside_52 (by decide) ?_
    refine wa_icmp_ne 60 dX3_beside_53 rfl (fun c53 => ?_) (fun c53 => absurd c53 (by decide))
    refine wa_iconst (0) dX3_beside_60 (by decide) ?_
    refine wa_iadd dX3_beside_61 ?_
    rw [hcol]
    refine wa_istore [(4, _), (3, _), (0, _), (1, _), (2, _)] dX3_beside_62 (Nat.le_of_ble_eq_true rfl) rfl ?_
    refine wa_iload_n 1 dX3_beside_64 rfl rfl ?_
    refine wa_iconst (0) dX3_beside_65 (by decide) ?_
    refine wa_aload_n 2 dX3_beside_66 rfl rfl ?_
    refine wa_getf dX3_beside_67 gX3_9 hm rfl ?_
    refine wa_iconst (0) dX3_beside_70 (by decide) ?_
    refine wa_iald dX3_beside_71 hf (vp_in_nI (n := 0) (by omega) (by omega)) ?_
    rw [hr.rows]
    refine wa_iconst (1) dX3_beside_72 (by decide) ?_
    refine wa_isub dX3_beside_73 ?_
    refine wc_isI (wr_S dX3_beside_74 mX3_71 sp_min rfl rfl rfl (Nat.le_of_ble_eq_true rfl)) ?_
    rw [z_btwM]
    refine wa_if_eq 111 dX3_beside_77 rfl (fun c77 => ?_) (fun c77 => absurd (by decide) c77)
    refine wa_iconst (-1) dX3_beside_111 (by decide) ?_
    refine wa_iret FieldType.int dX3_beside_112 rfl rfl (Nat.le_of_ble_eq_true rfl) (Nat.le_of_ble_eq_true rfl) ?_
    exact ⟨by rw [hnb]; rfl, rfl⟩
theorem sp_mbes1 (H : z_mh M m f) (hr : z_mr c f) (hs : z_small c) {j : Nat} (hj : j < z_size c) : w_S l G tX3_beside (2, 0, 0) [.ref m, .int (nI j), .int 1] M (w_is (.inl (some (.int (z_enc (z_bes c j 1))))) M) := by
  have hsz := hs.size
  have hR6 : (z_robs c).length ≤ 6 := hs.2.2.2.2.1
  have hO10 : (z_ords c).length ≤ 10 := hs.2.2.2.2.2.1
  obtain ⟨fs, hm, hf⟩ := H
  have hrw : 0 < z_rows c := hs.1
  have hrw6 : z_rows c ≤ 6 := hs.2.1
  have hcl : 0 < z_cols c := hs.2.2.1
  have hcl8 : z_cols c ≤ 8 := hs.2.2.2.1
  have hdm : z_cols c * (j / z_cols c) + j % z_cols c = j := Nat.div_add_mod j (z_cols c)
  have hq : j % z_cols c < z_cols c := Nat.mod_lt _ hcl
  have hr9 : j / z_cols c < z_rows c := Nat.div_lt_of_lt_mul (by rw [Nat.mul_comm]; exact hj)
  have hdiv : nI j / nI (z_cols c) = nI (j / z_cols c) := pk_div (by omega) hcl (by omega)
  have hrem : nI j - nI j / nI (z_cols c) * nI (z_cols c) = nI (j % z_cols c) := pk_rem (by omega) hcl (by omega)
  have hnz : ¬ nI (z_cols c) = 0 := nI_ne0 hcl (by omega)
  by_cases hc : j % z_cols c + 1 < z_cols c
  ·
    have hrow : nI j / nI (z_cols c) + 0 = nI (j / z_cols c) := by rw [hdiv]; exact Int32.add_zero _
    have hcol : nI j - nI j / nI (z_cols c) * nI (z_cols c) + 1 = nI (j % z_cols c + 1) := by rw [hrem]; exact nI_1 _
    have hmul : z_cols c * (j / z_cols c) = z_cols c * (j / z_cols c) := rfl
    have hsum : nI (z_cols c) * nI (j / z_cols c) + nI (j % z_cols c + 1) = nI (j + 1) := by rw [pk_mul, nI_add]; congr 1; omega
    have hnb : z_bes c j 1 = some (j + 1) := by unfold z_bes z_beside; rw [if_neg (by decide)]; simp only [if_pos hc]
    refine w_start (by decide) (Nat.le_of_ble_eq_true rfl) (fun X => ?_)
    refine wa_locals [(0, _), (1, _), (2, _)] [0, 1, 2] rfl ?_
    refine wa_iload_n 1 dX3_beside_0 rfl rfl ?_
    refine wa_aload_n 0 dX3_beside_1 rfl rfl ?_
    refine wa_getf dX3_beside_2 gX3_9 hm rfl ?_
    refine wa_iconst (1) dX3_beside_5 (by decide) ?_
    refine wa_iald dX3_beside_6 hf (vp_in_nI (n := 1) (by omega) (by omega)) ?_
    rw [hr.cols]
    refine wa_idiv dX3_beside_7 hnz ?_
    refine wa_istore_n [(3, _), (0, _), (1, _), (2, _)] dX3_beside_8 rfl (Nat.le_of_ble_eq_true rfl) rfl ?_
    refine wa_iload_n 2 dX3_beside_9 rfl rfl ?_
    refine wa_aload_n 1 dX3_beside_10 rfl rfl ?_
    refine wa_getf dX3_beside_11 gX3_9 hm rfl ?_
    refine wa_iconst (1) dX3_beside_14 (by decide) ?_
    refine wa_iald dX3_beside_15 hf (vp_in_nI (n := 1) (by omega) (by omega)) ?_
    rw [hr.cols]
    refine wa_irem dX3_beside_16 hnz ?_
    refine wa_istore [(4, _), (3, _), (0, _), (1, _), (2, _)] dX3_beside_17 (Nat.le_of_ble_eq_true rfl) rfl ?_
    refine wa_iload_n 1 dX3_beside_19 rfl rfl ?_
    refine wa_iload_n 4 dX3_beside_20 rfl rfl ?_
    refine wa_if_ne 28 dX3_beside_21 rfl (fun c21 => ?_) (fun c21 => absurd c21 (by decide))
    refine wa_iload_n 4 dX3_beside_28 rfl rfl ?_
    refine wa_iconst (2) dX3_beside_29 (by decide) ?_
    refine wa_icmp_ne 37 dX3_beside_30 rfl (fun c30 => ?_) (fun c30 => absurd c30 (by decide))
    refine wa_iconst (0) dX3_beside_37 (by decide) ?_
    refine wa_iadd dX3_beside_38 ?_
    rw [hrow]
    refine wa_istore_n [(3, _), (4, _), (0, _), (1, _), (2, _)] dX3_beside_39 rfl (Nat.le_of_ble_eq_true rfl) rfl ?_
    refine wa_iload 1 dX3_beside_40 rfl ?_
    refine wa_iload_n 4 dX3_beside_42 rfl rfl ?_
    refine wa_iconst (1) dX3_beside_43 (by decide) ?_
    refine wa_icmp_ne 51 dX3_beside_44 rfl (fun c44 => absurd (by decide) c44) (fun c44 => ?_)
    refine wa_iconst (1) dX3_beside_47 (by decide) ?_
    refine wa_goto 61 dX3_beside_48 rfl ?_
    refine wa_iadd dX3_beside_61 ?_
    rw [hcol]
    refine wa_istore [(4, _), (3, _), (0, _), (1, _), (2, _)] dX3_beside_62 (Nat.le_of_ble_eq_true rfl) rfl ?_
    refine wa_iload_n 1 dX3_beside_64 rfl rfl ?_
    refine wa_iconst (0) dX3_beside_65 (by decide) ?_
    refine wa_aload_n 2 dX3_beside_66 rfl rfl ?_
    refine wa_getf dX3_beside_67 gX3_9 hm rfl ?_
    refine wa_iconst (0) dX3_beside_70 (by decide) ?_
    refine wa_iald dX3_beside_71 hf (vp_in_nI (n := 0) (by omega) (by omega)) ?_
    rw [hr.rows]
    refine wa_iconst (1) dX3_beside_72 (by decide) ?_
    refine wa_isub dX3_beside_73 ?_
    refine wc_isI (wr_S dX3_beside_74 mX3_71 sp_min rfl rfl rfl (Nat.le_of_ble_eq_true rfl)) ?_
    rw [z_btw1 (show j / z_cols c < z_rows c by omega) (by omega)]
    refine wa_if_eq 111 dX3_beside_77 rfl (fun c77 => absurd c77 (by decide)) (fun c77 => ?_)
    refine wa_iload 0 dX3_beside_80 rfl ?_
    refine wa_iconst (0) dX3_beside_82 (by decide) ?_
    refine wa_aload_n 2 dX3_beside_83 rfl rfl ?_
    refine wa_getf dX3_beside_84 gX3_9 hm rfl ?_
    refine wa_iconst (1) dX3_beside_87 (by decide) ?_
    refine wa_iald dX3_beside_88 hf (vp_in_nI (n := 1) (by omega) (by omega)) ?_
    rw [hr.cols]
    refine wa_iconst (1) dX3_beside_89 (by decide) ?_
    refine wa_isub dX3_beside_90 ?_
    refine wc_isI (wr_S dX3_beside_91 mX3_71 sp_min rfl rfl rfl (Nat.le_of_ble_eq_true rfl)) ?_
    rw [z_btw1 (show j % z_cols c + 1 < z_cols c by omega) (by omega)]
    refine wa_if_eq 111 dX3_beside_94 rfl (fun c94 => absurd c94 (by decide)) (fun c94 => ?_)
    refine wa_aload_n 2 dX3_beside_97 rfl rfl ?_
    refine wa_getf dX3_beside_98 gX3_9 hm rfl ?_
    refine wa_iconst (1) dX3_beside_101 (by decide) ?_
    refine wa_iald dX3_beside_102 hf (vp_in_nI (n := 1) (by omega) (by omega)) ?_
    rw [hr.cols]
    refine wa_iload_n 1 dX3_beside_103 rfl rfl ?_
    refine wa_imul dX3_beside_104 ?_
    refine wa_iload 0 dX3_beside_105 rfl ?_
    refine wa_iadd dX3_beside_107 ?_
    rw [hsum]
    refine wa_goto 112 dX3_beside_108 rfl ?_
    refine wa_iret FieldType.int dX3_beside_112 rfl rfl (Nat.le_of_ble_eq_true rfl) (Nat.le_of_ble_eq_true rfl) ?_
    exact ⟨by rw [hnb]; rfl, rfl⟩
  ·
    have hrow : nI j / nI (z_cols c) + 0 = nI (j / z_cols c) := by rw [hdiv]; exact Int32.add_zero _
    have hcol : nI j - nI j / nI (z_cols c) * nI (z_cols c) + 1 = nI (z_cols c) := by rw [hrem, nI_1]; congr 1; omega
    have hnb : z_bes c j 1 = none := by unfold z_bes z_beside; rw [if_neg (by decide)]; simp only [if_neg hc]
    refine w_start (by decide) (Nat.le_of_ble_eq_true rfl) (fun X => ?_)
    refine wa_locals [(0, _), (1, _), (2, _)] [0, 1, 2] rfl ?_
    refine wa_iload_n 1 dX3_beside_0 rfl rfl ?_
    refine wa_aload_n 0 dX3_beside_1 rfl rfl ?_
    refine wa_getf dX3_beside_2 gX3_9 hm rfl ?_
    refine wa_iconst (1) dX3_beside_5 (by decide) ?_
    refine wa_iald dX3_beside_6 hf (vp_in_nI (n := 1) (by omega) (by omega)) ?_
    rw [hr.cols]
    refine wa_idiv dX3_beside_7 hnz ?_
    refine wa_istore_n [(3, _), (0, _), (1, _), (2, _)] dX3_beside_8 rfl (Nat.le_of_ble_eq_true rfl) rfl ?_
    refine wa_iload_n 2 dX3_beside_9 rfl rfl ?_
    refine wa_aload_n 1 dX3_beside_10 rfl rfl ?_
    refine wa_getf dX3_beside_11 gX3_9 hm rfl ?_
    refine wa_iconst (1) dX3_beside_14 (by decide) ?_
    refine wa_iald dX3_beside_15 hf (vp_in_nI (n := 1) (by omega) (by omega)) ?_
    rw [hr.cols]
    refine wa_irem dX3_beside_16 hnz ?_
    refine wa_istore [(4, _), (3, _), (0, _), (1, _), (2, _)] dX3_beside_17 (Nat.le_of_ble_eq_true rfl) rfl ?_
    refine wa_iload_n 1 dX3_beside_19 rfl rfl ?_
    refine wa_iload_n 4 dX3_beside_20 rfl rfl ?_
    refine wa_if_ne 28 dX3_beside_21 rfl (fun c21 => ?_) (fun c21 => absurd c21 (by decide))
    refine wa_iload_n 4 dX3_beside_28 rfl rfl ?_
    refine wa_iconst (2) dX3_beside_29 (by decide) ?_
    refine wa_icmp_ne 37 dX3_beside_30 rfl (fun c30 => ?_) (fun c30 => absurd c30 (by decide))
    refine wa_iconst (0) dX3_beside_37 (by decide) ?_
    refine wa_iadd dX3_beside_38 ?_
    rw [hrow]
    refine wa_istore_n [(3, _), (4, _), (0, _), (1, _), (2, _)] dX3_beside_39 rfl (Nat.le_of_ble_eq_true rfl) rfl ?_
    refine wa_iload 1 dX3_beside_40 rfl ?_
    refine wa_iload_n 4 dX3_beside_42 rfl rfl ?_
    refine wa_iconst (1) dX3_beside_43 (by decide) ?_
    refine wa_icmp_ne 51 dX3_beside_44 rfl (fun c44 => absurd (by decide) c44) (fun c44 => ?_)
    refine wa_iconst (1) dX3_beside_47 (by decide) ?_
    refine wa_goto 61 dX3_beside_48 rfl ?_
    refine wa_iadd dX3_beside_61 ?_
    rw [hcol]
    refine wa_istore [(4, _), (3, _), (0, _), (1, _), (2, _)] dX3_beside_62 (Nat.le_of_ble_eq_true rfl) rfl ?_
    refine wa_iload_n 1 dX3_beside_64 rfl rfl ?_
    refine wa_iconst (0) dX3_beside_65 (by decide) ?_
    refine wa_aload_n 2 dX3_beside_66 rfl rfl ?_
    refine wa_getf dX3_beside_67 gX3_9 hm rfl ?_
    refine wa_iconst (0) dX3_beside_70 (by decide) ?_
    refine wa_iald dX3_beside_71 hf (vp_in_nI (n := 0) (by omega) (by omega)) ?_
    rw [hr.rows]
    refine wa_iconst (1) dX3_beside_72 (by decide) ?_
    refine wa_isub dX3_beside_73 ?_
    refine wc_isI (wr_S dX3_beside_74 mX3_71 sp_min rfl rfl rfl (Nat.le_of_ble_eq_true rfl)) ?_
    rw [z_btw1 hr9 (by omega)]
    refine wa_if_eq 111 dX3_beside_77 rfl (fun c77 => absurd c77 (by decide)) (fun c77 => ?_)
    refine wa_iload 0 dX3_beside_80 rfl ?_
    refine wa_iconst (0) dX3_beside_82 (by decide) ?_
    refine wa_aload_n 2 dX3_beside_83 rfl rfl ?_
    refine wa_getf dX3_beside_84 gX3_9 hm rfl ?_
    refine wa_iconst (1) dX3_beside_87 (by decide) ?_
    refine wa_iald dX3_beside_88 hf (vp_in_nI (n := 1) (by omega) (by omega)) ?_
    rw [hr.cols]
    refine wa_iconst (1) dX3_beside_89 (by decide) ?_
    refine wa_isub dX3_beside_90 ?_
    refine wc_isI (wr_S dX3_beside_91 mX3_71 sp_min rfl rfl rfl (Nat.le_of_ble_eq_true rfl)) ?_
    rw [z_btwN hcl (by omega)]
    refine wa_if_eq 111 dX3_beside_94 rfl (fun c94 => ?_) (fun c94 => absurd (by decide) c94)
    refine wa_iconst (-1) dX3_beside_111 (by decide) ?_
    refine wa_iret FieldType.int dX3_beside_112 rfl rfl (Nat.le_of_ble_eq_true rfl) (Nat.le_of_ble_eq_true rfl) ?_
    exact ⟨by rw [hnb]; rfl, rfl⟩
theorem sp_mbes2 (H : z_mh M m f) (hr : z_mr c f) (hs : z_small c) {j : Nat} (hj : j < z_size c) : w_S l G tX3_beside (2, 0, 0) [.ref m, .int (nI j), .int 2] M (w_is (.inl (some (.int (z_enc (z_bes c j 2))))) M) := by
  have hsz := hs.size
  have hR6 : (z_robs c).length ≤ 6 := hs.2.2.2.2.1
  have hO10 : (z_ords c).length ≤ 10 := hs.2.2.2.2.2.1
  obtain ⟨fs, hm, hf⟩ := H
  have hrw : 0 < z_rows c := hs.1
  have hrw6 : z_rows c ≤ 6 := hs.2.1
  have hcl : 0 < z_cols c := hs.2.2.1
  have hcl8 : z_cols c ≤ 8 := hs.2.2.2.1
  have hdm : z_cols c * (j / z_cols c) + j % z_cols c = j := Nat.div_add_mod j (z_cols c)
  have hq : j % z_cols c < z_cols c := Nat.mod_lt _ hcl
  have hr9 : j / z_cols c < z_rows c := Nat.div_lt_of_lt_mul (by rw [Nat.mul_comm]; exact hj)
  have hdiv : nI j / nI (z_cols c) = nI (j / z_cols c) := pk_div (by omega) hcl (by omega)
  have hrem : nI j - nI j / nI (z_cols c) * nI (z_cols c) = nI (j % z_cols c) := pk_rem (by omega) hcl (by omega)
  have hnz : ¬ nI (z_cols c) = 0 := nI_ne0 hcl (by omega)
  by_cases hc : j / z_cols c + 1 < z_rows c
  ·
    have hrow : nI j / nI (z_cols c) + 1 = nI (j / z_cols c + 1) := by rw [hdiv]; exact nI_1 _
    have hcol : nI j - nI j / nI (z_cols c) * nI (z_cols c) + 0 = nI (j % z_cols c) := by rw [hrem]; exact Int32.add_zero _
    have hmul : z_cols c * (j / z_cols c + 1) = z_cols c * (j / z_cols c) + z_cols c := Nat.mul_succ _ _
    have hsum : nI (z_cols c) * nI (j / z_cols c + 1) + nI (j % z_cols c) = nI (j + z_cols c) := by rw [pk_mul, nI_add]; congr 1; omega
    have hnb : z_bes c j 2 = some (j + z_cols c) := by unfold z_bes z_beside; rw [if_neg (by decide)]; simp only [if_pos hc]
    refine w_start (by decide) (Nat.le_of_ble_eq_true rfl) (fun X => ?_)
    refine wa_locals [(0, _), (1, _), (2, _)] [0, 1, 2] rfl ?_
    refine wa_iload_n 1 dX3_beside_0 rfl rfl ?_
    refine wa_aload_n 0 dX3_beside_1 rfl rfl ?_
    refine wa_getf dX3_beside_2 gX3_9 hm rfl ?_
    refine wa_iconst (1) dX3_beside_5 (by decide) ?_
    refine wa_iald dX3_beside_6 hf (vp_in_nI (n := 1) (by omega) (by omega)) ?_
    rw [hr.cols]
    refine wa_idiv dX3_beside_7 hnz ?_
    refine wa_istore_n [(3, _), (0, _), (1, _), (2, _)] dX3_beside_8 rfl (Nat.le_of_ble_eq_true rfl) rfl ?_
    refine wa_iload_n 2 dX3_beside_9 rfl rfl ?_
    refine wa_aload_n 1 dX3_beside_10 rfl rfl ?_
    refine wa_getf dX3_beside_11 gX3_9 hm rfl ?_
    refine wa_iconst (1) dX3_beside_14 (by decide) ?_
    refine wa_iald dX3_beside_15 hf (vp_in_nI (n := 1) (by omega) (by omega)) ?_
    rw [hr.cols]
    refine wa_irem dX3_beside_16 hnz ?_
    refine wa_istore [(4, _), (3, _), (0, _), (1, _), (2, _)] dX3_beside_17 (Nat.le_of_ble_eq_true rfl) rfl ?_
    refine wa_iload_n 1 dX3_beside_19 rfl rfl ?_
    refine wa_iload_n 4 dX3_beside_20 rfl rfl ?_
    refine wa_if_ne 28 dX3_beside_21 rfl (fun c21 => ?_) (fun c21 => absurd c21 (by decide))
    refine wa_iload_n 4 dX3_beside_28 rfl rfl ?_
    refine wa_iconst (2) dX3_beside_29 (by decide) ?_
    refine wa_icmp_ne 37 dX3_beside_30 rfl (fun c30 => absurd (by decide) c30) (fun c30 => ?_)
    refine wa_iconst (1) dX3_beside_33 (by decide) ?_
    refine wa_goto 38 dX3_beside_34 rfl ?_
    refine wa_iadd dX3_beside_38 ?_
    rw [hrow]
    refine wa_istore_n [(3, _), (4, _), (0, _), (1, _), (2, _)] dX3_beside_39 rfl (Nat.le_of_ble_eq_true rfl) rfl ?_
    refine wa_iload 1 dX3_beside_40 rfl ?_
    refine wa_iload_n 4 dX3_beside_42 rfl rfl ?_
    refine wa_iconst (1) dX3_beside_43 (by decide) ?_
    refine wa_icmp_ne 51 dX3_beside_44 rfl (fun c44 => ?_) (fun c44 => absurd c44 (by decide))
    refine wa_iload_n 4 dX3_beside_51 rfl rfl ?_
    refine wa_iconst (3) dX3_beside_52 (by decide) ?_
    refine wa_icmp_ne 60 dX3_beside_53 rfl (fun c53 => ?_) (fun c53 => absurd c53 (by decide))
    refine wa_iconst (0) dX3_beside_60 (by decide) ?_
    refine wa_iadd dX3_beside_61 ?_
    rw [hcol]
    refine wa_istore [(4, _), (3, _), (0, _), (1, _), (2, _)] dX3_beside_62 (Nat.le_of_ble_eq_true rfl) rfl ?_
    refine wa_iload_n 1 dX3_beside_64 rfl rfl ?_
    refine wa_iconst (0) dX3_beside_65 (by decide) ?_
    refine wa_aload_n 2 dX3_beside_66 rfl rfl ?_
    refine wa_getf dX3_beside_67 gX3_9 hm rfl ?_
    refine wa_iconst (0) dX3_beside_70 (by decide) ?_
    refine wa_iald dX3_beside_71 hf (vp_in_nI (n := 0) (by omega) (by omega)) ?_
    rw [hr.rows]
    refine wa_iconst (1) dX3_beside_72 (by decide) ?_
    refine wa_isub dX3_beside_73 ?_
    refine wc_isI (wr_S dX3_beside_74 mX3_71 sp_min rfl rfl rfl (Nat.le_of_ble_eq_true rfl)) ?_
    rw [z_btw1 (show j / z_cols c + 1 < z_rows c by omega) (by omega)]
    refine wa_if_eq 111 dX3_beside_77 rfl (fun c77 => absurd c77 (by decide)) (fun c77 => ?_)
    refine wa_iload 0 dX3_beside_80 rfl ?_
    refine wa_iconst (0) dX3_beside_82 (by decide) ?_
    refine wa_aload_n 2 dX3_beside_83 rfl rfl ?_
    refine wa_getf dX3_beside_84 gX3_9 hm rfl ?_
    refine wa_iconst (1) dX3_beside_87 (by decide) ?_
    refine wa_iald dX3_beside_88 hf (vp_in_nI (n := 1) (by omega) (by omega)) ?_
    rw [hr.cols]
    refine wa_iconst (1) dX3_beside_89 (by decide) ?_
    refine wa_isub dX3_beside_90 ?_
    refine wc_isI (wr_S dX3_beside_91 mX3_71 sp_min rfl rfl rfl (Nat.le_of_ble_eq_true rfl)) ?_
    rw [z_btw1 (show j % z_cols c < z_cols c by omega) (by omega)]
    refine wa_if_eq 111 dX3_beside_94 rfl (fun c94 => absurd c94 (by decide)) (fun c94 => ?_)
    refine wa_aload_n 2 dX3_beside_97 rfl rfl ?_
    refine wa_getf dX3_beside_98 gX3_9 hm rfl ?_
    refine wa_iconst (1) dX3_beside_101 (by decide) ?_
    refine wa_iald dX3_beside_102 hf (vp_in_nI (n := 1) (by omega) (by omega)) ?_
    rw [hr.cols]
    refine wa_iload_n 1 dX3_beside_103 rfl rfl ?_
    refine wa_imul dX3_beside_104 ?_
    refine wa_iload 0 dX3_beside_105 rfl ?_
    refine wa_iadd dX3_beside_107 ?_
    rw [hsum]
    refine wa_goto 112 dX3_beside_108 rfl ?_
    refine wa_iret FieldType.int dX3_beside_112 rfl rfl (Nat.le_of_ble_eq_true rfl) (Nat.le_of_ble_eq_true rfl) ?_
    exact ⟨by rw [hnb]; rfl, rfl⟩
  ·
    have hrow : nI j / nI (z_cols c) + 1 = nI (z_rows c) := by rw [hdiv, nI_1]; congr 1; omega
    have hcol : nI j - nI j / nI (z_cols c) * nI (z_cols c) + 0 = nI (j % z_cols c) := by rw [hrem]; exact Int32.add_zero _
    have hnb : z_bes c j 2 = none := by unfold z_bes z_beside; rw [if_neg (by decide)]; simp only [if_neg hc]
    refine w_start (by decide) (Nat.le_of_ble_eq_true rfl) (fun X => ?_)
    refine wa_locals [(0, _), (1, _), (2, _)] [0, 1, 2] rfl ?_
    refine wa_iload_n 1 dX3_beside_0 rfl rfl ?_
    refine wa_aload_n 0 dX3_beside_1 rfl rfl ?_
    refine wa_getf dX3_beside_2 gX3_9 hm rfl ?_
    refine wa_iconst (1) dX3_beside_5 (by decide) ?_
    refine wa_iald dX3_beside_6 hf (vp_in_nI (n := 1) (by omega) (by omega)) ?_
    rw [hr.cols]
    refine wa_idiv dX3_beside_7 hnz ?_
    refine wa_istore_n [(3, _), (0, _), (1, _), (2, _)] dX3_beside_8 rfl (Nat.le_of_ble_eq_true rfl) rfl ?_
    refine wa_iload_n 2 dX3_beside_9 rfl rfl ?_
    refine wa_aload_n 1 dX3_beside_10 rfl rfl ?_
    refine wa_getf dX3_beside_11 gX3_9 hm rfl ?_
    refine wa_iconst (1) dX3_beside_14 (by decide) ?_
    refine wa_iald dX3_beside_15 hf (vp_in_nI (n := 1) (by omega) (by omega)) ?_
    rw [hr.cols]
    refine wa_irem dX3_beside_16 hnz ?_
    refine wa_istore [(4, _), (3, _), (0, _), (1, _), (2, _)] dX3_beside_17 (Nat.le_of_ble_eq_true rfl) rfl ?_
    refine wa_iload_n 1 dX3_beside_19 rfl rfl ?_
    refine wa_iload_n 4 dX3_beside_20 rfl rfl ?_
    refine wa_if_ne 28 dX3_beside_21 rfl (fun c21 => ?_) (fun c21 => absurd c21 (by decide))
    refine wa_iload_n 4 dX3_beside_28 rfl rfl ?_
    refine wa_iconst (2) dX3_beside_29 (by decide) ?_
    refine wa_icmp_ne 37 dX3_beside_30 rfl (fun c30 => absurd (by decide) c30) (fun c30 => ?_)
    refine wa_iconst (1) dX3_beside_33 (by decide) ?_
    refine wa_goto 38 dX3_beside_34 rfl ?_
    refine wa_iadd dX3_beside_38 ?_
    rw [hrow]
    refine wa_istore_n [(3, _), (4, _), (0, _), (1, _), (2, _)] dX3_beside_39 rfl (Nat.le_of_ble_eq_true rfl) rfl ?_
    refine wa_iload 1 dX3_beside_40 rfl ?_
    refine wa_iload_n 4 dX3_beside_42 rfl rfl ?_
    refine wa_iconst (1) dX3_beside_43 (by decide) ?_
    refine wa_icmp_ne 51 dX3_beside_44 rfl (fun c44 => ?_) (fun c44 => absurd c44 (by decide))
    refine wa_iload_n 4 dX3_beside_51 rfl rfl ?_
    refine wa_iconst (3) dX3_beside_52 (by decide) ?_
    refine wa_icmp_ne 60 dX3_beside_53 rfl (fun c53 => ?_) (fun c53 => absurd c53 (by decide))
    refine wa_iconst (0) dX3_beside_60 (by decide) ?_
    refine wa_iadd dX3_beside_61 ?_
    rw [hcol]
    refine wa_istore [(4, _), (3, _), (0, _), (1, _), (2, _)] dX3_beside_62 (Nat.le_of_ble_eq_true rfl) rfl ?_
    refine wa_iload_n 1 dX3_beside_64 rfl rfl ?_
    refine wa_iconst (0) dX3_beside_65 (by decide) ?_
    refine wa_aload_n 2 dX3_beside_66 rfl rfl ?_
    refine wa_getf dX3_beside_67 gX3_9 hm rfl ?_
    refine wa_iconst (0) dX3_beside_70 (by decide) ?_
    refine wa_iald dX3_beside_71 hf (vp_in_nI (n := 0) (by omega) (by omega)) ?_
    rw [hr.rows]
    refine wa_iconst (1) dX3_beside_72 (by decide) ?_
    refine wa_isub dX3_beside_73 ?_
    refine wc_isI (wr_S dX3_beside_74 mX3_71 sp_min rfl rfl rfl (Nat.le_of_ble_eq_true rfl)) ?_
    rw [z_btwN hrw (by omega)]
    refine wa_if_eq 111 dX3_beside_77 rfl (fun c77 => ?_) (fun c77 => absurd (by decide) c77)
    refine wa_iconst (-1) dX3_beside_111 (by decide) ?_
    refine wa_iret FieldType.int dX3_beside_112 rfl rfl (Nat.le_of_ble_eq_true rfl) (Nat.le_of_ble_eq_true rfl) ?_
    exact ⟨by rw [hnb]; rfl, rfl⟩
theorem sp_mbes3 (H : z_mh M m f) (hr : z_mr c f) (hs : z_small c) {j : Nat} (hj : j < z_size c) : w_S l G tX3_beside (2, 0, 0) [.ref m, .int (nI j), .int 3] M (w_is (.inl (some (.int (z_enc (z_bes c j 3))))) M) := by
  have hsz := hs.size
  have hR6 : (z_robs c).length ≤ 6 := hs.2.2.2.2.1
  have hO10 : (z_ords c).length ≤ 10 := hs.2.2.2.2.2.1
  obtain ⟨fs, hm, hf⟩ := H
  have hrw : 0 < z_rows c := hs.1
  have hrw6 : z_rows c ≤ 6 := hs.2.1
  have hcl : 0 < z_cols c := hs.2.2.1
  have hcl8 : z_cols c ≤ 8 := hs.2.2.2.1
  have hdm : z_cols c * (j / z_cols c) + j % z_cols c = j := Nat.div_add_mod j (z_cols c)
  have hq : j % z_cols c < z_cols c := Nat.mod_lt _ hcl
  have hr9 : j / z_cols c < z_rows c := Nat.div_lt_of_lt_mul (by rw [Nat.mul_comm]; exact hj)
  have hdiv : nI j / nI (z_cols c) = nI (j / z_cols c) := pk_div (by omega) hcl (by omega)
  have hrem : nI j - nI j / nI (z_cols c) * nI (z_cols c) = nI (j % z_cols c) := pk_rem (by omega) hcl (by omega)
  have hnz : ¬ nI (z_cols c) = 0 := nI_ne0 hcl (by omega)
  by_cases hc : 0 < j % z_cols c
  ·
    have hrow : nI j / nI (z_cols c) + 0 = nI (j / z_cols c) := by rw [hdiv]; exact Int32.add_zero _
    have hcol : nI j - nI j / nI (z_cols c) * nI (z_cols c) + (-1) = nI (j % z_cols c - 1) := by rw [hrem]; have := pk_m1 (j % z_cols c - 1); rwa [show j % z_cols c - 1 + 1 = j % z_cols c by omega] at this
    have hmul : z_cols c * (j / z_cols c) = z_cols c * (j / z_cols c) := rfl
    have hsum : nI (z_cols c) * nI (j / z_cols c) + nI (j % z_cols c - 1) = nI (j - 1) := by rw [pk_mul, nI_add]; congr 1; omega
    have hnb : z_bes c j 3 = some (j - 1) := by unfold z_bes z_beside; rw [if_neg (by decide)]; simp only [if_pos hc]
    refine w_start (by decide) (Nat.le_of_ble_eq_true rfl) (fun X => ?_)
    refine wa_locals [(0, _), (1, _), (2, _)] [0, 1, 2] rfl ?_
    refine wa_iload_n 1 dX3_beside_0 rfl rfl ?_
    refine wa_aload_n 0 dX3_beside_1 rfl rfl ?_
    refine wa_getf dX3_beside_2 gX3_9 hm rfl ?_
    refine wa_iconst (1) dX3_beside_5 (by decide) ?_
    refine wa_iald dX3_beside_6 hf (vp_in_nI (n := 1) (by omega) (by omega)) ?_
    rw [hr.cols]
    refine wa_idiv dX3_beside_7 hnz ?_
    refine wa_istore_n [(3, _), (0, _), (1, _), (2, _)] dX3_beside_8 rfl (Nat.le_of_ble_eq_true rfl) rfl ?_
    refine wa_iload_n 2 dX3_beside_9 rfl rfl ?_
    refine wa_aload_n 1 dX3_beside_10 rfl rfl ?_
    refine wa_getf dX3_beside_11 gX3_9 hm rfl ?_
    refine wa_iconst (1) dX3_beside_14 (by decide) ?_
    refine wa_iald dX3_beside_15 hf (vp_in_nI (n := 1) (by omega) (by omega)) ?_
    rw [hr.cols]
    refine wa_irem dX3_beside_16 hnz ?_
    refine wa_istore [(4, _), (3, _), (0, _), (1, _), (2, _)] dX3_beside_17 (Nat.le_of_ble_eq_true rfl) rfl ?_
    refine wa_iload_n 1 dX3_beside_19 rfl rfl ?_
    refine wa_iload_n 4 dX3_beside_20 rfl rfl ?_
    refine wa_if_ne 28 dX3_beside_21 rfl (fun c21 => ?_) (fun c21 => absurd c21 (by decide))
    refine wa_iload_n 4 dX3_beside_28 rfl rfl ?_
    refine wa_iconst (2) dX3_beside_29 (by decide) ?_
    refine wa_icmp_ne 37 dX3_beside_30 rfl (fun c30 => ?_) (fun c30 => absurd c30 (by decide))
    refine wa_iconst (0) dX3_beside_37 (by decide) ?_
    refine wa_iadd dX3_beside_38 ?_
    rw [hrow]
    refine wa_istore_n [(3, _), (4, _), (0, _), (1, _), (2, _)] dX3_beside_39 rfl (Nat.le_of_ble_eq_true rfl) rfl ?_
    refine wa_iload 1 dX3_beside_40 rfl ?_
    refine wa_iload_n 4 dX3_beside_42 rfl rfl ?_
    refine wa_iconst (1) dX3_beside_43 (by decide) ?_
    refine wa_icmp_ne 51 dX3_beside_44 rfl (fun c44 => ?_) (fun c44 => absurd c44 (by decide))
    refine wa_iload_n 4 dX3_beside_51 rfl rfl ?_
    refine wa_iconst (3) dX3_beside_52 (by decide) ?_
    refine wa_icmp_ne 60 dX3_beside_53 rfl (fun c53 => absurd (by decide) c53) (fun c53 => ?_)
    refine wa_iconst (-1) dX3_beside_56 (by decide) ?_
    refine wa_goto 61 dX3_beside_57 rfl ?_
    refine wa_iadd dX3_beside_61 ?_
    rw [hcol]
    refine wa_istore [(4, _), (3, _), (0, _), (1, _), (2, _)] dX3_beside_62 (Nat.le_of_ble_eq_true rfl) rfl ?_
    refine wa_iload_n 1 dX3_beside_64 rfl rfl ?_
    refine wa_iconst (0) dX3_beside_65 (by decide) ?_
    refine wa_aload_n 2 dX3_beside_66 rfl rfl ?_
    refine wa_getf dX3_beside_67 gX3_9 hm rfl ?_
    refine wa_iconst (0) dX3_beside_70 (by decide) ?_
    refine wa_iald dX3_beside_71 hf (vp_in_nI (n := 0) (by omega) (by omega)) ?_
    rw [hr.rows]
    refine wa_iconst (1) dX3_beside_72 (by decide) ?_
    refine wa_isub dX3_beside_73 ?_
    refine wc_isI (wr_S dX3_beside_74 mX3_71 sp_min rfl rfl rfl (Nat.le_of_ble_eq_true rfl)) ?_
    rw [z_btw1 (show j / z_cols c < z_rows c by omega) (by omega)]
    refine wa_if_eq 111 dX3_beside_77 rfl (fun c77 => absurd c77 (by decide)) (fun c77 => ?_)
    refine wa_iload 0 dX3_beside_80 rfl ?_
    refine wa_iconst (0) dX3_beside_82 (by decide) ?_
    refine wa_aload_n 2 dX3_beside_83 rfl rfl ?_
    refine wa_getf dX3_beside_84 gX3_9 hm rfl ?_
    refine wa_iconst (1) dX3_beside_87 (by decide) ?_
    refine wa_iald dX3_beside_88 hf (vp_in_nI (n := 1) (by omega) (by omega)) ?_
    rw [hr.cols]
    refine wa_iconst (1) dX3_beside_89 (by decide) ?_
    refine wa_isub dX3_beside_90 ?_
    refine wc_isI (wr_S dX3_beside_91 mX3_71 sp_min rfl rfl rfl (Nat.le_of_ble_eq_true rfl)) ?_
    rw [z_btw1 (show j % z_cols c - 1 < z_cols c by omega) (by omega)]
    refine wa_if_eq 111 dX3_beside_94 rfl (fun c94 => absurd c94 (by decide)) (fun c94 => ?_)
    refine wa_aload_n 2 dX3_beside_97 rfl rfl ?_
    refine wa_getf dX3_beside_98 gX3_9 hm rfl ?_
    refine wa_iconst (1) dX3_beside_101 (by decide) ?_
    refine wa_iald dX3_beside_102 hf (vp_in_nI (n := 1) (by omega) (by omega)) ?_
    rw [hr.cols]
    refine wa_iload_n 1 dX3_beside_103 rfl rfl ?_
    refine wa_imul dX3_beside_104 ?_
    refine wa_iload 0 dX3_beside_105 rfl ?_
    refine wa_iadd dX3_beside_107 ?_
    rw [hsum]
    refine wa_goto 112 dX3_beside_108 rfl ?_
    refine wa_iret FieldType.int dX3_beside_112 rfl rfl (Nat.le_of_ble_eq_true rfl) (Nat.le_of_ble_eq_true rfl) ?_
    exact ⟨by rw [hnb]; rfl, rfl⟩
  ·
    have hrow : nI j / nI (z_cols c) + 0 = nI (j / z_cols c) := by rw [hdiv]; exact Int32.add_zero _
    have hq0 : j % z_cols c = 0 := by omega
    have hcol : nI j - nI j / nI (z_cols c) * nI (z_cols c) + (-1) = -1 := by rw [hrem, hq0]; decide
    have hnb : z_bes c j 3 = none := by unfold z_bes z_beside; rw [if_neg (by decide)]; simp only [if_neg hc]
    refine w_start (by decide) (Nat.le_of_ble_eq_true rfl) (fun X => ?_)
    refine wa_locals [(0, _), (1, _), (2, _)] [0, 1, 2] rfl ?_
    refine wa_iload_n 1 dX3_beside_0 rfl rfl ?_
    refine wa_aload_n 0 dX3_beside_1 rfl rfl ?_
    refine wa_getf dX3_beside_2 gX3_9 hm rfl ?_
    refine wa_iconst (1) dX3_beside_5 (by decide) ?_
    refine wa_iald dX3_beside_6 hf (vp_in_nI (n := 1) (by omega) (by omega)) ?_
    rw [hr.cols]
    refine wa_idiv dX3_beside_7 hnz ?_
    refine wa_istore_n [(3, _), (0, _), (1, _), (2, _)] dX3_beside_8 rfl (Nat.le_of_ble_eq_true rfl) rfl ?_
    refine wa_iload_n 2 dX3_beside_9 rfl rfl ?_
    refine wa_aload_n 1 dX3_beside_10 rfl rfl ?_
    refine wa_getf dX3_beside_11 gX3_9 hm rfl ?_
    refine wa_iconst (1) dX3_beside_14 (by decide) ?_
    refine wa_iald dX3_beside_15 hf (vp_in_nI (n := 1) (by omega) (by omega)) ?_
    rw [hr.cols]
    refine wa_irem dX3_beside_16 hnz ?_
    refine wa_istore [(4, _), (3, _), (0, _), (1, _), (2, _)] dX3_beside_17 (Nat.le_of_ble_eq_true rfl) rfl ?_
    refine wa_iload_n 1 dX3_beside_19 rfl rfl ?_
    refine wa_iload_n 4 dX3_beside_20 rfl rfl ?_
    refine wa_if_ne 28 dX3_beside_21 rfl (fun c21 => ?_) (fun c21 => absurd c21 (by decide))
    refine wa_iload_n 4 dX3_beside_28 rfl rfl ?_
    refine wa_iconst (2) dX3_beside_29 (by decide) ?_
    refine wa_icmp_ne 37 dX3_beside_30 rfl (fun c30 => ?_) (fun c30 => absurd c30 (by decide))
    refine wa_iconst (0) dX3_beside_37 (by decide) ?_
    refine wa_iadd dX3_beside_38 ?_
    rw [hrow]
    refine wa_istore_n [(3, _), (4, _), (0, _), (1, _), (2, _)] dX3_beside_39 rfl (Nat.le_of_ble_eq_true rfl) rfl ?_
    refine wa_iload 1 dX3_beside_40 rfl ?_
    refine wa_iload_n 4 dX3_beside_42 rfl rfl ?_
    refine wa_iconst (1) dX3_beside_43 (by decide) ?_
    refine wa_icmp_ne 51 dX3_beside_44 rfl (fun c44 => ?_) (fun c44 => absurd c44 (by decide))
    refine wa_iload_n 4 dX3_beside_51 rfl rfl ?_
    refine wa_iconst (3) dX3_beside_52 (by decide) ?_
    refine wa_icmp_ne 60 dX3_beside_53 rfl (fun c53 => absurd (by decide) c53) (fun c53 => ?_)
    refine wa_iconst (-1) dX3_beside_56 (by decide) ?_
    refine wa_goto 61 dX3_beside_57 rfl ?_
    refine wa_iadd dX3_beside_61 ?_
    rw [hcol]
    refine wa_istore [(4, _), (3, _), (0, _), (1, _), (2, _)] dX3_beside_62 (Nat.le_of_ble_eq_true rfl) rfl ?_
    refine wa_iload_n 1 dX3_beside_64 rfl rfl ?_
    refine wa_iconst (0) dX3_beside_65 (by decide) ?_
    refine wa_aload_n 2 dX3_beside_66 rfl rfl ?_
    refine wa_getf dX3_beside_67 gX3_9 hm rfl ?_
    refine wa_iconst (0) dX3_beside_70 (by decide) ?_
    refine wa_iald dX3_beside_71 hf (vp_in_nI (n := 0) (by omega) (by omega)) ?_
    rw [hr.rows]
    refine wa_iconst (1) dX3_beside_72 (by decide) ?_
    refine wa_isub dX3_beside_73 ?_
    refine wc_isI (wr_S dX3_beside_74 mX3_71 sp_min rfl rfl rfl (Nat.le_of_ble_eq_true rfl)) ?_
    rw [z_btw1 hr9 (by omega)]
    refine wa_if_eq 111 dX3_beside_77 rfl (fun c77 => absurd c77 (by decide)) (fun c77 => ?_)
    refine wa_iload 0 dX3_beside_80 rfl ?_
    refine wa_iconst (0) dX3_beside_82 (by decide) ?_
    refine wa_aload_n 2 dX3_beside_83 rfl rfl ?_
    refine wa_getf dX3_beside_84 gX3_9 hm rfl ?_
    refine wa_iconst (1) dX3_beside_87 (by decide) ?_
    refine wa_iald dX3_beside_88 hf (vp_in_nI (n := 1) (by omega) (by omega)) ?_
    rw [hr.cols]
    refine wa_iconst (1) dX3_beside_89 (by decide) ?_
    refine wa_isub dX3_beside_90 ?_
    refine wc_isI (wr_S dX3_beside_91 mX3_71 sp_min rfl rfl rfl (Nat.le_of_ble_eq_true rfl)) ?_
    rw [z_btwM]
    refine wa_if_eq 111 dX3_beside_94 rfl (fun c94 => ?_) (fun c94 => absurd (by decide) c94)
    refine wa_iconst (-1) dX3_beside_111 (by decide) ?_
    refine wa_iret FieldType.int dX3_beside_112 rfl rfl (Nat.le_of_ble_eq_true rfl) (Nat.le_of_ble_eq_true rfl) ?_
    exact ⟨by rw [hnb]; rfl, rfl⟩
theorem sp_mbes4 (H : z_mh M m f) (hr : z_mr c f) (hs : z_small c) {j : Nat} (hj : j < z_size c) : w_S l G tX3_beside (2, 0, 0) [.ref m, .int (nI j), .int 4] M (w_is (.inl (some (.int (z_enc (z_bes c j 4))))) M) := by
  have hsz := hs.size
  have hR6 : (z_robs c).length ≤ 6 := hs.2.2.2.2.1
  have hO10 : (z_ords c).length ≤ 10 := hs.2.2.2.2.2.1
  obtain ⟨fs, hm, hf⟩ := H
  have hrw : 0 < z_rows c := hs.1
  have hrw6 : z_rows c ≤ 6 := hs.2.1
  have hcl : 0 < z_cols c := hs.2.2.1
  have hcl8 : z_cols c ≤ 8 := hs.2.2.2.1
  have hdm : z_cols c * (j / z_cols c) + j % z_cols c = j := Nat.div_add_mod j (z_cols c)
  have hq : j % z_cols c < z_cols c := Nat.mod_lt _ hcl
  have hr9 : j / z_cols c < z_rows c := Nat.div_lt_of_lt_mul (by rw [Nat.mul_comm]; exact hj)
  have hdiv : nI j / nI (z_cols c) = nI (j / z_cols c) := pk_div (by omega) hcl (by omega)
  have hrem : nI j - nI j / nI (z_cols c) * nI (z_cols c) = nI (j % z_cols c) := pk_rem (by omega) hcl (by omega)
  have hnz : ¬ nI (z_cols c) = 0 := nI_ne0 hcl (by omega)
  have hrow : nI j / nI (z_cols c) + 0 = nI (j / z_cols c) := by rw [hdiv]; exact Int32.add_zero _
  have hcol : nI j - nI j / nI (z_cols c) * nI (z_cols c) + 0 = nI (j % z_cols c) := by rw [hrem]; exact Int32.add_zero _
  have hmul : z_cols c * (j / z_cols c) = z_cols c * (j / z_cols c) := rfl
  have hsum : nI (z_cols c) * nI (j / z_cols c) + nI (j % z_cols c) = nI (j) := by rw [pk_mul, nI_add]; congr 1
  have hnb : z_bes c j 4 = some (j) := by rfl
  refine w_start (by decide) (Nat.le_of_ble_eq_true rfl) (fun X => ?_)
  refine wa_locals [(0, _), (1, _), (2, _)] [0, 1, 2] rfl ?_
  refine wa_iload_n 1 dX3_beside_0 rfl rfl ?_
  refine wa_aload_n 0 dX3_beside_1 rfl rfl ?_
  refine wa_getf dX3_beside_2 gX3_9 hm rfl ?_
  refine wa_iconst (1) dX3_beside_5 (by decide) ?_
  refine wa_iald dX3_beside_6 hf (vp_in_nI (n := 1) (by omega) (by omega)) ?_
  rw [hr.cols]
  refine wa_idiv dX3_beside_7 hnz ?_
  refine wa_istore_n [(3, _), (0, _), (1, _), (2, _)] dX3_beside_8 rfl (Nat.le_of_ble_eq_true rfl) rfl ?_
  refine wa_iload_n 2 dX3_beside_9 rfl rfl ?_
  refine wa_aload_n 1 dX3_beside_10 rfl rfl ?_
  refine wa_getf dX3_beside_11 gX3_9 hm rfl ?_
  refine wa_iconst (1) dX3_beside_14 (by decide) ?_
  refine wa_iald dX3_beside_15 hf (vp_in_nI (n := 1) (by omega) (by omega)) ?_
  rw [hr.cols]
  refine wa_irem dX3_beside_16 hnz ?_
  refine wa_istore [(4, _), (3, _), (0, _), (1, _), (2, _)] dX3_beside_17 (Nat.le_of_ble_eq_true rfl) rfl ?_
  refine wa_iload_n 1 dX3_beside_19 rfl rfl ?_
  refine wa_iload_n 4 dX3_beside_20 rfl rfl ?_
  refine wa_if_ne 28 dX3_beside_21 rfl (fun c21 => ?_) (fun c21 => absurd c21 (by decide))
  refine wa_iload_n 4 dX3_beside_28 rfl rfl ?_
  refine wa_iconst (2) dX3_beside_29 (by decide) ?_
  refine wa_icmp_ne 37 dX3_beside_30 rfl (fun c30 => ?_) (fun c30 => absurd c30 (by decide))
  refine wa_iconst (0) dX3_beside_37 (by decide) ?_
  refine wa_iadd dX3_beside_38 ?_
  rw [hrow]
  refine wa_istore_n [(3, _), (4, _), (0, _), (1, _), (2, _)] dX3_beside_39 rfl (Nat.le_of_ble_eq_true rfl) rfl ?_
  refine wa_iload 1 dX3_beside_40 rfl ?_
  refine wa_iload_n 4 dX3_beside_42 rfl rfl ?_
  refine wa_iconst (1) dX3_beside_43 (by decide) ?_
  refine wa_icmp_ne 51 dX3_beside_44 rfl (fun c44 => ?_) (fun c44 => absurd c44 (by decide))
  refine wa_iload_n 4 dX3_beside_51 rfl rfl ?_
  refine wa_iconst (3) dX3_beside_52 (by decide) ?_
  refine wa_icmp_ne 60 dX3_beside_53 rfl (fun c53 => ?_) (fun c53 => absurd c53 (by decide))
  refine wa_iconst (0) dX3_beside_60 (by decide) ?_
  refine wa_iadd dX3_beside_61 ?_
  rw [hcol]
  refine wa_istore [(4, _), (3, _), (0, _), (1, _), (2, _)] dX3_beside_62 (Nat.le_of_ble_eq_true rfl) rfl ?_
  refine wa_iload_n 1 dX3_beside_64 rfl rfl ?_
  refine wa_iconst (0) dX3_beside_65 (by decide) ?_
  refine wa_aload_n 2 dX3_beside_66 rfl rfl ?_
  refine wa_getf dX3_beside_67 gX3_9 hm rfl ?_
  refine wa_iconst (0) dX3_beside_70 (by decide) ?_
  refine wa_iald dX3_beside_71 hf (vp_in_nI (n := 0) (by omega) (by omega)) ?_
  rw [hr.rows]
  refine wa_iconst (1) dX3_beside_72 (by decide) ?_
  refine wa_isub dX3_beside_73 ?_
  refine wc_isI (wr_S dX3_beside_74 mX3_71 sp_min rfl rfl rfl (Nat.le_of_ble_eq_true rfl)) ?_
  rw [z_btw1 (show j / z_cols c < z_rows c by omega) (by omega)]
  refine wa_if_eq 111 dX3_beside_77 rfl (fun c77 => absurd c77 (by decide)) (fun c77 => ?_)
  refine wa_iload 0 dX3_beside_80 rfl ?_
  refine wa_iconst (0) dX3_beside_82 (by decide) ?_
  refine wa_aload_n 2 dX3_beside_83 rfl rfl ?_
  refine wa_getf dX3_beside_84 gX3_9 hm rfl ?_
  refine wa_iconst (1) dX3_beside_87 (by decide) ?_
  refine wa_iald dX3_beside_88 hf (vp_in_nI (n := 1) (by omega) (by omega)) ?_
  rw [hr.cols]
  refine wa_iconst (1) dX3_beside_89 (by decide) ?_
  refine wa_isub dX3_beside_90 ?_
  refine wc_isI (wr_S dX3_beside_91 mX3_71 sp_min rfl rfl rfl (Nat.le_of_ble_eq_true rfl)) ?_
  rw [z_btw1 (show j % z_cols c < z_cols c by omega) (by omega)]
  refine wa_if_eq 111 dX3_beside_94 rfl (fun c94 => absurd c94 (by decide)) (fun c94 => ?_)
  refine wa_aload_n 2 dX3_beside_97 rfl rfl ?_
  refine wa_getf dX3_beside_98 gX3_9 hm rfl ?_
  refine wa_iconst (1) dX3_beside_101 (by decide) ?_
  refine wa_iald dX3_beside_102 hf (vp_in_nI (n := 1) (by omega) (by omega)) ?_
  rw [hr.cols]
  refine wa_iload_n 1 dX3_beside_103 rfl rfl ?_
  refine wa_imul dX3_beside_104 ?_
  refine wa_iload 0 dX3_beside_105 rfl ?_
  refine wa_iadd dX3_beside_107 ?_
  rw [hsum]
  refine wa_goto 112 dX3_beside_108 rfl ?_
  refine wa_iret FieldType.int dX3_beside_112 rfl rfl (Nat.le_of_ble_eq_true rfl) (Nat.le_of_ble_eq_true rfl) ?_
  exact ⟨by rw [hnb]; rfl, rfl⟩
theorem sp_mbes (H : z_mh M m f) (hr : z_mr c f) (hs : z_small c) {j w : Nat} (hj : j < z_size c) (hw : w < 5) : w_S l G tX3_beside (2, 0, 0) [.ref m, .int (nI j), .int (nI w)] M (w_is (.inl (some (.int (z_enc (z_bes c j w))))) M) := by
  match w, hw with
  | 0, _ => exact sp_mbes0 H hr hs hj
  | 1, _ => exact sp_mbes1 H hr hs hj
  | 2, _ => exact sp_mbes2 H hr hs hj
  | 3, _ => exact sp_mbes3 H hr hs hj
  | 4, _ => exact sp_mbes4 H hr hs hj
theorem z_bes_lt (hs : z_small c) {p q w : Nat} (hp : p < z_size c) (h : z_bes c p w = some q) : q < z_size c := by
  unfold z_bes at h
  split at h
  · cases h; exact hp
  · obtain ⟨h1, h2, h3, h4, -⟩ := hs
    have hd := Nat.div_add_mod p (z_cols c)
    have hm := Nat.mod_lt p h3
    have hr : p / z_cols c < z_rows c := Nat.div_lt_of_lt_mul (by rw [Nat.mul_comm]; exact hp)
    have key : ∀ r m, r < z_rows c → m < z_cols c → z_cols c * r + m < z_size c := fun r m h5 h6 => by
      have : z_cols c * (r + 1) ≤ z_cols c * z_rows c := Nat.mul_le_mul_left _ h5
      rw [Nat.mul_succ] at this
      unfold z_size
      rw [Nat.mul_comm (z_rows c)]
      omega
    unfold z_beside at h
    split at h
    · split at h <;> cases h
      omega
    · split at h <;> cases h
      have := key (p / z_cols c) (p % z_cols c + 1) hr (by omega)
      omega
    · split at h <;> cases h
      have := key (p / z_cols c + 1) (p % z_cols c) (by omega) hm
      rw [Nat.mul_succ] at this
      omega
    · split at h <;> cases h
      omega
theorem z_bes_nb (c : z_C) (p : Nat) {w : Nat} (hw : w < 4) : z_nb c p w = match z_bes c p w with
  | none => none
  | some q => if z_free c q then some q else none := by
  unfold z_nb z_bes
  rw [if_neg (by omega)]
  rfl
theorem sp_mcellOf (H : z_mh M m f) (hr : z_mr c f) (hs : z_small c) {k t : Nat} {r : z_R} (hk : (z_robs c)[k]? = some r) (ht : t < 2 ^ 31) : w_S l G tX3_cellOf (3, 0, 0) [.ref m, .int (nI k), .int (nI t)] M (w_is (.inl (some (.int (nI (z_ahead r t))))) M) := by
  have hsz := hs.size
  have hR6 : (z_robs c).length ≤ 6 := hs.2.2.2.2.1
  have hO10 : (z_ords c).length ≤ 10 := hs.2.2.2.2.2.1
  obtain ⟨fs, hm, hf⟩ := id H
  have hk6 : k < 6 := by have := (List.getElem?_eq_some_iff.mp hk).1; omega
  obtain ⟨-, -, hp30, -⟩ := hs.2.2.2.2.2.2.1 r (List.mem_of_getElem? hk)
  obtain ⟨q1, q2, q3, q4, q5, q6, q7⟩ := hr.rob hk
  by_cases ht0 : t = 0
  · subst ht0
    refine w_start (by decide) (Nat.le_of_ble_eq_true rfl) (fun X => ?_)
    refine wa_locals [(0, _), (1, _), (2, _)] [0, 1, 2] rfl ?_
    refine wa_aload_n 0 dX3_cellOf_0 rfl rfl ?_
    refine wa_iload_n 1 dX3_cellOf_1 rfl rfl ?_
    refine wa_iconst (3) dX3_cellOf_2 (by decide) ?_
    refine wc_isI (wr_V dX3_cellOf_3 mX3_79 (sp_mof H hk6 (w := 3) (by decide)) hm rfl rfl rfl (Nat.le_of_ble_eq_true rfl)) ?_
    rw [show f (104 + 36 * k + 3) = nI (z_plan r).length from q4]
    refine wa_istore_n [(3, _), (0, _), (1, _), (2, _)] dX3_cellOf_6 rfl (Nat.le_of_ble_eq_true rfl) rfl ?_
    refine wa_iload_n 3 dX3_cellOf_7 rfl rfl ?_
    refine wa_if_eq 15 dX3_cellOf_8 rfl (fun c8 => ?_) (fun c8 => absurd rfl c8)
    refine wa_aload_n 1 dX3_cellOf_15 rfl rfl ?_
    refine wa_iload_n 2 dX3_cellOf_16 rfl rfl ?_
    refine wa_iconst (0) dX3_cellOf_17 (by decide) ?_
    refine wc_isI (wr_V dX3_cellOf_18 mX3_79 (sp_mof H hk6 (w := 0) (by decide)) hm rfl rfl rfl (Nat.le_of_ble_eq_true rfl)) ?_
    rw [show f (104 + 36 * k + 0) = nI (z_cell r) from q1]
    refine wa_goto 44 dX3_cellOf_21 rfl ?_
    refine wa_iret FieldType.int dX3_cellOf_44 rfl rfl (Nat.le_of_ble_eq_true rfl) (Nat.le_of_ble_eq_true rfl) ?_
    exact ⟨rfl, rfl⟩
  by_cases hp0 : (z_plan r).length = 0
  · have e : z_ahead r t = z_cell r := by
      unfold z_ahead
      rw [if_neg ht0, List.eq_nil_of_length_eq_zero hp0]
      rfl
    rw [e]
    rw [hp0] at q4
    refine w_start (by decide) (Nat.le_of_ble_eq_true rfl) (fun X => ?_)
    refine wa_locals [(0, _), (1, _), (2, _)] [0, 1, 2] rfl ?_
    refine wa_aload_n 0 dX3_cellOf_0 rfl rfl ?_
    refine wa_iload_n 1 dX3_cellOf_1 rfl rfl ?_
    refine wa_iconst (3) dX3_cellOf_2 (by decide) ?_
    refine wc_isI (wr_V dX3_cellOf_3 mX3_79 (sp_mof H hk6 (w := 3) (by decide)) hm rfl rfl rfl (Nat.le_of_ble_eq_true rfl)) ?_
    rw [show f (104 + 36 * k + 3) = nI 0 from q4]
    refine wa_istore_n [(3, _), (0, _), (1, _), (2, _)] dX3_cellOf_6 rfl (Nat.le_of_ble_eq_true rfl) rfl ?_
    refine wa_iload_n 3 dX3_cellOf_7 rfl rfl ?_
    refine wa_if_eq 15 dX3_cellOf_8 rfl (fun c8 => absurd c8 (nI_ne0 (by omega) ht)) (fun c8 => ?_)
    refine wa_iload_n 0 dX3_cellOf_11 rfl rfl ?_
    refine wa_if_ne 24 dX3_cellOf_12 rfl (fun c12 => absurd rfl c12) (fun c12 => ?_)
    refine wa_aload_n 1 dX3_cellOf_15 rfl rfl ?_
    refine wa_iload_n 2 dX3_cellOf_16 rfl rfl ?_
    refine wa_iconst (0) dX3_cellOf_17 (by decide) ?_
    refine wc_isI (wr_V dX3_cellOf_18 mX3_79 (sp_mof H hk6 (w := 0) (by decide)) hm rfl rfl rfl (Nat.le_of_ble_eq_true rfl)) ?_
    rw [show f (104 + 36 * k + 0) = nI (z_cell r) from q1]
    refine wa_goto 44 dX3_cellOf_21 rfl ?_
    refine wa_iret FieldType.int dX3_cellOf_44 rfl rfl (Nat.le_of_ble_eq_true rfl) (Nat.le_of_ble_eq_true rfl) ?_
    exact ⟨rfl, rfl⟩
  obtain ⟨y, hy⟩ : ∃ y, (z_plan r)[min t (z_plan r).length - 1]? = some y := ⟨_, List.getElem?_eq_getElem (by omega)⟩
  have e : z_ahead r t = y := by
    unfold z_ahead
    rw [if_neg ht0, List.getD_eq_getElem?_getD, hy]
    rfl
  rw [e]
  refine w_start (by decide) (Nat.le_of_ble_eq_true rfl) (fun X => ?_)
  refine wa_locals [(0, _), (1, _), (2, _)] [0, 1, 2] rfl ?_
  refine wa_aload_n 0 dX3_cellOf_0 rfl rfl ?_
  refine wa_iload_n 1 dX3_cellOf_1 rfl rfl ?_
  refine wa_iconst (3) dX3_cellOf_2 (by decide) ?_
  refine wc_isI (wr_V dX3_cellOf_3 mX3_79 (sp_mof H hk6 (w := 3) (by decide)) hm rfl rfl rfl (Nat.le_of_ble_eq_true rfl)) ?_
  rw [show f (104 + 36 * k + 3) = nI (z_plan r).length from q4]
  refine wa_istore_n [(3, _), (0, _), (1, _), (2, _)] dX3_cellOf_6 rfl (Nat.le_of_ble_eq_true rfl) rfl ?_
  refine wa_iload_n 3 dX3_cellOf_7 rfl rfl ?_
  refine wa_if_eq 15 dX3_cellOf_8 rfl (fun c8 => absurd c8 (nI_ne0 (by omega) ht)) (fun c8 => ?_)
  refine wa_iload_n 0 dX3_cellOf_11 rfl rfl ?_
  refine wa_if_ne 24 dX3_cellOf_12 rfl (fun c12 => ?_) (fun c12 => absurd c12 (nI_ne0 (by omega) (by omega)))
  refine wa_aload_n 1 dX3_cellOf_24 rfl rfl ?_
  refine wa_iload_n 2 dX3_cellOf_25 rfl rfl ?_
  refine wa_bipush (6) dX3_cellOf_26 (by decide) ?_
  refine wa_iload_n 3 dX3_cellOf_28 rfl rfl ?_
  refine wa_iload_n 0 dX3_cellOf_29 rfl rfl ?_
  refine wa_icmp_le 37 dX3_cellOf_30 rfl (fun c30 => ?_) (fun c30 => ?_)
  ·
    refine wa_iload_n 3 dX3_cellOf_37 rfl rfl ?_
    refine wa_iadd dX3_cellOf_38 ?_
    have hmn : min t (z_plan r).length = t := by have := (nI_leI ht (by omega)).mp c30; omega
    rw [show (6 : Int32) + nI t = nI (6 + t) from nI_add 6 _]
    refine wa_iconst (1) dX3_cellOf_39 (by decide) ?_
    refine wa_isub dX3_cellOf_40 ?_
    rw [show nI (6 + t) - 1 = nI (6 + (min t (z_plan r).length - 1)) by rw [hmn]; have := pk_sub (a := 6 + t) (b := 1) (by omega); rwa [show 6 + t - 1 = 6 + (t - 1) by omega] at this]
    refine wc_isI (wr_V dX3_cellOf_41 mX3_79 (sp_mof H hk6 (w := 6 + (min t (z_plan r).length - 1)) (by omega)) hm rfl rfl rfl (Nat.le_of_ble_eq_true rfl)) ?_
    rw [← Nat.add_assoc, q7 _ _ hy]
    refine wa_iret FieldType.int dX3_cellOf_44 rfl rfl (Nat.le_of_ble_eq_true rfl) (Nat.le_of_ble_eq_true rfl) ?_
    exact ⟨rfl, rfl⟩
  ·
    refine wa_iload_n 0 dX3_cellOf_33 rfl rfl ?_
    refine wa_goto 38 dX3_cellOf_34 rfl ?_
    refine wa_iadd dX3_cellOf_38 ?_
    have hmn : min t (z_plan r).length = (z_plan r).length := by have : ¬ t ≤ (z_plan r).length := fun z => c30 (nI_le z (by omega)); omega
    rw [show (6 : Int32) + nI (z_plan r).length = nI (6 + (z_plan r).length) from nI_add 6 _]
    refine wa_iconst (1) dX3_cellOf_39 (by decide) ?_
    refine wa_isub dX3_cellOf_40 ?_
    rw [show nI (6 + (z_plan r).length) - 1 = nI (6 + (min t (z_plan r).length - 1)) by rw [hmn]; have := pk_sub (a := 6 + (z_plan r).length) (b := 1) (by omega); rwa [show 6 + (z_plan r).length - 1 = 6 + ((z_plan r).length - 1) by omega] at this]
    refine wc_isI (wr_V dX3_cellOf_41 mX3_79 (sp_mof H hk6 (w := 6 + (min t (z_plan r).length - 1)) (by omega)) hm rfl rfl rfl (Nat.le_of_ble_eq_true rfl)) ?_
    rw [← Nat.add_assoc, q7 _ _ hy]
    refine wa_iret FieldType.int dX3_cellOf_44 rfl rfl (Nat.le_of_ble_eq_true rfl) (Nat.le_of_ble_eq_true rfl) ?_
    exact ⟨rfl, rfl⟩
end MH
