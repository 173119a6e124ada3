/-! ===== what is asked of RobotAisles: cells, robots, orders ===== -/
set_option maxRecDepth 100000
def z_ask (es : List String) (S : z_S) (a : Int32 ⊕ Nat) : (Value × z_S) ⊕ String := match a with
  | .inl v => .inl (.int v, S)
  | .inr n => .inr (es.getD (n - 1) "")
abbrev z_IO : String := "java/lang/IndexOutOfBoundsException"
abbrev z_IA : String := "java/lang/IllegalArgumentException"
abbrev z_NE : String := "java/util/NoSuchElementException"
/-- how many neighbors can be entered, of the first n ways -/
def z_nbN (c : z_C) (j : Nat) : Nat → Nat
  | 0 => 0
  | n + 1 => z_nbN c j n + (if z_nb c j n = none then 0 else 1)
theorem z_nbN_le (c : z_C) (j : Nat) : ∀ n, z_nbN c j n ≤ n := by
  intro n
  induction n with
  | zero => exact Nat.le_refl _
  | succ n ih => rw [z_nbN]; split <;> omega
def z_cellA (c : z_C) (x w : Int32) : Int32 ⊕ Nat := match z_idx x (z_size c) with
  | none => .inr 1
  | some j => match z_idx w 4 with
    | none => .inr 2
    | some 0 => .inl (z_kinds c j)
    | some 1 => .inl (if z_free c j = true then 1 else 0)
    | some 2 => .inl (z_enc (z_robotAt c j 0 (-1)))
    | some _ => .inl (nI (z_nbN c j 4))
def z_robotOfA (c : z_C) (x w : Int32) : Int32 ⊕ Nat := match z_idx x (z_robs c).length with
  | none => .inr 1
  | some k => match (z_robs c)[k]? with
    | none => .inr 1
    | some r => match z_idx w 7 with
      | none => .inr 2
      | some 0 => .inl (nI (z_cell r))
      | some 1 => .inl (z_batt r)
      | some 2 => .inl (z_enc (z_has r))
      | some 3 => .inl (nI (z_plan r).length)
      | some 4 => .inl (if z_plan r = [] then -1 else nI (z_ahead r 30))
      | some 5 => .inl (if z_loaded c r = true then 1 else 0)
      | some _ => .inl (z_steps r)
def z_plannedA (c : z_C) (x t : Int32) : Int32 ⊕ Nat := match z_idx x (z_robs c).length with
  | none => .inr 1
  | some k => match (z_robs c)[k]? with
    | none => .inr 1
    | some r => if 0 ≤ t then .inl (nI (z_ahead r t.toNatClampNeg)) else .inr 2
def z_reservedA (c : z_C) (x t : Int32) : Int32 ⊕ Nat := match z_idx x (z_size c) with
  | none => .inr 1
  | some j => if 0 ≤ t then .inl (z_enc (z_robotAt c j t.toNatClampNeg (-1))) else .inr 2
/-- the lowest robot from the k-th on that has the order i -/
def z_withFrom : Nat → List z_R → Nat → Option Nat
  | _, [], _ => none
  | k, r :: rs, i => if z_has r = some i then some k else z_withFrom (k + 1) rs i
def z_with (c : z_C) (i : Nat) : Option Nat := z_withFrom 0 (z_robs c) i
def z_orderOfA (c : z_C) (x w : Int32) : Int32 ⊕ Nat := match z_idx x (z_ords c).length with
  | none => .inr 1
  | some i => match (z_ords c)[i]? with
    | none => .inr 1
    | some o => match z_idx w 6 with
      | none => .inr 2
      | some 0 => .inl (z_due o)
      | some 1 => .inl (nI (z_lines o).length)
      | some 2 => .inl (nI (z_picked o))
      | some 3 => .inl (nI (z_state o))
      | some 4 => .inl (z_enc (z_with c i))
      | some _ => .inl (z_del o)
def z_lineA (c : z_C) (x y : Int32) : Int32 ⊕ Nat := match z_idx x (z_ords c).length with
  | none => .inr 1
  | some i => match (z_ords c)[i]? with
    | none => .inr 1
    | some o => match z_idx y (z_lines o).length with
      | none => .inr 1
      | some j => match (z_lines o)[j]? with
        | none => .inr 1
        | some q => .inl (nI q)
section AK
variable {l : Launch} {G : w_G} {M : w_M} {E : Nat → Prop} {x bl ba tx ca : Nat} {sv : Option Nat} {bas : List Nat} {S : z_S} {P : Nat → Prop} {kd rl ol sg ra oa : Nat} {ras oas : List Nat}
theorem sp_betweenY {v lo hi : Int32} (h : lo ≤ v ∧ v ≤ hi) : w_S l G tX1_isBetween (1, 0, 0) [.int v, .int lo, .int hi] M (w_is (.inl (some (.int 1))) M) := by
  have := sp_between (l := l) (G := G) (M := M) (x := v) (lo := lo) (hi := hi)
  rwa [if_pos h] at this
theorem sp_betweenZ {v lo hi : Int32} (h : ¬ (lo ≤ v ∧ v ≤ hi)) : w_S l G tX1_isBetween (1, 0, 0) [.int v, .int lo, .int hi] M (w_is (.inl (some (.int 0))) M) := by
  have := sp_between (l := l) (G := G) (M := M) (x := v) (lo := lo) (hi := hi)
  rwa [if_neg h] at this
theorem z_btwY {v : Int32} {n j : Nat} {hi : Int32} (hn : n < 2 ^ 31) (h : z_idx v n = some j) (e : nI n - 1 = hi) : 0 ≤ v ∧ v ≤ hi := by
  rw [← e]
  refine Classical.byContradiction fun w => ?_
  have := (z_idx_none hn).mpr w
  rw [h] at this; cases this
theorem z_btwZ {v : Int32} {n : Nat} {hi : Int32} (hn : n < 2 ^ 31) (h : z_idx v n = none) (e : nI n - 1 = hi) : ¬ (0 ≤ v ∧ v ≤ hi) := by
  rw [← e]
  exact (z_idx_none hn).mp h
theorem sp_requireCellY (h : z_sysL G M E x bl ba tx ca sv bas S) (hL : z_coreL G M P ca kd rl ol sg ra oa ras oas (z_cur S)) (hs : z_small (z_cur S)) {v : Int32} {j : Nat} (hi : z_idx v (z_size (z_cur S)) = some j) : w_S l G tX1_requireCell (7, 0, 0) [.ref x, .int v] M (w_is (.inl none) M) := by
  have hg := h.2.1
  have hgc := hL.2.1
  obtain ⟨n1, n2, n3⟩ := z_idxL hs
  have hh := sp_hasCell (l := l) hL hs (x := v)
  rw [show (z_idx v (z_size (z_cur S))).isSome = true from by rw [hi]; rfl] at hh
  rw [if_pos rfl] at hh
  refine w_start (by decide) (Nat.le_of_ble_eq_true rfl) (fun X => ?_)
  refine wa_locals [(0, _), (1, _)] [0, 1] rfl ?_
  refine wa_aload_n 0 dX1_requireCell_0 rfl rfl ?_
  refine wa_getf dX1_requireCell_1 gX1_14 hg rfl ?_
  refine wa_iload_n 1 dX1_requireCell_4 rfl rfl ?_
  refine wc_isI (wr_V dX1_requireCell_5 mX1_102 hh hgc rfl rfl rfl (Nat.le_of_ble_eq_true rfl)) ?_
  refine wc_isV (wr_S dX1_requireCell_8 mX1_172 sp_requireIndexN rfl rfl rfl (Nat.le_of_ble_eq_true rfl)) ?_
  refine wa_vret dX1_requireCell_11 rfl (Nat.le_of_ble_eq_true rfl) (Nat.le_of_ble_eq_true rfl) ?_
  exact ⟨rfl, rfl⟩
theorem sp_requireCellZ (h : z_sysL G M E x bl ba tx ca sv bas S) (hL : z_coreL G M P ca kd rl ol sg ra oa ras oas (z_cur S)) (hs : z_small (z_cur S)) {v : Int32} (hi : z_idx v (z_size (z_cur S)) = none) : w_S l G tX1_requireCell (7, 1, 6) [.ref x, .int v] M (w_is (.inr (z_IO, M.sz)) (M.push (.inr (21, [])))) := by
  have hg := h.2.1
  have hgc := hL.2.1
  obtain ⟨n1, n2, n3⟩ := z_idxL hs
  have hh := sp_hasCell (l := l) hL hs (x := v)
  rw [show (z_idx v (z_size (z_cur S))).isSome = false from by rw [hi]; rfl] at hh
  rw [if_neg (by decide)] at hh
  refine w_start (by decide) (Nat.le_of_ble_eq_true rfl) (fun X => ?_)
  refine wa_locals [(0, _), (1, _)] [0, 1] rfl ?_
  refine wa_aload_n 0 dX1_requireCell_0 rfl rfl ?_
  refine wa_getf dX1_requireCell_1 gX1_14 hg rfl ?_
  refine wa_iload_n 1 dX1_requireCell_4 rfl rfl ?_
  refine wc_isI (wr_V dX1_requireCell_5 mX1_102 hh hgc rfl rfl rfl (Nat.le_of_ble_eq_true rfl)) ?_
  refine wc_isx (wr_S dX1_requireCell_8 mX1_172 sp_requireIndexT rfl rfl rfl (Nat.le_of_ble_eq_true rfl)) ?_
  exact wx_out (fun _ h => by cases h) (Nat.le_of_ble_eq_true rfl) (Nat.le_of_ble_eq_true rfl) ⟨rfl, rfl⟩
theorem sp_getRobotY (h : z_sysL G M E x bl ba tx ca sv bas S) (hL : z_coreL G M P ca kd rl ol sg ra oa ras oas (z_cur S)) (hs : z_small (z_cur S)) {v : Int32} {k y : Nat} (hi : z_idx v (z_robs (z_cur S)).length = some k) (hy : ras[k]? = some y) {fs : List Value} (hob : M.get y = some (.inr (5, fs))) : w_S l G tX1_getRobot (7, 0, 0) [.ref x, .int v] M (w_is (.inl (some (.ref y))) M) := by
  have hg := h.2.1
  have hgc := hL.2.1
  obtain ⟨n1, n2, n3⟩ := z_idxL hs
  have hh := sp_hasRobot (l := l) hL hs (x := v)
  rw [show (z_idx v (z_robs (z_cur S)).length).isSome = true from by rw [hi]; rfl] at hh
  rw [if_pos rfl] at hh
  have hal := hL.2.2.2.2.1
  have hgl := hal.choose_spec.1
  have ev : v = nI k := z_idx_eq (by omega) hi
  subst ev
  refine w_start (by decide) (Nat.le_of_ble_eq_true rfl) (fun X => ?_)
  refine wa_locals [(0, _), (1, _)] [0, 1] rfl ?_
  refine wa_aload_n 0 dX1_getRobot_0 rfl rfl ?_
  refine wa_getf dX1_getRobot_1 gX1_14 hg rfl ?_
  refine wa_iload_n 1 dX1_getRobot_4 rfl rfl ?_
  refine wc_isI (wr_V dX1_getRobot_5 mX1_224 hh hgc rfl rfl rfl (Nat.le_of_ble_eq_true rfl)) ?_
  refine wc_isV (wr_S dX1_getRobot_8 mX1_172 sp_requireIndexN rfl rfl rfl (Nat.le_of_ble_eq_true rfl)) ?_
  refine wa_aload_n 0 dX1_getRobot_11 rfl rfl ?_
  refine wa_getf dX1_getRobot_12 gX1_14 hg rfl ?_
  refine wa_getf dX1_getRobot_15 gX1_227 hgc rfl ?_
  refine wa_iload_n 1 dX1_getRobot_18 rfl rfl ?_
  refine wc_isA (wr_V dX1_getRobot_19 mX1_230 (sp_get hal hy) hgl rfl rfl rfl (Nat.le_of_ble_eq_true rfl)) ?_
  refine wa_castS dX1_getRobot_22 q1200 hob rfl ?_
  refine wa_aret (FieldType.object "RobotAisles$Robot") dX1_getRobot_25 rfl rfl (Nat.le_of_ble_eq_true rfl) (Nat.le_of_ble_eq_true rfl) ?_
  exact ⟨rfl, rfl⟩
theorem sp_getRobotZ (h : z_sysL G M E x bl ba tx ca sv bas S) (hL : z_coreL G M P ca kd rl ol sg ra oa ras oas (z_cur S)) (hs : z_small (z_cur S)) {v : Int32} (hi : z_idx v (z_robs (z_cur S)).length = none) : w_S l G tX1_getRobot (7, 1, 6) [.ref x, .int v] M (w_is (.inr (z_IO, M.sz)) (M.push (.inr (21, [])))) := by
  have hg := h.2.1
  have hgc := hL.2.1
  obtain ⟨n1, n2, n3⟩ := z_idxL hs
  have hh := sp_hasRobot (l := l) hL hs (x := v)
  rw [show (z_idx v (z_robs (z_cur S)).length).isSome = false from by rw [hi]; rfl] at hh
  rw [if_neg (by decide)] at hh
  refine w_start (by decide) (Nat.le_of_ble_eq_true rfl) (fun X => ?_)
  refine wa_locals [(0, _), (1, _)] [0, 1] rfl ?_
  refine wa_aload_n 0 dX1_getRobot_0 rfl rfl ?_
  refine wa_getf dX1_getRobot_1 gX1_14 hg rfl ?_
  refine wa_iload_n 1 dX1_getRobot_4 rfl rfl ?_
  refine wc_isI (wr_V dX1_getRobot_5 mX1_224 hh hgc rfl rfl rfl (Nat.le_of_ble_eq_true rfl)) ?_
  refine wc_isx (wr_S dX1_getRobot_8 mX1_172 sp_requireIndexT rfl rfl rfl (Nat.le_of_ble_eq_true rfl)) ?_
  exact wx_out (fun _ h => by cases h) (Nat.le_of_ble_eq_true rfl) (Nat.le_of_ble_eq_true rfl) ⟨rfl, rfl⟩
theorem sp_getOrderY (h : z_sysL G M E x bl ba tx ca sv bas S) (hL : z_coreL G M P ca kd rl ol sg ra oa ras oas (z_cur S)) (hs : z_small (z_cur S)) {v : Int32} {k y : Nat} (hi : z_idx v (z_ords (z_cur S)).length = some k) (hy : oas[k]? = some y) {fs : List Value} (hob : M.get y = some (.inr (6, fs))) : w_S l G tX1_getOrder (7, 0, 0) [.ref x, .int v] M (w_is (.inl (some (.ref y))) M) := by
  have hg := h.2.1
  have hgc := hL.2.1
  obtain ⟨n1, n2, n3⟩ := z_idxL hs
  have hh := sp_hasOrder (l := l) hL hs (x := v)
  rw [show (z_idx v (z_ords (z_cur S)).length).isSome = true from by rw [hi]; rfl] at hh
  rw [if_pos rfl] at hh
  have hal := hL.2.2.2.2.2.1
  have hgl := hal.choose_spec.1
  have ev : v = nI k := z_idx_eq (by omega) hi
  subst ev
  refine w_start (by decide) (Nat.le_of_ble_eq_true rfl) (fun X => ?_)
  refine wa_locals [(0, _), (1, _)] [0, 1] rfl ?_
  refine wa_aload_n 0 dX1_getOrder_0 rfl rfl ?_
  refine wa_getf dX1_getOrder_1 gX1_14 hg rfl ?_
  refine wa_iload_n 1 dX1_getOrder_4 rfl rfl ?_
  refine wc_isI (wr_V dX1_getOrder_5 mX1_280 hh hgc rfl rfl rfl (Nat.le_of_ble_eq_true rfl)) ?_
  refine wc_isV (wr_S dX1_getOrder_8 mX1_172 sp_requireIndexN rfl rfl rfl (Nat.le_of_ble_eq_true rfl)) ?_
  refine wa_aload_n 0 dX1_getOrder_11 rfl rfl ?_
  refine wa_getf dX1_getOrder_12 gX1_14 hg rfl ?_
  refine wa_getf dX1_getOrder_15 gX1_283 hgc rfl ?_
  refine wa_iload_n 1 dX1_getOrder_18 rfl rfl ?_
  refine wc_isA (wr_V dX1_getOrder_19 mX1_230 (sp_get hal hy) hgl rfl rfl rfl (Nat.le_of_ble_eq_true rfl)) ?_
  refine wa_castS dX1_getOrder_22 q1548 hob rfl ?_
  refine wa_aret (FieldType.object "RobotAisles$Order") dX1_getOrder_25 rfl rfl (Nat.le_of_ble_eq_true rfl) (Nat.le_of_ble_eq_true rfl) ?_
  exact ⟨rfl, rfl⟩
theorem sp_getOrderZ (h : z_sysL G M E x bl ba tx ca sv bas S) (hL : z_coreL G M P ca kd rl ol sg ra oa ras oas (z_cur S)) (hs : z_small (z_cur S)) {v : Int32} (hi : z_idx v (z_ords (z_cur S)).length = none) : w_S l G tX1_getOrder (7, 1, 6) [.ref x, .int v] M (w_is (.inr (z_IO, M.sz)) (M.push (.inr (21, [])))) := by
  have hg := h.2.1
  have hgc := hL.2.1
  obtain ⟨n1, n2, n3⟩ := z_idxL hs
  have hh := sp_hasOrder (l := l) hL hs (x := v)
  rw [show (z_idx v (z_ords (z_cur S)).length).isSome = false from by rw [hi]; rfl] at hh
  rw [if_neg (by decide)] at hh
  refine w_start (by decide) (Nat.le_of_ble_eq_true rfl) (fun X => ?_)
  refine wa_locals [(0, _), (1, _)] [0, 1] rfl ?_
  refine wa_aload_n 0 dX1_getOrder_0 rfl rfl ?_
  refine wa_getf dX1_getOrder_1 gX1_14 hg rfl ?_
  refine wa_iload_n 1 dX1_getOrder_4 rfl rfl ?_
  refine wc_isI (wr_V dX1_getOrder_5 mX1_280 hh hgc rfl rfl rfl (Nat.le_of_ble_eq_true rfl)) ?_
  refine wc_isx (wr_S dX1_getOrder_8 mX1_172 sp_requireIndexT rfl rfl rfl (Nat.le_of_ble_eq_true rfl)) ?_
  exact wx_out (fun _ h => by cases h) (Nat.le_of_ble_eq_true rfl) (Nat.le_of_ble_eq_true rfl) ⟨rfl, rfl⟩
theorem sp_neighbors (h : z_sysL G M E x bl ba tx ca sv bas S) (hL : z_coreL G M P ca kd rl ol sg ra oa ras oas (z_cur S)) (hs : z_small (z_cur S)) {j : Nat} (hj : j < z_size (z_cur S)) : w_S l G tX1_neighbors (4, 0, 0) [.ref x, .int (nI j)] M (w_is (.inl (some (.int (nI (z_nbN (z_cur S) j 4))))) M) := by
  have hg := h.2.1
  have hgc := hL.2.1
  obtain ⟨n1, n2, n3⟩ := z_idxL hs
  refine w_start (by decide) (Nat.le_of_ble_eq_true rfl) (fun X => ?_)
  refine wa_locals [(0, _), (1, _)] [0, 1] rfl ?_
  have LP : ∀ (n u : Nat), u + n = 4 → w_A l G tX1_neighbors (4, 0, 0) X 0 0 M 4 [(3, .int (nI u)), (2, .int (nI (z_nbN (z_cur S) j u))), (0, .ref x), (1, .int (nI j))] [] (w_is (.inl (some (.int (nI (z_nbN (z_cur S) j 4))))) M) := by
    intro n
    induction n with
    | zero =>
      intro u hn
      have hu : u = 4 := by omega
      subst hu
      refine wa_iload_n 0 dX1_neighbors_4 rfl rfl ?_
      refine wa_iconst (4) dX1_neighbors_5 (by decide) ?_
      refine wa_icmp_ge 36 dX1_neighbors_6 rfl (fun c6 => ?_) (fun c6 => absurd (by decide) c6)
      refine wa_iload_n 1 dX1_neighbors_36 rfl rfl ?_
      refine wa_iret FieldType.int dX1_neighbors_37 rfl rfl (Nat.le_of_ble_eq_true rfl) (Nat.le_of_ble_eq_true rfl) ?_
      exact ⟨rfl, rfl⟩
    | succ n ih =>
      intro u hn
      have hxm := z_enc_m1 (g := z_nb (z_cur S) j u) (fun q hq => by have := z_by_lt hs hj ((z_by_n (show u < 4 by omega)).trans hq); omega)
      refine wa_iload_n 0 dX1_neighbors_4 rfl rfl ?_
      refine wa_iconst (4) dX1_neighbors_5 (by decide) ?_
      refine wa_icmp_ge 36 dX1_neighbors_6 rfl (fun c6 => absurd c6 (nI_lt_not (b := 4) (by omega) (by decide))) (fun c6 => ?_)
      refine wa_iload_n 1 dX1_neighbors_9 rfl rfl ?_
      refine wa_aload_n 2 dX1_neighbors_10 rfl rfl ?_
      refine wa_getf dX1_neighbors_11 gX1_14 hg rfl ?_
      refine wa_iload_n 3 dX1_neighbors_14 rfl rfl ?_
      refine wa_iload_n 0 dX1_neighbors_15 rfl rfl ?_
      refine wc_isI (wr_V dX1_neighbors_16 mX1_175 (sp_nb hL hs hj (by omega)) hgc rfl rfl rfl (Nat.le_of_ble_eq_true rfl)) ?_
      refine wa_iconst (-1) dX1_neighbors_19 (by decide) ?_
      refine wa_icmp_eq 27 dX1_neighbors_20 rfl (fun c20 => ?_) (fun c20 => ?_)
      ·
        have i1 := hxm.mp c20
        refine wa_iconst (0) dX1_neighbors_27 (by decide) ?_
        refine wa_iadd dX1_neighbors_28 ?_
        rw [Int32.add_zero]
        refine wa_istore_n [(2, _), (3, _), (0, _), (1, _)] dX1_neighbors_29 rfl (Nat.le_of_ble_eq_true rfl) rfl ?_
        refine wa_iinc 1 [(3, _), (2, _), (0, _), (1, _)] dX1_neighbors_30 rfl (w_inc u) (Nat.le_of_ble_eq_true rfl) rfl ?_
        refine wa_goto 4 dX1_neighbors_33 rfl ?_
        refine wa_locals [(3, _), (2, _), (0, _), (1, _)] [0, 1, 2, 3] rfl ?_
        have e : z_nbN (z_cur S) j (u + 1) = z_nbN (z_cur S) j u + 0 := by rw [z_nbN, if_pos i1]
        have := ih (u + 1) (by omega)
        rw [e] at this
        exact this
      ·
        have i1 : ¬ z_nb (z_cur S) j u = none := fun z => c20 (hxm.mpr z)
        refine wa_iconst (1) dX1_neighbors_23 (by decide) ?_
        refine wa_goto 28 dX1_neighbors_24 rfl ?_
        refine wa_iadd dX1_neighbors_28 ?_
        rw [nI_1]
        refine wa_istore_n [(2, _), (3, _), (0, _), (1, _)] dX1_neighbors_29 rfl (Nat.le_of_ble_eq_true rfl) rfl ?_
        refine wa_iinc 1 [(3, _), (2, _), (0, _), (1, _)] dX1_neighbors_30 rfl (w_inc u) (Nat.le_of_ble_eq_true rfl) rfl ?_
        refine wa_goto 4 dX1_neighbors_33 rfl ?_
        refine wa_locals [(3, _), (2, _), (0, _), (1, _)] [0, 1, 2, 3] rfl ?_
        have e : z_nbN (z_cur S) j (u + 1) = z_nbN (z_cur S) j u + 1 := by rw [z_nbN, if_neg i1]
        have := ih (u + 1) (by omega)
        rw [e] at this
        exact this
  refine wa_iconst (0) dX1_neighbors_0 (by decide) ?_
  refine wa_istore_n [(2, _), (0, _), (1, _)] dX1_neighbors_1 rfl (Nat.le_of_ble_eq_true rfl) rfl ?_
  refine wa_iconst (0) dX1_neighbors_2 (by decide) ?_
  refine wa_istore_n [(3, _), (2, _), (0, _), (1, _)] dX1_neighbors_3 rfl (Nat.le_of_ble_eq_true rfl) rfl ?_
  refine wa_locals [(3, _), (2, _), (0, _), (1, _)] [0, 1, 2, 3] rfl ?_
  exact LP 4 0 (by omega)
theorem sp_robotWith (h : z_sysL G M E x bl ba tx ca sv bas S) (hL : z_coreL G M P ca kd rl ol sg ra oa ras oas (z_cur S)) (hs : z_small (z_cur S)) {i : Nat} (hi : i < (z_ords (z_cur S)).length) : w_S l G tX1_robotWith (4, 0, 0) [.ref x, .int (nI i)] M (w_is (.inl (some (.int (z_enc (z_with (z_cur S) i))))) M) := by
  have hg := h.2.1
  have hgc := hL.2.1
  obtain ⟨n1, n2, n3⟩ := z_idxL hs
  have hal := hL.2.2.2.2.1
  have hgl := hal.choose_spec.1
  have hlen : ras.length = (z_robs (z_cur S)).length := hL.2.2.2.2.2.2.1
  refine w_start (by decide) (Nat.le_of_ble_eq_true rfl) (fun X => ?_)
  refine wa_locals [(0, _), (1, _)] [0, 1] rfl ?_
  have LP : ∀ (n k : Nat), k + n = (z_robs (z_cur S)).length → z_withFrom k ((z_robs (z_cur S)).drop k) i = z_with (z_cur S) i → w_A l G tX1_robotWith (4, 0, 0) X 0 0 M 2 [(2, .int (nI k)), (0, .ref x), (1, .int (nI i))] [] (w_is (.inl (some (.int (z_enc (z_with (z_cur S) i))))) M) := by
    intro n
    induction n with
    | zero =>
      intro k hn e
      refine wa_iload_n 0 dX1_robotWith_2 rfl rfl ?_
      refine wa_aload_n 1 dX1_robotWith_3 rfl rfl ?_
      refine wa_getf dX1_robotWith_4 gX1_14 hg rfl ?_
      refine wa_getf dX1_robotWith_7 gX1_227 hgc rfl ?_
      refine wc_isI (wr_V dX1_robotWith_10 mX1_68 (sp_size hal) hgl rfl rfl rfl (Nat.le_of_ble_eq_true rfl)) ?_
      refine wa_icmp_ge 45 dX1_robotWith_13 rfl (fun c13 => ?_) (fun c13 => absurd (nI_le (by omega) (by omega)) c13)
      refine wa_iconst (-1) dX1_robotWith_45 (by decide) ?_
      refine wa_iret FieldType.int dX1_robotWith_46 rfl rfl (Nat.le_of_ble_eq_true rfl) (Nat.le_of_ble_eq_true rfl) ?_
      exact ⟨by rw [← e, List.drop_eq_nil_of_le (by omega)]; rfl, rfl⟩
    | succ n ih =>
      intro k hn e
      obtain ⟨r, hr⟩ : ∃ r, (z_robs (z_cur S))[k]? = some r := ⟨_, List.getElem?_eq_getElem (by omega)⟩
      obtain ⟨y, hy, pv, hrp, hrn⟩ := z_robAt hL hr
      obtain ⟨dn, hpy, hob, hrest⟩ := id hrp
      have hho := (hs.2.2.2.2.2.2.1 r (List.mem_of_getElem? hr)).2.2.2
      rw [List.drop_eq_getElem_cons (by omega), (List.getElem?_eq_some_iff.mp hr).2, z_withFrom] at e
      refine wa_iload_n 0 dX1_robotWith_2 rfl rfl ?_
      refine wa_aload_n 1 dX1_robotWith_3 rfl rfl ?_
      refine wa_getf dX1_robotWith_4 gX1_14 hg rfl ?_
      refine wa_getf dX1_robotWith_7 gX1_227 hgc rfl ?_
      refine wc_isI (wr_V dX1_robotWith_10 mX1_68 (sp_size hal) hgl rfl rfl rfl (Nat.le_of_ble_eq_true rfl)) ?_
      refine wa_icmp_ge 45 dX1_robotWith_13 rfl (fun c13 => absurd c13 (nI_lt_not (by omega) (by omega))) (fun c13 => ?_)
      refine wa_aload_n 1 dX1_robotWith_16 rfl rfl ?_
      refine wa_getf dX1_robotWith_17 gX1_14 hg rfl ?_
      refine wa_getf dX1_robotWith_20 gX1_227 hgc rfl ?_
      refine wa_iload_n 0 dX1_robotWith_23 rfl rfl ?_
      refine wc_isA (wr_V dX1_robotWith_24 mX1_230 (sp_get hal hy) hgl rfl rfl rfl (Nat.le_of_ble_eq_true rfl)) ?_
      refine wa_castS dX1_robotWith_27 q1200 hob rfl ?_
      refine wa_getf dX1_robotWith_30 gX1_245 hob rfl ?_
      refine wa_iload_n 2 dX1_robotWith_33 rfl rfl ?_
      refine wa_icmp_ne 39 dX1_robotWith_34 rfl (fun c34 => ?_) (fun c34 => ?_)
      ·
        refine wa_iinc 0 [(2, _), (0, _), (1, _)] dX1_robotWith_39 rfl (w_inc k) (Nat.le_of_ble_eq_true rfl) rfl ?_
        refine wa_goto 2 dX1_robotWith_42 rfl ?_
        have i1 : ¬ z_has r = some i := fun z => c34 (by rw [z]; rfl)
        rw [if_neg i1] at e
        exact ih (k + 1) (by omega) e
      ·
        refine wa_iload_n 0 dX1_robotWith_37 rfl rfl ?_
        refine wa_iret FieldType.int dX1_robotWith_38 rfl rfl (Nat.le_of_ble_eq_true rfl) (Nat.le_of_ble_eq_true rfl) ?_
        have i1 := z_encS (fun q hq => by have := hho q hq; omega) (by omega) c34
        rw [if_pos i1] at e
        exact ⟨by rw [← e]; rfl, rfl⟩
  refine wa_iconst (0) dX1_robotWith_0 (by decide) ?_
  refine wa_istore_n [(2, _), (0, _), (1, _)] dX1_robotWith_1 rfl (Nat.le_of_ble_eq_true rfl) rfl ?_
  refine wa_locals [(2, _), (0, _), (1, _)] [0, 1, 2] rfl ?_
  exact LP _ 0 (Nat.zero_add _) rfl
theorem sp_X1_cell (hS : z_sys G M E x bl tx S) (hs : z_small (z_cur S)) {v w : Int32} : w_S l G tX1_cell (9, 1, 6) [.ref x, .int v, .int w] M (z_anQ G E x bl tx M S (z_ask [z_IO, z_IA] S (z_cellA (z_cur S) v w))) := by
  have hS0 := hS
  obtain ⟨ba, ca, sv, bas, h⟩ := hS
  have hg := h.2.1
  obtain ⟨kd, rl, ol, sg, ra, oa, ras, oas, hL⟩ := h.2.2.1
  have hgc := hL.2.1
  obtain ⟨n1, n2, n3⟩ := z_idxL hs
  have hsz := hs.size
  cases i1 : z_idx v (z_size (z_cur S)) with
  | none =>
    have hr : z_cellA (z_cur S) v w = .inr 1 := by simp only [z_cellA, i1]
    refine w_start (by decide) (Nat.le_of_ble_eq_true rfl) (fun X => ?_)
    refine wa_locals [(0, _), (1, _), (2, _)] [0, 1, 2] rfl ?_
    refine wa_aload_n 0 dX1_cell_0 rfl rfl ?_
    refine wa_iload_n 1 dX1_cell_1 rfl rfl ?_
    refine wc_isx (wr_V dX1_cell_2 mX1_178 (sp_requireCellZ h hL hs i1) hg rfl rfl rfl (Nat.le_of_ble_eq_true rfl)) ?_
    exact wx_out (fun _ h => by cases h) (Nat.le_of_ble_eq_true rfl) (Nat.le_of_ble_eq_true rfl) (z_anN hS0 ((congrArg (z_ask _ S) hr).trans rfl) w_fr.rf.push)
  | some j =>
    have hj := z_idx_lt n3 i1
    have ev := z_idx_eq n3 i1
    subst ev
    cases i2 : z_idx w 4 with
    | none =>
      have hr : z_cellA (z_cur S) (nI j) w = .inr 2 := by simp only [z_cellA, i1, i2]
      refine w_start (by decide) (Nat.le_of_ble_eq_true rfl) (fun X => ?_)
      refine wa_locals [(0, _), (1, _), (2, _)] [0, 1, 2] rfl ?_
      refine wa_aload_n 0 dX1_cell_0 rfl rfl ?_
      refine wa_iload_n 1 dX1_cell_1 rfl rfl ?_
      refine wc_isV (wr_V dX1_cell_2 mX1_178 (sp_requireCellY h hL hs i1) hg rfl rfl rfl (Nat.le_of_ble_eq_true rfl)) ?_
      refine wa_iload_n 2 dX1_cell_5 rfl rfl ?_
      refine wa_iconst (0) dX1_cell_6 (by decide) ?_
      refine wa_iconst (3) dX1_cell_7 (by decide) ?_
      refine wc_isI (wr_S dX1_cell_8 mX1_182 (sp_betweenZ (z_btwZ (by decide) i2 (by decide))) rfl rfl rfl (Nat.le_of_ble_eq_true rfl)) ?_
      refine wc_isx (wr_S dX1_cell_11 mX1_186 sp_requireArgumentT rfl rfl rfl (Nat.le_of_ble_eq_true rfl)) ?_
      exact wx_out (fun _ h => by cases h) (Nat.le_of_ble_eq_true rfl) (Nat.le_of_ble_eq_true rfl) (z_anN hS0 ((congrArg (z_ask _ S) hr).trans rfl) w_fr.rf.push)
    | some m =>
      have hm := z_idx_lt (by decide) i2
      have ew := z_idx_eq (by decide) i2
      subst ew
      obtain ⟨f, hk1, hk2⟩ := hL.2.2.1
      rcases (show m = 0 ∨ m = 1 ∨ m = 2 ∨ m = 3 by omega) with rfl | rfl | rfl | rfl
      · have hr : z_cellA (z_cur S) (nI j) (nI 0) = .inl (z_kinds (z_cur S) j) := by simp only [z_cellA, i1, i2]
        refine w_start (by decide) (Nat.le_of_ble_eq_true rfl) (fun X => ?_)
        refine wa_locals [(0, _), (1, _), (2, _)] [0, 1, 2] rfl ?_
        refine wa_aload_n 0 dX1_cell_0 rfl rfl ?_
        refine wa_iload_n 1 dX1_cell_1 rfl rfl ?_
        refine wc_isV (wr_V dX1_cell_2 mX1_178 (sp_requireCellY h hL hs i1) hg rfl rfl rfl (Nat.le_of_ble_eq_true rfl)) ?_
        refine wa_iload_n 2 dX1_cell_5 rfl rfl ?_
        refine wa_iconst (0) dX1_cell_6 (by decide) ?_
        refine wa_iconst (3) dX1_cell_7 (by decide) ?_
        refine wc_isI (wr_S dX1_cell_8 mX1_182 (sp_betweenY (by decide)) rfl rfl rfl (Nat.le_of_ble_eq_true rfl)) ?_
        refine wc_isV (wr_S dX1_cell_11 mX1_186 sp_requireArgumentN rfl rfl rfl (Nat.le_of_ble_eq_true rfl)) ?_
        refine wa_iload_n 2 dX1_cell_14 rfl rfl ?_
        refine wa_tableIn 40 dX1_cell_15 (by decide) (by decide) rfl rfl ?_
        refine wa_aload_n 0 dX1_cell_40 rfl rfl ?_
        refine wa_getf dX1_cell_41 gX1_14 hg rfl ?_
        refine wa_getf dX1_cell_44 gX1_189 hgc rfl ?_
        refine wa_iload_n 1 dX1_cell_47 rfl rfl ?_
        refine wa_iald dX1_cell_48 hk1 (vp_in_nI hj (by omega)) ?_
        rw [nI_clamp (by omega), hk2 j hj]
        refine wa_iret FieldType.int dX1_cell_49 rfl rfl (Nat.le_of_ble_eq_true rfl) (Nat.le_of_ble_eq_true rfl) ?_
        exact z_anY hS0 ((congrArg (z_ask _ S) hr).trans rfl) w_fr.rf
      · have hr : z_cellA (z_cur S) (nI j) (nI 1) = .inl (if z_free (z_cur S) j = true then 1 else 0) := by simp only [z_cellA, i1, i2]
        refine w_start (by decide) (Nat.le_of_ble_eq_true rfl) (fun X => ?_)
        refine wa_locals [(0, _), (1, _), (2, _)] [0, 1, 2] rfl ?_
        refine wa_aload_n 0 dX1_cell_0 rfl rfl ?_
        refine wa_iload_n 1 dX1_cell_1 rfl rfl ?_
        refine wc_isV (wr_V dX1_cell_2 mX1_178 (sp_requireCellY h hL hs i1) hg rfl rfl rfl (Nat.le_of_ble_eq_true rfl)) ?_
        refine wa_iload_n 2 dX1_cell_5 rfl rfl ?_
        refine wa_iconst (0) dX1_cell_6 (by decide) ?_
        refine wa_iconst (3) dX1_cell_7 (by decide) ?_
        refine wc_isI (wr_S dX1_cell_8 mX1_182 (sp_betweenY (by decide)) rfl rfl rfl (Nat.le_of_ble_eq_true rfl)) ?_
        refine wc_isV (wr_S dX1_cell_11 mX1_186 sp_requireArgumentN rfl rfl rfl (Nat.le_of_ble_eq_true rfl)) ?_
        refine wa_iload_n 2 dX1_cell_14 rfl rfl ?_
        refine wa_tableIn 50 dX1_cell_15 (by decide) (by decide) rfl rfl ?_
        refine wa_aload_n 0 dX1_cell_50 rfl rfl ?_
        refine wa_getf dX1_cell_51 gX1_14 hg rfl ?_
        refine wa_iload_n 1 dX1_cell_54 rfl rfl ?_
        refine wc_isI (wr_V dX1_cell_55 mX1_192 (sp_isFree hL hs hj) hgc rfl rfl rfl (Nat.le_of_ble_eq_true rfl)) ?_
        refine wa_if_eq 65 dX1_cell_58 rfl (fun c58 => ?_) (fun c58 => ?_)
        ·
          refine wa_iconst (0) dX1_cell_65 (by decide) ?_
          refine wa_iret FieldType.int dX1_cell_66 rfl rfl (Nat.le_of_ble_eq_true rfl) (Nat.le_of_ble_eq_true rfl) ?_
          rw [if_neg (z_n c58)] at hr
          exact z_anY hS0 ((congrArg (z_ask _ S) hr).trans rfl) w_fr.rf
        ·
          refine wa_iconst (1) dX1_cell_61 (by decide) ?_
          refine wa_goto 66 dX1_cell_62 rfl ?_
          refine wa_iret FieldType.int dX1_cell_66 rfl rfl (Nat.le_of_ble_eq_true rfl) (Nat.le_of_ble_eq_true rfl) ?_
          rw [if_pos (z_y c58)] at hr
          exact z_anY hS0 ((congrArg (z_ask _ S) hr).trans rfl) w_fr.rf
      · have hr : z_cellA (z_cur S) (nI j) (nI 2) = .inl (z_enc (z_robotAt (z_cur S) j 0 (-1))) := by simp only [z_cellA, i1, i2]
        refine w_start (by decide) (Nat.le_of_ble_eq_true rfl) (fun X => ?_)
        refine wa_locals [(0, _), (1, _), (2, _)] [0, 1, 2] rfl ?_
        refine wa_aload_n 0 dX1_cell_0 rfl rfl ?_
        refine wa_iload_n 1 dX1_cell_1 rfl rfl ?_
        refine wc_isV (wr_V dX1_cell_2 mX1_178 (sp_requireCellY h hL hs i1) hg rfl rfl rfl (Nat.le_of_ble_eq_true rfl)) ?_
        refine wa_iload_n 2 dX1_cell_5 rfl rfl ?_
        refine wa_iconst (0) dX1_cell_6 (by decide) ?_
        refine wa_iconst (3) dX1_cell_7 (by decide) ?_
        refine wc_isI (wr_S dX1_cell_8 mX1_182 (sp_betweenY (by decide)) rfl rfl rfl (Nat.le_of_ble_eq_true rfl)) ?_
        refine wc_isV (wr_S dX1_cell_11 mX1_186 sp_requireArgumentN rfl rfl rfl (Nat.le_of_ble_eq_true rfl)) ?_
        refine wa_iload_n 2 dX1_cell_14 rfl rfl ?_
        refine wa_tableIn 67 dX1_cell_15 (by decide) (by decide) rfl rfl ?_
        refine wa_aload_n 0 dX1_cell_67 rfl rfl ?_
        refine wa_getf dX1_cell_68 gX1_14 hg rfl ?_
        refine wa_iload_n 1 dX1_cell_71 rfl rfl ?_
        refine wa_iconst (0) dX1_cell_72 (by decide) ?_
        refine wa_iconst (-1) dX1_cell_73 (by decide) ?_
        refine wc_isI (wr_V dX1_cell_74 mX1_195 (sp_robotAt (t := 0) hL hs (by omega) (by decide)) hgc rfl rfl rfl (Nat.le_of_ble_eq_true rfl)) ?_
        refine wa_iret FieldType.int dX1_cell_77 rfl rfl (Nat.le_of_ble_eq_true rfl) (Nat.le_of_ble_eq_true rfl) ?_
        exact z_anY hS0 ((congrArg (z_ask _ S) hr).trans rfl) w_fr.rf
      · have hr : z_cellA (z_cur S) (nI j) (nI 3) = .inl (nI (z_nbN (z_cur S) j 4)) := by simp only [z_cellA, i1, i2]
        refine w_start (by decide) (Nat.le_of_ble_eq_true rfl) (fun X => ?_)
        refine wa_locals [(0, _), (1, _), (2, _)] [0, 1, 2] rfl ?_
        refine wa_aload_n 0 dX1_cell_0 rfl rfl ?_
        refine wa_iload_n 1 dX1_cell_1 rfl rfl ?_
        refine wc_isV (wr_V dX1_cell_2 mX1_178 (sp_requireCellY h hL hs i1) hg rfl rfl rfl (Nat.le_of_ble_eq_true rfl)) ?_
        refine wa_iload_n 2 dX1_cell_5 rfl rfl ?_
        refine wa_iconst (0) dX1_cell_6 (by decide) ?_
        refine wa_iconst (3) dX1_cell_7 (by decide) ?_
        refine wc_isI (wr_S dX1_cell_8 mX1_182 (sp_betweenY (by decide)) rfl rfl rfl (Nat.le_of_ble_eq_true rfl)) ?_
        refine wc_isV (wr_S dX1_cell_11 mX1_186 sp_requireArgumentN rfl rfl rfl (Nat.le_of_ble_eq_true rfl)) ?_
        refine wa_iload_n 2 dX1_cell_14 rfl rfl ?_
        refine wa_tableOut 78 dX1_cell_15 (by decide) rfl ?_
        refine wa_aload_n 0 dX1_cell_78 rfl rfl ?_
        refine wa_iload_n 1 dX1_cell_79 rfl rfl ?_
        refine wc_isI (wr_V dX1_cell_80 mX1_199 (sp_neighbors h hL hs hj) hg rfl rfl rfl (Nat.le_of_ble_eq_true rfl)) ?_
        refine wa_iret FieldType.int dX1_cell_83 rfl rfl (Nat.le_of_ble_eq_true rfl) (Nat.le_of_ble_eq_true rfl) ?_
        exact z_anY hS0 ((congrArg (z_ask _ S) hr).trans rfl) w_fr.rf
theorem z_last30 {r : z_R} (h : z_plan r ≠ []) (h30 : (z_plan r).length ≤ 30) : (z_plan r)[(z_plan r).length - 1]? = some (z_ahead r 30) := by
  have hp : 0 < (z_plan r).length := List.length_pos_iff.mpr h
  unfold z_ahead
  rw [if_neg (by decide), Nat.min_eq_right h30, List.getD_eq_getElem?_getD, List.getElem?_eq_getElem (by omega)]
  rfl
theorem sp_X1_robotOf (hS : z_sys G M E x bl tx S) (hs : z_small (z_cur S)) {v w : Int32} : w_S l G tX1_robotOf (9, 1, 6) [.ref x, .int v, .int w] M (z_anQ G E x bl tx M S (z_ask [z_IO, z_IA] S (z_robotOfA (z_cur S) v w))) := by
  have hS0 := hS
  obtain ⟨ba, ca, sv, bas, h⟩ := hS
  have hg := h.2.1
  obtain ⟨kd, rl, ol, sg, ra, oa, ras, oas, hL⟩ := h.2.2.1
  have hgc := hL.2.1
  obtain ⟨n1, n2, n3⟩ := z_idxL hs
  have hsz := hs.size
  cases i1 : z_idx v (z_robs (z_cur S)).length with
  | none =>
    have hr : z_robotOfA (z_cur S) v w = .inr 1 := by simp only [z_robotOfA, i1]
    refine w_start (by decide) (Nat.le_of_ble_eq_true rfl) (fun X => ?_)
    refine wa_locals [(0, _), (1, _), (2, _)] [0, 1, 2] rfl ?_
    refine wa_aload_n 0 dX1_robotOf_0 rfl rfl ?_
    refine wa_iload_n 1 dX1_robotOf_1 rfl rfl ?_
    refine wc_isx (wr_V dX1_robotOf_2 mX1_235 (sp_getRobotZ h hL hs i1) hg rfl rfl rfl (Nat.le_of_ble_eq_true rfl)) ?_
    exact wx_out (fun _ h => by cases h) (Nat.le_of_ble_eq_true rfl) (Nat.le_of_ble_eq_true rfl) (z_anN hS0 ((congrArg (z_ask _ S) hr).trans rfl) w_fr.rf.push)
  | some k =>
    have hk := z_idx_lt n1 i1
    have ev := z_idx_eq n1 i1
    subst ev
    obtain ⟨r, hrr⟩ : ∃ r, (z_robs (z_cur S))[k]? = some r := ⟨_, List.getElem?_eq_getElem hk⟩
    obtain ⟨y, hy, pv, hrp, hrn⟩ := z_robAt hL hrr
    obtain ⟨dn, hpy, hob, hrest⟩ := id hrp
    have hsm := hs.2.2.2.2.2.2.1 r (List.mem_of_getElem? hrr)
    cases i2 : z_idx w 7 with
    | none =>
      have hr : z_robotOfA (z_cur S) (nI k) w = .inr 2 := by simp only [z_robotOfA, i1, hrr, i2]
      refine w_start (by decide) (Nat.le_of_ble_eq_true rfl) (fun X => ?_)
      refine wa_locals [(0, _), (1, _), (2, _)] [0, 1, 2] rfl ?_
      refine wa_aload_n 0 dX1_robotOf_0 rfl rfl ?_
      refine wa_iload_n 1 dX1_robotOf_1 rfl rfl ?_
      refine wc_isA (wr_V dX1_robotOf_2 mX1_235 (sp_getRobotY h hL hs i1 hy hob) hg rfl rfl rfl (Nat.le_of_ble_eq_true rfl)) ?_
      refine wa_astore_n [(3, _), (0, _), (1, _), (2, _)] dX1_robotOf_5 rfl (Nat.le_of_ble_eq_true rfl) rfl ?_
      refine wa_iload_n 3 dX1_robotOf_6 rfl rfl ?_
      refine wa_iconst (0) dX1_robotOf_7 (by decide) ?_
      refine wa_bipush (6) dX1_robotOf_8 (by decide) ?_
      refine wc_isI (wr_S dX1_robotOf_10 mX1_182 (sp_betweenZ (z_btwZ (by decide) i2 (by decide))) rfl rfl rfl (Nat.le_of_ble_eq_true rfl)) ?_
      refine wc_isx (wr_S dX1_robotOf_13 mX1_186 sp_requireArgumentT rfl rfl rfl (Nat.le_of_ble_eq_true rfl)) ?_
      exact wx_out (fun _ h => by cases h) (Nat.le_of_ble_eq_true rfl) (Nat.le_of_ble_eq_true rfl) (z_anN hS0 ((congrArg (z_ask _ S) hr).trans rfl) w_fr.rf.push)
    | some m =>
      have hm := z_idx_lt (by decide) i2
      have ew := z_idx_eq (by decide) i2
      subst ew
      rcases (show m = 0 ∨ m = 1 ∨ m = 2 ∨ m = 3 ∨ m = 4 ∨ m = 5 ∨ m = 6 by omega) with rfl | rfl | rfl | rfl | rfl | rfl | rfl
      · have hr : z_robotOfA (z_cur S) (nI k) (nI 0) = .inl (nI (z_cell r)) := by simp only [z_robotOfA, i1, hrr, i2]
        refine w_start (by decide) (Nat.le_of_ble_eq_true rfl) (fun X => ?_)
        refine wa_locals [(0, _), (1, _), (2, _)] [0, 1, 2] rfl ?_
        refine wa_aload_n 0 dX1_robotOf_0 rfl rfl ?_
        refine wa_iload_n 1 dX1_robotOf_1 rfl rfl ?_
        refine wc_isA (wr_V dX1_robotOf_2 mX1_235 (sp_getRobotY h hL hs i1 hy hob) hg rfl rfl rfl (Nat.le_of_ble_eq_true rfl)) ?_
        refine wa_astore_n [(3, _), (0, _), (1, _), (2, _)] dX1_robotOf_5 rfl (Nat.le_of_ble_eq_true rfl) rfl ?_
        refine wa_iload_n 3 dX1_robotOf_6 rfl rfl ?_
        refine wa_iconst (0) dX1_robotOf_7 (by decide) ?_
        refine wa_bipush (6) dX1_robotOf_8 (by decide) ?_
        refine wc_isI (wr_S dX1_robotOf_10 mX1_182 (sp_betweenY (by decide)) rfl rfl rfl (Nat.le_of_ble_eq_true rfl)) ?_
        refine wc_isV (wr_S dX1_robotOf_13 mX1_186 sp_requireArgumentN rfl rfl rfl (Nat.le_of_ble_eq_true rfl)) ?_
        refine wa_iload_n 3 dX1_robotOf_16 rfl rfl ?_
        refine wa_tableIn 56 dX1_robotOf_17 (by decide) (by decide) rfl rfl ?_
        refine wa_aload_n 0 dX1_robotOf_56 rfl rfl ?_
        refine wa_getf dX1_robotOf_57 gX1_239 hob rfl ?_
        refine wa_iret FieldType.int dX1_robotOf_60 rfl rfl (Nat.le_of_ble_eq_true rfl) (Nat.le_of_ble_eq_true rfl) ?_
        exact z_anY hS0 ((congrArg (z_ask _ S) hr).trans rfl) w_fr.rf
      · have hr : z_robotOfA (z_cur S) (nI k) (nI 1) = .inl (z_batt r) := by simp only [z_robotOfA, i1, hrr, i2]
        refine w_start (by decide) (Nat.le_of_ble_eq_true rfl) (fun X => ?_)
        refine wa_locals [(0, _), (1, _), (2, _)] [0, 1, 2] rfl ?_
        refine wa_aload_n 0 dX1_robotOf_0 rfl rfl ?_
        refine wa_iload_n 1 dX1_robotOf_1 rfl rfl ?_
        refine wc_isA (wr_V dX1_robotOf_2 mX1_235 (sp_getRobotY h hL hs i1 hy hob) hg rfl rfl rfl (Nat.le_of_ble_eq_true rfl)) ?_
        refine wa_astore_n [(3, _), (0, _), (1, _), (2, _)] dX1_robotOf_5 rfl (Nat.le_of_ble_eq_true rfl) rfl ?_
        refine wa_iload_n 3 dX1_robotOf_6 rfl rfl ?_
        refine wa_iconst (0) dX1_robotOf_7 (by decide) ?_
        refine wa_bipush (6) dX1_robotOf_8 (by decide) ?_
        refine wc_isI (wr_S dX1_robotOf_10 mX1_182 (sp_betweenY (by decide)) rfl rfl rfl (Nat.le_of_ble_eq_true rfl)) ?_
        refine wc_isV (wr_S dX1_robotOf_13 mX1_186 sp_requireArgumentN rfl rfl rfl (Nat.le_of_ble_eq_true rfl)) ?_
        refine wa_iload_n 3 dX1_robotOf_16 rfl rfl ?_
        refine wa_tableIn 61 dX1_robotOf_17 (by decide) (by decide) rfl rfl ?_
        refine wa_aload_n 0 dX1_robotOf_61 rfl rfl ?_
        refine wa_getf dX1_robotOf_62 gX1_242 hob rfl ?_
        refine wa_iret FieldType.int dX1_robotOf_65 rfl rfl (Nat.le_of_ble_eq_true rfl) (Nat.le_of_ble_eq_true rfl) ?_
        exact z_anY hS0 ((congrArg (z_ask _ S) hr).trans rfl) w_fr.rf
      · have hr : z_robotOfA (z_cur S) (nI k) (nI 2) = .inl (z_enc (z_has r)) := by simp only [z_robotOfA, i1, hrr, i2]
        refine w_start (by decide) (Nat.le_of_ble_eq_true rfl) (fun X => ?_)
        refine wa_locals [(0, _), (1, _), (2, _)] [0, 1, 2] rfl ?_
        refine wa_aload_n 0 dX1_robotOf_0 rfl rfl ?_
        refine wa_iload_n 1 dX1_robotOf_1 rfl rfl ?_
        refine wc_isA (wr_V dX1_robotOf_2 mX1_235 (sp_getRobotY h hL hs i1 hy hob) hg rfl rfl rfl (Nat.le_of_ble_eq_true rfl)) ?_
        refine wa_astore_n [(3, _), (0, _), (1, _), (2, _)] dX1_robotOf_5 rfl (Nat.le_of_ble_eq_true rfl) rfl ?_
        refine wa_iload_n 3 dX1_robotOf_6 rfl rfl ?_
        refine wa_iconst (0) dX1_robotOf_7 (by decide) ?_
        refine wa_bipush (6) dX1_robotOf_8 (by decide) ?_
        refine wc_isI (wr_S dX1_robotOf_10 mX1_182 (sp_betweenY (by decide)) rfl rfl rfl (Nat.le_of_ble_eq_true rfl)) ?_
        refine wc_isV (wr_S dX1_robotOf_13 mX1_186 sp_requireArgumentN rfl rfl rfl (Nat.le_of_ble_eq_true rfl)) ?_
        refine wa_iload_n 3 dX1_robotOf_16 rfl rfl ?_
        refine wa_tableIn 66 dX1_robotOf_17 (by decide) (by decide) rfl rfl ?_
        refine wa_aload_n 0 dX1_robotOf_66 rfl rfl ?_
        refine wa_getf dX1_robotOf_67 gX1_245 hob rfl ?_
        refine wa_iret FieldType.int dX1_robotOf_70 rfl rfl (Nat.le_of_ble_eq_true rfl) (Nat.le_of_ble_eq_true rfl) ?_
        exact z_anY hS0 ((congrArg (z_ask _ S) hr).trans rfl) w_fr.rf
      · have hr : z_robotOfA (z_cur S) (nI k) (nI 3) = .inl (nI (z_plan r).length) := by simp only [z_robotOfA, i1, hrr, i2]
        refine w_start (by decide) (Nat.le_of_ble_eq_true rfl) (fun X => ?_)
        refine wa_locals [(0, _), (1, _), (2, _)] [0, 1, 2] rfl ?_
        refine wa_aload_n 0 dX1_robotOf_0 rfl rfl ?_
        refine wa_iload_n 1 dX1_robotOf_1 rfl rfl ?_
        refine wc_isA (wr_V dX1_robotOf_2 mX1_235 (sp_getRobotY h hL hs i1 hy hob) hg rfl rfl rfl (Nat.le_of_ble_eq_true rfl)) ?_
        refine wa_astore_n [(3, _), (0, _), (1, _), (2, _)] dX1_robotOf_5 rfl (Nat.le_of_ble_eq_true rfl) rfl ?_
        refine wa_iload_n 3 dX1_robotOf_6 rfl rfl ?_
        refine wa_iconst (0) dX1_robotOf_7 (by decide) ?_
        refine wa_bipush (6) dX1_robotOf_8 (by decide) ?_
        refine wc_isI (wr_S dX1_robotOf_10 mX1_182 (sp_betweenY (by decide)) rfl rfl rfl (Nat.le_of_ble_eq_true rfl)) ?_
        refine wc_isV (wr_S dX1_robotOf_13 mX1_186 sp_requireArgumentN rfl rfl rfl (Nat.le_of_ble_eq_true rfl)) ?_
        refine wa_iload_n 3 dX1_robotOf_16 rfl rfl ?_
        refine wa_tableIn 71 dX1_robotOf_17 (by decide) (by decide) rfl rfl ?_
        refine wa_aload_n 0 dX1_robotOf_71 rfl rfl ?_
        refine wc_isI (wr_V dX1_robotOf_72 mX1_247 (sp_ticksLeft hrp) hob rfl rfl rfl (Nat.le_of_ble_eq_true rfl)) ?_
        refine wa_iret FieldType.int dX1_robotOf_75 rfl rfl (Nat.le_of_ble_eq_true rfl) (Nat.le_of_ble_eq_true rfl) ?_
        exact z_anY hS0 ((congrArg (z_ask _ S) hr).trans rfl) w_fr.rf
      · have hr : z_robotOfA (z_cur S) (nI k) (nI 4) = .inl (if z_plan r = [] then -1 else nI (z_ahead r 30)) := by simp only [z_robotOfA, i1, hrr, i2]
        cases pv with
        | none =>
          rw [if_pos (hrn.mp rfl)] at hr
          refine w_start (by decide) (Nat.le_of_ble_eq_true rfl) (fun X => ?_)
          refine wa_locals [(0, _), (1, _), (2, _)] [0, 1, 2] rfl ?_
          refine wa_aload_n 0 dX1_robotOf_0 rfl rfl ?_
          refine wa_iload_n 1 dX1_robotOf_1 rfl rfl ?_
          refine wc_isA (wr_V dX1_robotOf_2 mX1_235 (sp_getRobotY h hL hs i1 hy hob) hg rfl rfl rfl (Nat.le_of_ble_eq_true rfl)) ?_
          refine wa_astore_n [(3, _), (0, _), (1, _), (2, _)] dX1_robotOf_5 rfl (Nat.le_of_ble_eq_true rfl) rfl ?_
          refine wa_iload_n 3 dX1_robotOf_6 rfl rfl ?_
          refine wa_iconst (0) dX1_robotOf_7 (by decide) ?_
          refine wa_bipush (6) dX1_robotOf_8 (by decide) ?_
          refine wc_isI (wr_S dX1_robotOf_10 mX1_182 (sp_betweenY (by decide)) rfl rfl rfl (Nat.le_of_ble_eq_true rfl)) ?_
          refine wc_isV (wr_S dX1_robotOf_13 mX1_186 sp_requireArgumentN rfl rfl rfl (Nat.le_of_ble_eq_true rfl)) ?_
          refine wa_iload_n 3 dX1_robotOf_16 rfl rfl ?_
          refine wa_tableIn 76 dX1_robotOf_17 (by decide) (by decide) rfl rfl ?_
          refine wa_aload_n 0 dX1_robotOf_76 rfl rfl ?_
          refine wc_isI (wr_V dX1_robotOf_77 mX1_250 (sp_hasPlan hrp) hob rfl rfl rfl (Nat.le_of_ble_eq_true rfl)) ?_
          refine wa_if_eq 98 dX1_robotOf_80 rfl (fun c80 => ?_) (fun c80 => absurd rfl c80)
          refine wa_iconst (-1) dX1_robotOf_98 (by decide) ?_
          refine wa_iret FieldType.int dX1_robotOf_99 rfl rfl (Nat.le_of_ble_eq_true rfl) (Nat.le_of_ble_eq_true rfl) ?_
          exact z_anY hS0 ((congrArg (z_ask _ S) hr).trans rfl) w_fr.rf
        | some pa =>
          have hpne : ¬ z_plan r = [] := fun q => by have := hrn.mpr q; cases this
          rw [if_neg hpne] at hr
          obtain ⟨h4, m, d, f, hpa, edn, hd1, hd2, hd3, hd4⟩ := hrest
          have hp0 : 0 < (z_plan r).length := List.length_pos_iff.mpr hpne
          have hlast := hd4 _ _ (z_last30 hpne hsm.2.2.1)
          rw [show d + ((z_plan r).length - 1) = m - 1 by omega] at hlast
          have em : nI m - 1 = nI (m - 1) := by
            obtain ⟨m2, hm2⟩ : ∃ m2, m = m2 + 1 := ⟨m - 1, by omega⟩
            rw [hm2]
            exact nI_pred m2
          refine w_start (by decide) (Nat.le_of_ble_eq_true rfl) (fun X => ?_)
          refine wa_locals [(0, _), (1, _), (2, _)] [0, 1, 2] rfl ?_
          refine wa_aload_n 0 dX1_robotOf_0 rfl rfl ?_
          refine wa_iload_n 1 dX1_robotOf_1 rfl rfl ?_
          refine wc_isA (wr_V dX1_robotOf_2 mX1_235 (sp_getRobotY h hL hs i1 hy hob) hg rfl rfl rfl (Nat.le_of_ble_eq_true rfl)) ?_
          refine wa_astore_n [(3, _), (0, _), (1, _), (2, _)] dX1_robotOf_5 rfl (Nat.le_of_ble_eq_true rfl) rfl ?_
          refine wa_iload_n 3 dX1_robotOf_6 rfl rfl ?_
          refine wa_iconst (0) dX1_robotOf_7 (by decide) ?_
          refine wa_bipush (6) dX1_robotOf_8 (by decide) ?_
          refine wc_isI (wr_S dX1_robotOf_10 mX1_182 (sp_betweenY (by decide)) rfl rfl rfl (Nat.le_of_ble_eq_true rfl)) ?_
          refine wc_isV (wr_S dX1_robotOf_13 mX1_186 sp_requireArgumentN rfl rfl rfl (Nat.le_of_ble_eq_true rfl)) ?_
          refine wa_iload_n 3 dX1_robotOf_16 rfl rfl ?_
          refine wa_tableIn 76 dX1_robotOf_17 (by decide) (by decide) rfl rfl ?_
          refine wa_aload_n 0 dX1_robotOf_76 rfl rfl ?_
          refine wc_isI (wr_V dX1_robotOf_77 mX1_250 (sp_hasPlan hrp) hob rfl rfl rfl (Nat.le_of_ble_eq_true rfl)) ?_
          refine wa_if_eq 98 dX1_robotOf_80 rfl (fun c80 => absurd (z_nN c80) (fun z => by cases z)) (fun c80 => ?_)
          refine wa_aload_n 0 dX1_robotOf_83 rfl rfl ?_
          refine wa_getf dX1_robotOf_84 gX1_254 hob rfl ?_
          refine wa_aload_n 0 dX1_robotOf_87 rfl rfl ?_
          refine wa_getf dX1_robotOf_88 gX1_254 hob rfl ?_
          refine wa_alen 0 dX1_robotOf_91 hpa rfl ?_
          refine wa_iconst (1) dX1_robotOf_92 (by decide) ?_
          refine wa_isub dX1_robotOf_93 ?_
          rw [em]
          refine wa_iald dX1_robotOf_94 hpa (vp_in_nI (by omega) (by omega)) ?_
          rw [nI_clamp (by omega), hlast]
          refine wa_goto 99 dX1_robotOf_95 rfl ?_
          refine wa_iret FieldType.int dX1_robotOf_99 rfl rfl (Nat.le_of_ble_eq_true rfl) (Nat.le_of_ble_eq_true rfl) ?_
          exact z_anY hS0 ((congrArg (z_ask _ S) hr).trans rfl) w_fr.rf
      · have hr : z_robotOfA (z_cur S) (nI k) (nI 5) = .inl (if z_loaded (z_cur S) r = true then 1 else 0) := by simp only [z_robotOfA, i1, hrr, i2]
        refine w_start (by decide) (Nat.le_of_ble_eq_true rfl) (fun X => ?_)
        refine wa_locals [(0, _), (1, _), (2, _)] [0, 1, 2] rfl ?_
        refine wa_aload_n 0 dX1_robotOf_0 rfl rfl ?_
        refine wa_iload_n 1 dX1_robotOf_1 rfl rfl ?_
        refine wc_isA (wr_V dX1_robotOf_2 mX1_235 (sp_getRobotY h hL hs i1 hy hob) hg rfl rfl rfl (Nat.le_of_ble_eq_true rfl)) ?_
        refine wa_astore_n [(3, _), (0, _), (1, _), (2, _)] dX1_robotOf_5 rfl (Nat.le_of_ble_eq_true rfl) rfl ?_
        refine wa_iload_n 3 dX1_robotOf_6 rfl rfl ?_
        refine wa_iconst (0) dX1_robotOf_7 (by decide) ?_
        refine wa_bipush (6) dX1_robotOf_8 (by decide) ?_
        refine wc_isI (wr_S dX1_robotOf_10 mX1_182 (sp_betweenY (by decide)) rfl rfl rfl (Nat.le_of_ble_eq_true rfl)) ?_
        refine wc_isV (wr_S dX1_robotOf_13 mX1_186 sp_requireArgumentN rfl rfl rfl (Nat.le_of_ble_eq_true rfl)) ?_
        refine wa_iload_n 3 dX1_robotOf_16 rfl rfl ?_
        refine wa_tableIn 100 dX1_robotOf_17 (by decide) (by decide) rfl rfl ?_
        refine wa_aload_n 1 dX1_robotOf_100 rfl rfl ?_
        refine wa_getf dX1_robotOf_101 gX1_14 hg rfl ?_
        refine wa_iload_n 2 dX1_robotOf_104 rfl rfl ?_
        refine wc_isI (wr_V dX1_robotOf_105 mX1_257 (sp_isLoaded hL hs hrr) hgc rfl rfl rfl (Nat.le_of_ble_eq_true rfl)) ?_
        refine wa_if_eq 115 dX1_robotOf_108 rfl (fun c108 => ?_) (fun c108 => ?_)
        ·
          refine wa_iconst (0) dX1_robotOf_115 (by decide) ?_
          refine wa_iret FieldType.int dX1_robotOf_116 rfl rfl (Nat.le_of_ble_eq_true rfl) (Nat.le_of_ble_eq_true rfl) ?_
          rw [if_neg (z_n c108)] at hr
          exact z_anY hS0 ((congrArg (z_ask _ S) hr).trans rfl) w_fr.rf
        ·
          refine wa_iconst (1) dX1_robotOf_111 (by decide) ?_
          refine wa_goto 116 dX1_robotOf_112 rfl ?_
          refine wa_iret FieldType.int dX1_robotOf_116 rfl rfl (Nat.le_of_ble_eq_true rfl) (Nat.le_of_ble_eq_true rfl) ?_
          rw [if_pos (z_y c108)] at hr
          exact z_anY hS0 ((congrArg (z_ask _ S) hr).trans rfl) w_fr.rf
      · have hr : z_robotOfA (z_cur S) (nI k) (nI 6) = .inl (z_steps r) := by simp only [z_robotOfA, i1, hrr, i2]
        refine w_start (by decide) (Nat.le_of_ble_eq_true rfl) (fun X => ?_)
        refine wa_locals [(0, _), (1, _), (2, _)] [0, 1, 2] rfl ?_
        refine wa_aload_n 0 dX1_robotOf_0 rfl rfl ?_
        refine wa_iload_n 1 dX1_robotOf_1 rfl rfl ?_
        refine wc_isA (wr_V dX1_robotOf_2 mX1_235 (sp_getRobotY h hL hs i1 hy hob) hg rfl rfl rfl (Nat.le_of_ble_eq_true rfl)) ?_
        refine wa_astore_n [(3, _), (0, _), (1, _), (2, _)] dX1_robotOf_5 rfl (Nat.le_of_ble_eq_true rfl) rfl ?_
        refine wa_iload_n 3 dX1_robotOf_6 rfl rfl ?_
        refine wa_iconst (0) dX1_robotOf_7 (by decide) ?_
        refine wa_bipush (6) dX1_robotOf_8 (by decide) ?_
        refine wc_isI (wr_S dX1_robotOf_10 mX1_182 (sp_betweenY (by decide)) rfl rfl rfl (Nat.le_of_ble_eq_true rfl)) ?_
        refine wc_isV (wr_S dX1_robotOf_13 mX1_186 sp_requireArgumentN rfl rfl rfl (Nat.le_of_ble_eq_true rfl)) ?_
        refine wa_iload_n 3 dX1_robotOf_16 rfl rfl ?_
        refine wa_tableOut 117 dX1_robotOf_17 (by decide) rfl ?_
        refine wa_aload_n 0 dX1_robotOf_117 rfl rfl ?_
        refine wa_getf dX1_robotOf_118 gX1_260 hob rfl ?_
        refine wa_iret FieldType.int dX1_robotOf_121 rfl rfl (Nat.le_of_ble_eq_true rfl) (Nat.le_of_ble_eq_true rfl) ?_
        exact z_anY hS0 ((congrArg (z_ask _ S) hr).trans rfl) w_fr.rf
theorem sp_X1_planned (hS : z_sys G M E x bl tx S) (hs : z_small (z_cur S)) {v w : Int32} : w_S l G tX1_planned (9, 1, 6) [.ref x, .int v, .int w] M (z_anQ G E x bl tx M S (z_ask [z_IO, z_IA] S (z_plannedA (z_cur S) v w))) := by
  have hS0 := hS
  obtain ⟨ba, ca, sv, bas, h⟩ := hS
  have hg := h.2.1
  obtain ⟨kd, rl, ol, sg, ra, oa, ras, oas, hL⟩ := h.2.2.1
  have hgc := hL.2.1
  obtain ⟨n1, n2, n3⟩ := z_idxL hs
  have hsz := hs.size
  cases i1 : z_idx v (z_robs (z_cur S)).length with
  | none =>
    have hr : z_plannedA (z_cur S) v w = .inr 1 := by simp only [z_plannedA, i1]
    refine w_start (by decide) (Nat.le_of_ble_eq_true rfl) (fun X => ?_)
    refine wa_locals [(0, _), (1, _), (2, _)] [0, 1, 2] rfl ?_
    refine wa_aload_n 0 dX1_planned_0 rfl rfl ?_
    refine wa_iload_n 1 dX1_planned_1 rfl rfl ?_
    refine wc_isx (wr_V dX1_planned_2 mX1_235 (sp_getRobotZ h hL hs i1) hg rfl rfl rfl (Nat.le_of_ble_eq_true rfl)) ?_
    exact wx_out (fun _ h => by cases h) (Nat.le_of_ble_eq_true rfl) (Nat.le_of_ble_eq_true rfl) (z_anN hS0 ((congrArg (z_ask _ S) hr).trans rfl) w_fr.rf.push)
  | some k =>
    have hk := z_idx_lt n1 i1
    have ev := z_idx_eq n1 i1
    subst ev
    obtain ⟨r, hrr⟩ : ∃ r, (z_robs (z_cur S))[k]? = some r := ⟨_, List.getElem?_eq_getElem hk⟩
    obtain ⟨y, hy, pv, hrp, hrn⟩ := z_robAt hL hrr
    obtain ⟨dn, hpy, hob, hrest⟩ := id hrp
    have hsm := hs.2.2.2.2.2.2.1 r (List.mem_of_getElem? hrr)
    refine w_start (by decide) (Nat.le_of_ble_eq_true rfl) (fun X => ?_)
    refine wa_locals [(0, _), (1, _), (2, _)] [0, 1, 2] rfl ?_
    refine wa_aload_n 0 dX1_planned_0 rfl rfl ?_
    refine wa_iload_n 1 dX1_planned_1 rfl rfl ?_
    refine wc_isA (wr_V dX1_planned_2 mX1_235 (sp_getRobotY h hL hs i1 hy hob) hg rfl rfl rfl (Nat.le_of_ble_eq_true rfl)) ?_
    refine wa_astore_n [(3, _), (0, _), (1, _), (2, _)] dX1_planned_5 rfl (Nat.le_of_ble_eq_true rfl) rfl ?_
    refine wa_iload_n 3 dX1_planned_6 rfl rfl ?_
    refine wa_if_lt 14 dX1_planned_7 rfl (fun c7 => ?_) (fun c7 => ?_)
    ·
      have hr : z_plannedA (z_cur S) (nI k) w = .inr 2 := by simp only [z_plannedA, i1, hrr, if_neg (Int32.not_le.mpr c7)]
      refine wa_iconst (0) dX1_planned_14 (by decide) ?_
      refine wc_isx (wr_S dX1_planned_15 mX1_186 sp_requireArgumentT rfl rfl rfl (Nat.le_of_ble_eq_true rfl)) ?_
      exact wx_out (fun _ h => by cases h) (Nat.le_of_ble_eq_true rfl) (Nat.le_of_ble_eq_true rfl) (z_anN hS0 ((congrArg (z_ask _ S) hr).trans rfl) w_fr.rf.push)
    ·
      have i2 : 0 ≤ w := Int32.not_lt.mp c7
      obtain ⟨m, hm, rfl⟩ := nI_of c7
      have hr : z_plannedA (z_cur S) (nI k) (nI m) = .inl (nI (z_ahead r m)) := by simp only [z_plannedA, i1, hrr, if_pos i2]; rw [nI_clamp hm]
      refine wa_iconst (1) dX1_planned_10 (by decide) ?_
      refine wa_goto 15 dX1_planned_11 rfl ?_
      refine wc_isV (wr_S dX1_planned_15 mX1_186 sp_requireArgumentN rfl rfl rfl (Nat.le_of_ble_eq_true rfl)) ?_
      refine wa_aload_n 0 dX1_planned_18 rfl rfl ?_
      refine wa_iload_n 3 dX1_planned_19 rfl rfl ?_
      refine wc_isI (wr_V dX1_planned_20 mX1_263 (sp_cellAhead hrp hrn hm) hob rfl rfl rfl (Nat.le_of_ble_eq_true rfl)) ?_
      refine wa_iret FieldType.int dX1_planned_23 rfl rfl (Nat.le_of_ble_eq_true rfl) (Nat.le_of_ble_eq_true rfl) ?_
      exact z_anY hS0 ((congrArg (z_ask _ S) hr).trans rfl) w_fr.rf
theorem sp_X1_reserved (hS : z_sys G M E x bl tx S) (hs : z_small (z_cur S)) {v w : Int32} : w_S l G tX1_reserved (9, 1, 6) [.ref x, .int v, .int w] M (z_anQ G E x bl tx M S (z_ask [z_IO, z_IA] S (z_reservedA (z_cur S) v w))) := by
  have hS0 := hS
  obtain ⟨ba, ca, sv, bas, h⟩ := hS
  have hg := h.2.1
  obtain ⟨kd, rl, ol, sg, ra, oa, ras, oas, hL⟩ := h.2.2.1
  have hgc := hL.2.1
  obtain ⟨n1, n2, n3⟩ := z_idxL hs
  have hsz := hs.size
  cases i1 : z_idx v (z_size (z_cur S)) with
  | none =>
    have hr : z_reservedA (z_cur S) v w = .inr 1 := by simp only [z_reservedA, i1]
    refine w_start (by decide) (Nat.le_of_ble_eq_true rfl) (fun X => ?_)
    refine wa_locals [(0, _), (1, _), (2, _)] [0, 1, 2] rfl ?_
    refine wa_aload_n 0 dX1_reserved_0 rfl rfl ?_
    refine wa_iload_n 1 dX1_reserved_1 rfl rfl ?_
    refine wc_isx (wr_V dX1_reserved_2 mX1_178 (sp_requireCellZ h hL hs i1) hg rfl rfl rfl (Nat.le_of_ble_eq_true rfl)) ?_
    exact wx_out (fun _ h => by cases h) (Nat.le_of_ble_eq_true rfl) (Nat.le_of_ble_eq_true rfl) (z_anN hS0 ((congrArg (z_ask _ S) hr).trans rfl) w_fr.rf.push)
  | some j =>
    have hj := z_idx_lt n3 i1
    have ev := z_idx_eq n3 i1
    subst ev
    refine w_start (by decide) (Nat.le_of_ble_eq_true rfl) (fun X => ?_)
    refine wa_locals [(0, _), (1, _), (2, _)] [0, 1, 2] rfl ?_
    refine wa_aload_n 0 dX1_reserved_0 rfl rfl ?_
    refine wa_iload_n 1 dX1_reserved_1 rfl rfl ?_
    refine wc_isV (wr_V dX1_reserved_2 mX1_178 (sp_requireCellY h hL hs i1) hg rfl rfl rfl (Nat.le_of_ble_eq_true rfl)) ?_
    refine wa_iload_n 2 dX1_reserved_5 rfl rfl ?_
    refine wa_if_lt 13 dX1_reserved_6 rfl (fun c6 => ?_) (fun c6 => ?_)
    ·
      have hr : z_reservedA (z_cur S) (nI j) w = .inr 2 := by simp only [z_reservedA, i1, if_neg (Int32.not_le.mpr c6)]
      refine wa_iconst (0) dX1_reserved_13 (by decide) ?_
      refine wc_isx (wr_S dX1_reserved_14 mX1_186 sp_requireArgumentT rfl rfl rfl (Nat.le_of_ble_eq_true rfl)) ?_
      exact wx_out (fun _ h => by cases h) (Nat.le_of_ble_eq_true rfl) (Nat.le_of_ble_eq_true rfl) (z_anN hS0 ((congrArg (z_ask _ S) hr).trans rfl) w_fr.rf.push)
    ·
      have i2 : 0 ≤ w := Int32.not_lt.mp c6
      obtain ⟨m, hm, rfl⟩ := nI_of c6
      have hr : z_reservedA (z_cur S) (nI j) (nI m) = .inl (z_enc (z_robotAt (z_cur S) j m (-1))) := by simp only [z_reservedA, i1, if_pos i2]; rw [nI_clamp hm]
      refine wa_iconst (1) dX1_reserved_9 (by decide) ?_
      refine wa_goto 14 dX1_reserved_10 rfl ?_
      refine wc_isV (wr_S dX1_reserved_14 mX1_186 sp_requireArgumentN rfl rfl rfl (Nat.le_of_ble_eq_true rfl)) ?_
      refine wa_aload_n 0 dX1_reserved_17 rfl rfl ?_
      refine wa_getf dX1_reserved_18 gX1_14 hg rfl ?_
      refine wa_iload_n 1 dX1_reserved_21 rfl rfl ?_
      refine wa_iload_n 2 dX1_reserved_22 rfl rfl ?_
      refine wa_iconst (-1) dX1_reserved_23 (by decide) ?_
      refine wc_isI (wr_V dX1_reserved_24 mX1_195 (sp_robotAt hL hs (by omega) hm) hgc rfl rfl rfl (Nat.le_of_ble_eq_true rfl)) ?_
      refine wa_iret FieldType.int dX1_reserved_27 rfl rfl (Nat.le_of_ble_eq_true rfl) (Nat.le_of_ble_eq_true rfl) ?_
      exact z_anY hS0 ((congrArg (z_ask _ S) hr).trans rfl) w_fr.rf
theorem sp_X1_orderOf (hS : z_sys G M E x bl tx S) (hs : z_small (z_cur S)) {v w : Int32} : w_S l G tX1_orderOf (9, 1, 6) [.ref x, .int v, .int w] M (z_anQ G E x bl tx M S (z_ask [z_IO, z_IA] S (z_orderOfA (z_cur S) v w))) := by
  have hS0 := hS
  obtain ⟨ba, ca, sv, bas, h⟩ := hS
  have hg := h.2.1
  obtain ⟨kd, rl, ol, sg, ra, oa, ras, oas, hL⟩ := h.2.2.1
  have hgc := hL.2.1
  obtain ⟨n1, n2, n3⟩ := z_idxL hs
  have hsz := hs.size
  cases i1 : z_idx v (z_ords (z_cur S)).length with
  | none =>
    have hr : z_orderOfA (z_cur S) v w = .inr 1 := by simp only [z_orderOfA, i1]
    refine w_start (by decide) (Nat.le_of_ble_eq_true rfl) (fun X => ?_)
    refine wa_locals [(0, _), (1, _), (2, _)] [0, 1, 2] rfl ?_
    refine wa_aload_n 0 dX1_orderOf_0 rfl rfl ?_
    refine wa_iload_n 1 dX1_orderOf_1 rfl rfl ?_
    refine wc_isx (wr_V dX1_orderOf_2 mX1_288 (sp_getOrderZ h hL hs i1) hg rfl rfl rfl (Nat.le_of_ble_eq_true rfl)) ?_
    exact wx_out (fun _ h => by cases h) (Nat.le_of_ble_eq_true rfl) (Nat.le_of_ble_eq_true rfl) (z_anN hS0 ((congrArg (z_ask _ S) hr).trans rfl) w_fr.rf.push)
  | some i =>
    have hi := z_idx_lt n2 i1
    have ev := z_idx_eq n2 i1
    subst ev
    obtain ⟨o, hoo⟩ : ∃ o, (z_ords (z_cur S))[i]? = some o := ⟨_, List.getElem?_eq_getElem hi⟩
    obtain ⟨y, hy, hor⟩ := z_ordAt hL hoo
    obtain ⟨la, hp1, hp2, hob, f, hla, hlf⟩ := id hor
    have hsm := hs.2.2.2.2.2.2.2 o (List.mem_of_getElem? hoo)
    cases i2 : z_idx w 6 with
    | none =>
      have hr : z_orderOfA (z_cur S) (nI i) w = .inr 2 := by simp only [z_orderOfA, i1, hoo, i2]
      refine w_start (by decide) (Nat.le_of_ble_eq_true rfl) (fun X => ?_)
      refine wa_locals [(0, _), (1, _), (2, _)] [0, 1, 2] rfl ?_
      refine wa_aload_n 0 dX1_orderOf_0 rfl rfl ?_
      refine wa_iload_n 1 dX1_orderOf_1 rfl rfl ?_
      refine wc_isA (wr_V dX1_orderOf_2 mX1_288 (sp_getOrderY h hL hs i1 hy hob) hg rfl rfl rfl (Nat.le_of_ble_eq_true rfl)) ?_
      refine wa_astore_n [(3, _), (0, _), (1, _), (2, _)] dX1_orderOf_5 rfl (Nat.le_of_ble_eq_true rfl) rfl ?_
      refine wa_iload_n 3 dX1_orderOf_6 rfl rfl ?_
      refine wa_iconst (0) dX1_orderOf_7 (by decide) ?_
      refine wa_iconst (5) dX1_orderOf_8 (by decide) ?_
      refine wc_isI (wr_S dX1_orderOf_9 mX1_182 (sp_betweenZ (z_btwZ (by decide) i2 (by decide))) rfl rfl rfl (Nat.le_of_ble_eq_true rfl)) ?_
      refine wc_isx (wr_S dX1_orderOf_12 mX1_186 sp_requireArgumentT rfl rfl rfl (Nat.le_of_ble_eq_true rfl)) ?_
      exact wx_out (fun _ h => by cases h) (Nat.le_of_ble_eq_true rfl) (Nat.le_of_ble_eq_true rfl) (z_anN hS0 ((congrArg (z_ask _ S) hr).trans rfl) w_fr.rf.push)
    | some m =>
      have hm := z_idx_lt (by decide) i2
      have ew := z_idx_eq (by decide) i2
      subst ew
      rcases (show m = 0 ∨ m = 1 ∨ m = 2 ∨ m = 3 ∨ m = 4 ∨ m = 5 by omega) with rfl | rfl | rfl | rfl | rfl | rfl
      · have hr : z_orderOfA (z_cur S) (nI i) (nI 0) = .inl (z_due o) := by simp only [z_orderOfA, i1, hoo, i2]
        refine w_start (by decide) (Nat.le_of_ble_eq_true rfl) (fun X => ?_)
        refine wa_locals [(0, _), (1, _), (2, _)] [0, 1, 2] rfl ?_
        refine wa_aload_n 0 dX1_orderOf_0 rfl rfl ?_
        refine wa_iload_n 1 dX1_orderOf_1 rfl rfl ?_
        refine wc_isA (wr_V dX1_orderOf_2 mX1_288 (sp_getOrderY h hL hs i1 hy hob) hg rfl rfl rfl (Nat.le_of_ble_eq_true rfl)) ?_
        refine wa_astore_n [(3, _), (0, _), (1, _), (2, _)] dX1_orderOf_5 rfl (Nat.le_of_ble_eq_true rfl) rfl ?_
        refine wa_iload_n 3 dX1_orderOf_6 rfl rfl ?_
        refine wa_iconst (0) dX1_orderOf_7 (by decide) ?_
        refine wa_iconst (5) dX1_orderOf_8 (by decide) ?_
        refine wc_isI (wr_S dX1_orderOf_9 mX1_182 (sp_betweenY (by decide)) rfl rfl rfl (Nat.le_of_ble_eq_true rfl)) ?_
        refine wc_isV (wr_S dX1_orderOf_12 mX1_186 sp_requireArgumentN rfl rfl rfl (Nat.le_of_ble_eq_true rfl)) ?_
        refine wa_iload_n 3 dX1_orderOf_15 rfl rfl ?_
        refine wa_tableIn 52 dX1_orderOf_16 (by decide) (by decide) rfl rfl ?_
        refine wa_aload_n 0 dX1_orderOf_52 rfl rfl ?_
        refine wa_getf dX1_orderOf_53 gX1_292 hob rfl ?_
        refine wa_iret FieldType.int dX1_orderOf_56 rfl rfl (Nat.le_of_ble_eq_true rfl) (Nat.le_of_ble_eq_true rfl) ?_
        exact z_anY hS0 ((congrArg (z_ask _ S) hr).trans rfl) w_fr.rf
      · have hr : z_orderOfA (z_cur S) (nI i) (nI 1) = .inl (nI (z_lines o).length) := by simp only [z_orderOfA, i1, hoo, i2]
        refine w_start (by decide) (Nat.le_of_ble_eq_true rfl) (fun X => ?_)
        refine wa_locals [(0, _), (1, _), (2, _)] [0, 1, 2] rfl ?_
        refine wa_aload_n 0 dX1_orderOf_0 rfl rfl ?_
        refine wa_iload_n 1 dX1_orderOf_1 rfl rfl ?_
        refine wc_isA (wr_V dX1_orderOf_2 mX1_288 (sp_getOrderY h hL hs i1 hy hob) hg rfl rfl rfl (Nat.le_of_ble_eq_true rfl)) ?_
        refine wa_astore_n [(3, _), (0, _), (1, _), (2, _)] dX1_orderOf_5 rfl (Nat.le_of_ble_eq_true rfl) rfl ?_
        refine wa_iload_n 3 dX1_orderOf_6 rfl rfl ?_
        refine wa_iconst (0) dX1_orderOf_7 (by decide) ?_
        refine wa_iconst (5) dX1_orderOf_8 (by decide) ?_
        refine wc_isI (wr_S dX1_orderOf_9 mX1_182 (sp_betweenY (by decide)) rfl rfl rfl (Nat.le_of_ble_eq_true rfl)) ?_
        refine wc_isV (wr_S dX1_orderOf_12 mX1_186 sp_requireArgumentN rfl rfl rfl (Nat.le_of_ble_eq_true rfl)) ?_
        refine wa_iload_n 3 dX1_orderOf_15 rfl rfl ?_
        refine wa_tableIn 57 dX1_orderOf_16 (by decide) (by decide) rfl rfl ?_
        refine wa_aload_n 0 dX1_orderOf_57 rfl rfl ?_
        refine wa_getf dX1_orderOf_58 gX1_295 hob rfl ?_
        refine wa_alen 0 dX1_orderOf_61 hla rfl ?_
        refine wa_iret FieldType.int dX1_orderOf_62 rfl rfl (Nat.le_of_ble_eq_true rfl) (Nat.le_of_ble_eq_true rfl) ?_
        exact z_anY hS0 ((congrArg (z_ask _ S) hr).trans rfl) w_fr.rf
      · have hr : z_orderOfA (z_cur S) (nI i) (nI 2) = .inl (nI (z_picked o)) := by simp only [z_orderOfA, i1, hoo, i2]
        refine w_start (by decide) (Nat.le_of_ble_eq_true rfl) (fun X => ?_)
        refine wa_locals [(0, _), (1, _), (2, _)] [0, 1, 2] rfl ?_
        refine wa_aload_n 0 dX1_orderOf_0 rfl rfl ?_
        refine wa_iload_n 1 dX1_orderOf_1 rfl rfl ?_
        refine wc_isA (wr_V dX1_orderOf_2 mX1_288 (sp_getOrderY h hL hs i1 hy hob) hg rfl rfl rfl (Nat.le_of_ble_eq_true rfl)) ?_
        refine wa_astore_n [(3, _), (0, _), (1, _), (2, _)] dX1_orderOf_5 rfl (Nat.le_of_ble_eq_true rfl) rfl ?_
        refine wa_iload_n 3 dX1_orderOf_6 rfl rfl ?_
        refine wa_iconst (0) dX1_orderOf_7 (by decide) ?_
        refine wa_iconst (5) dX1_orderOf_8 (by decide) ?_
        refine wc_isI (wr_S dX1_orderOf_9 mX1_182 (sp_betweenY (by decide)) rfl rfl rfl (Nat.le_of_ble_eq_true rfl)) ?_
        refine wc_isV (wr_S dX1_orderOf_12 mX1_186 sp_requireArgumentN rfl rfl rfl (Nat.le_of_ble_eq_true rfl)) ?_
        refine wa_iload_n 3 dX1_orderOf_15 rfl rfl ?_
        refine wa_tableIn 63 dX1_orderOf_16 (by decide) (by decide) rfl rfl ?_
        refine wa_aload_n 0 dX1_orderOf_63 rfl rfl ?_
        refine wa_getf dX1_orderOf_64 gX1_298 hob rfl ?_
        refine wa_iret FieldType.int dX1_orderOf_67 rfl rfl (Nat.le_of_ble_eq_true rfl) (Nat.le_of_ble_eq_true rfl) ?_
        exact z_anY hS0 ((congrArg (z_ask _ S) hr).trans rfl) w_fr.rf
      · have hr : z_orderOfA (z_cur S) (nI i) (nI 3) = .inl (nI (z_state o)) := by simp only [z_orderOfA, i1, hoo, i2]
        refine w_start (by decide) (Nat.le_of_ble_eq_true rfl) (fun X => ?_)
        refine wa_locals [(0, _), (1, _), (2, _)] [0, 1, 2] rfl ?_
        refine wa_aload_n 0 dX1_orderOf_0 rfl rfl ?_
        refine wa_iload_n 1 dX1_orderOf_1 rfl rfl ?_
        refine wc_isA (wr_V dX1_orderOf_2 mX1_288 (sp_getOrderY h hL hs i1 hy hob) hg rfl rfl rfl (Nat.le_of_ble_eq_true rfl)) ?_
        refine wa_astore_n [(3, _), (0, _), (1, _), (2, _)] dX1_orderOf_5 rfl (Nat.le_of_ble_eq_true rfl) rfl ?_
        refine wa_iload_n 3 dX1_orderOf_6 rfl rfl ?_
        refine wa_iconst (0) dX1_orderOf_7 (by decide) ?_
        refine wa_iconst (5) dX1_orderOf_8 (by decide) ?_
        refine wc_isI (wr_S dX1_orderOf_9 mX1_182 (sp_betweenY (by decide)) rfl rfl rfl (Nat.le_of_ble_eq_true rfl)) ?_
        refine wc_isV (wr_S dX1_orderOf_12 mX1_186 sp_requireArgumentN rfl rfl rfl (Nat.le_of_ble_eq_true rfl)) ?_
        refine wa_iload_n 3 dX1_orderOf_15 rfl rfl ?_
        refine wa_tableIn 68 dX1_orderOf_16 (by decide) (by decide) rfl rfl ?_
        refine wa_aload_n 0 dX1_orderOf_68 rfl rfl ?_
        refine wa_getf dX1_orderOf_69 gX1_301 hob rfl ?_
        refine wa_iret FieldType.int dX1_orderOf_72 rfl rfl (Nat.le_of_ble_eq_true rfl) (Nat.le_of_ble_eq_true rfl) ?_
        exact z_anY hS0 ((congrArg (z_ask _ S) hr).trans rfl) w_fr.rf
      · have hr : z_orderOfA (z_cur S) (nI i) (nI 4) = .inl (z_enc (z_with (z_cur S) i)) := by simp only [z_orderOfA, i1, hoo, i2]
        refine w_start (by decide) (Nat.le_of_ble_eq_true rfl) (fun X => ?_)
        refine wa_locals [(0, _), (1, _), (2, _)] [0, 1, 2] rfl ?_
        refine wa_aload_n 0 dX1_orderOf_0 rfl rfl ?_
        refine wa_iload_n 1 dX1_orderOf_1 rfl rfl ?_
        refine wc_isA (wr_V dX1_orderOf_2 mX1_288 (sp_getOrderY h hL hs i1 hy hob) hg rfl rfl rfl (Nat.le_of_ble_eq_true rfl)) ?_
        refine wa_astore_n [(3, _), (0, _), (1, _), (2, _)] dX1_orderOf_5 rfl (Nat.le_of_ble_eq_true rfl) rfl ?_
        refine wa_iload_n 3 dX1_orderOf_6 rfl rfl ?_
        refine wa_iconst (0) dX1_orderOf_7 (by decide) ?_
        refine wa_iconst (5) dX1_orderOf_8 (by decide) ?_
        refine wc_isI (wr_S dX1_orderOf_9 mX1_182 (sp_betweenY (by decide)) rfl rfl rfl (Nat.le_of_ble_eq_true rfl)) ?_
        refine wc_isV (wr_S dX1_orderOf_12 mX1_186 sp_requireArgumentN rfl rfl rfl (Nat.le_of_ble_eq_true rfl)) ?_
        refine wa_iload_n 3 dX1_orderOf_15 rfl rfl ?_
        refine wa_tableIn 73 dX1_orderOf_16 (by decide) (by decide) rfl rfl ?_
        refine wa_aload_n 1 dX1_orderOf_73 rfl rfl ?_
        refine wa_iload_n 2 dX1_orderOf_74 rfl rfl ?_
        refine wc_isI (wr_V dX1_orderOf_75 mX1_304 (sp_robotWith h hL hs hi) hg rfl rfl rfl (Nat.le_of_ble_eq_true rfl)) ?_
        refine wa_iret FieldType.int dX1_orderOf_78 rfl rfl (Nat.le_of_ble_eq_true rfl) (Nat.le_of_ble_eq_true rfl) ?_
        exact z_anY hS0 ((congrArg (z_ask _ S) hr).trans rfl) w_fr.rf
      · have hr : z_orderOfA (z_cur S) (nI i) (nI 5) = .inl (z_del o) := by simp only [z_orderOfA, i1, hoo, i2]
        refine w_start (by decide) (Nat.le_of_ble_eq_true rfl) (fun X => ?_)
        refine wa_locals [(0, _), (1, _), (2, _)] [0, 1, 2] rfl ?_
        refine wa_aload_n 0 dX1_orderOf_0 rfl rfl ?_
        refine wa_iload_n 1 dX1_orderOf_1 rfl rfl ?_
        refine wc_isA (wr_V dX1_orderOf_2 mX1_288 (sp_getOrderY h hL hs i1 hy hob) hg rfl rfl rfl (Nat.le_of_ble_eq_true rfl)) ?_
        refine wa_astore_n [(3, _), (0, _), (1, _), (2, _)] dX1_orderOf_5 rfl (Nat.le_of_ble_eq_true rfl) rfl ?_
        refine wa_iload_n 3 dX1_orderOf_6 rfl rfl ?_
        refine wa_iconst (0) dX1_orderOf_7 (by decide) ?_
        refine wa_iconst (5) dX1_orderOf_8 (by decide) ?_
        refine wc_isI (wr_S dX1_orderOf_9 mX1_182 (sp_betweenY (by decide)) rfl rfl rfl (Nat.le_of_ble_eq_true rfl)) ?_
        refine wc_isV (wr_S dX1_orderOf_12 mX1_186 sp_requireArgumentN rfl rfl rfl (Nat.le_of_ble_eq_true rfl)) ?_
        refine wa_iload_n 3 dX1_orderOf_15 rfl rfl ?_
        refine wa_tableOut 79 dX1_orderOf_16 (by decide) rfl ?_
        refine wa_aload_n 0 dX1_orderOf_79 rfl rfl ?_
        refine wa_getf dX1_orderOf_80 gX1_307 hob rfl ?_
        refine wa_iret FieldType.int dX1_orderOf_83 rfl rfl (Nat.le_of_ble_eq_true rfl) (Nat.le_of_ble_eq_true rfl) ?_
        exact z_anY hS0 ((congrArg (z_ask _ S) hr).trans rfl) w_fr.rf
theorem sp_X1_line (hS : z_sys G M E x bl tx S) (hs : z_small (z_cur S)) {v w : Int32} : w_S l G tX1_line (9, 1, 6) [.ref x, .int v, .int w] M (z_anQ G E x bl tx M S (z_ask [z_IO] S (z_lineA (z_cur S) v w))) := by
  have hS0 := hS
  obtain ⟨ba, ca, sv, bas, h⟩ := hS
  have hg := h.2.1
  obtain ⟨kd, rl, ol, sg, ra, oa, ras, oas, hL⟩ := h.2.2.1
  have hgc := hL.2.1
  obtain ⟨n1, n2, n3⟩ := z_idxL hs
  have hsz := hs.size
  cases i1 : z_idx v (z_ords (z_cur S)).length with
  | none =>
    have hr : z_lineA (z_cur S) v w = .inr 1 := by simp only [z_lineA, i1]
    refine w_start (by decide) (Nat.le_of_ble_eq_true rfl) (fun X => ?_)
    refine wa_locals [(0, _), (1, _), (2, _)] [0, 1, 2] rfl ?_
    refine wa_aload_n 0 dX1_line_0 rfl rfl ?_
    refine wa_iload_n 1 dX1_line_1 rfl rfl ?_
    refine wc_isx (wr_V dX1_line_2 mX1_288 (sp_getOrderZ h hL hs i1) hg rfl rfl rfl (Nat.le_of_ble_eq_true rfl)) ?_
    exact wx_out (fun _ h => by cases h) (Nat.le_of_ble_eq_true rfl) (Nat.le_of_ble_eq_true rfl) (z_anN hS0 ((congrArg (z_ask _ S) hr).trans rfl) w_fr.rf.push)
  | some i =>
    have hi := z_idx_lt n2 i1
    have ev := z_idx_eq n2 i1
    subst ev
    obtain ⟨o, hoo⟩ : ∃ o, (z_ords (z_cur S))[i]? = some o := ⟨_, List.getElem?_eq_getElem hi⟩
    obtain ⟨y, hy, hor⟩ := z_ordAt hL hoo
    obtain ⟨la, hp1, hp2, hob, f, hla, hlf⟩ := id hor
    have hsm := hs.2.2.2.2.2.2.2 o (List.mem_of_getElem? hoo)
    cases i2 : z_idx w (z_lines o).length with
    | none =>
      have hr : z_lineA (z_cur S) (nI i) w = .inr 1 := by simp only [z_lineA, i1, hoo, i2]
      refine w_start (by decide) (Nat.le_of_ble_eq_true rfl) (fun X => ?_)
      refine wa_locals [(0, _), (1, _), (2, _)] [0, 1, 2] rfl ?_
      refine wa_aload_n 0 dX1_line_0 rfl rfl ?_
      refine wa_iload_n 1 dX1_line_1 rfl rfl ?_
      refine wc_isA (wr_V dX1_line_2 mX1_288 (sp_getOrderY h hL hs i1 hy hob) hg rfl rfl rfl (Nat.le_of_ble_eq_true rfl)) ?_
      refine wa_astore_n [(3, _), (0, _), (1, _), (2, _)] dX1_line_5 rfl (Nat.le_of_ble_eq_true rfl) rfl ?_
      refine wa_iload_n 3 dX1_line_6 rfl rfl ?_
      refine wa_iconst (0) dX1_line_7 (by decide) ?_
      refine wa_aload_n 0 dX1_line_8 rfl rfl ?_
      refine wa_getf dX1_line_9 gX1_295 hob rfl ?_
      refine wa_alen 0 dX1_line_12 hla rfl ?_
      refine wa_iconst (1) dX1_line_13 (by decide) ?_
      refine wa_isub dX1_line_14 ?_
      refine wc_isI (wr_S dX1_line_15 mX1_182 (sp_betweenZ (z_btwZ (by omega) i2 rfl)) rfl rfl rfl (Nat.le_of_ble_eq_true rfl)) ?_
      refine wc_isx (wr_S dX1_line_18 mX1_172 sp_requireIndexT rfl rfl rfl (Nat.le_of_ble_eq_true rfl)) ?_
      exact wx_out (fun _ h => by cases h) (Nat.le_of_ble_eq_true rfl) (Nat.le_of_ble_eq_true rfl) (z_anN hS0 ((congrArg (z_ask _ S) hr).trans rfl) w_fr.rf.push)
    | some j =>
      have hj := z_idx_lt (by omega) i2
      have ew := z_idx_eq (by omega) i2
      subst ew
      obtain ⟨q, hq⟩ : ∃ q, (z_lines o)[j]? = some q := ⟨_, List.getElem?_eq_getElem hj⟩
      have hr : z_lineA (z_cur S) (nI i) (nI j) = .inl (nI q) := by simp only [z_lineA, i1, hoo, i2, hq]
      refine w_start (by decide) (Nat.le_of_ble_eq_true rfl) (fun X => ?_)
      refine wa_locals [(0, _), (1, _), (2, _)] [0, 1, 2] rfl ?_
      refine wa_aload_n 0 dX1_line_0 rfl rfl ?_
      refine wa_iload_n 1 dX1_line_1 rfl rfl ?_
      refine wc_isA (wr_V dX1_line_2 mX1_288 (sp_getOrderY h hL hs i1 hy hob) hg rfl rfl rfl (Nat.le_of_ble_eq_true rfl)) ?_
      refine wa_astore_n [(3, _), (0, _), (1, _), (2, _)] dX1_line_5 rfl (Nat.le_of_ble_eq_true rfl) rfl ?_
      refine wa_iload_n 3 dX1_line_6 rfl rfl ?_
      refine wa_iconst (0) dX1_line_7 (by decide) ?_
      refine wa_aload_n 0 dX1_line_8 rfl rfl ?_
      refine wa_getf dX1_line_9 gX1_295 hob rfl ?_
      refine wa_alen 0 dX1_line_12 hla rfl ?_
      refine wa_iconst (1) dX1_line_13 (by decide) ?_
      refine wa_isub dX1_line_14 ?_
      refine wc_isI (wr_S dX1_line_15 mX1_182 (sp_betweenY (z_btwY (by omega) i2 rfl)) rfl rfl rfl (Nat.le_of_ble_eq_true rfl)) ?_
      refine wc_isV (wr_S dX1_line_18 mX1_172 sp_requireIndexN rfl rfl rfl (Nat.le_of_ble_eq_true rfl)) ?_
      refine wa_aload_n 0 dX1_line_21 rfl rfl ?_
      refine wa_getf dX1_line_22 gX1_295 hob rfl ?_
      refine wa_iload_n 3 dX1_line_25 rfl rfl ?_
      refine wa_iald dX1_line_26 hla (vp_in_nI hj (by omega)) ?_
      rw [nI_clamp (by omega), hlf j q hq]
      refine wa_iret FieldType.int dX1_line_27 rfl rfl (Nat.le_of_ble_eq_true rfl) (Nat.le_of_ble_eq_true rfl) ?_
      exact z_anY hS0 ((congrArg (z_ask _ S) hr).trans rfl) w_fr.rf
end AK
