/-! ===== Robot ===== -/
set_option maxRecDepth 100000
section RB
variable {l : Launch} {G : w_G} {M : w_M} {a : Nat} {v0 v1 v2 v3 v4 v5 v6 : Value}
theorem sp_R_init {c b : Int32} (h : M.get a = some (.inr (5, [v0, v1, v2, v3, v4, v5, v6]))) : w_S l G tX6_init (2, 0, 0) [.ref a, .int c, .int b] M (w_is (.inl none) (M.set a (.inr (5, [.int c, .int b, .int (-1), v3, v4, v5, v6])))) := by
  refine w_start (by decide) (Nat.le_of_ble_eq_true rfl) (fun X => ?_)
  refine wa_locals [(0, _), (1, _), (2, _)] [0, 1, 2] rfl ?_
  refine wa_aload_n 0 dX6_init_0 rfl rfl ?_
  refine wa_objInit dX6_init_1 q269 rfl (Nat.le_of_ble_eq_true rfl) ?_
  refine wa_aload_n 0 dX6_init_4 rfl rfl ?_
  refine wa_iconst (-1) dX6_init_5 (by decide) ?_
  refine wa_putf [_, _, _, _, _, _, _] dX6_init_6 pX6_9 (by assumption) (Nat.le_of_ble_eq_true rfl) rfl rfl rfl ?_
  refine wa_aload_n 0 dX6_init_9 rfl rfl ?_
  refine wa_iload_n 1 dX6_init_10 rfl rfl ?_
  refine wa_putf [_, _, _, _, _, _, _] dX6_init_11 pX6_15 (w_set_self h) (Nat.le_of_ble_eq_true rfl) rfl rfl rfl ?_
  refine wa_aload_n 0 dX6_init_14 rfl rfl ?_
  refine wa_iload_n 2 dX6_init_15 rfl rfl ?_
  refine wa_putf [_, _, _, _, _, _, _] dX6_init_16 pX6_18 (w_set_self (w_set_self h)) (Nat.le_of_ble_eq_true rfl) rfl rfl rfl ?_
  refine wa_vret dX6_init_19 rfl (Nat.le_of_ble_eq_true rfl) (Nat.le_of_ble_eq_true rfl) ?_
  exact ⟨rfl, by rw [w_set_set, w_set_set]⟩
theorem sp_R_copy {c b o s d k : Int32} (pv : Option Nat) (h : M.get a = some (.inr (5, [.int c, .int b, .int o, .int s, va_rf pv, .int d, .int k]))) : w_S l G tX6_copy (3, 1, 7) [.ref a] M (w_is (.inl (some (.ref M.sz))) (M.push (.inr (5, [.int c, .int b, .int o, .int s, va_rf pv, .int d, .int k])))) := by
  have hn : narrow (tyX6 4) (va_rf pv) = va_rf pv := by cases pv <;> rfl
  have hf : fits (tyX6 4) (va_rf pv) = true := by cases pv <;> rfl
  have has : a ≠ M.sz := Nat.ne_of_lt (w_lt h)
  refine w_start (by decide) (Nat.le_of_ble_eq_true rfl) (fun X => ?_)
  refine wa_locals [(0, _)] [0] rfl ?_
  refine wa_new dX6_copy_0 nX6_10 (Nat.le_of_ble_eq_true rfl) (Nat.le_of_ble_eq_true rfl) ?_
  refine wa_dup dX6_copy_3 rfl ?_
  refine wa_aload_n 0 dX6_copy_4 rfl rfl ?_
  refine wa_getf dX6_copy_5 gX6_15 (w_push_old h) rfl ?_
  refine wa_aload_n 0 dX6_copy_8 rfl rfl ?_
  refine wa_getf dX6_copy_9 gX6_18 (w_push_old h) rfl ?_
  refine wc_isV (wr_I dX6_copy_12 mX6_21 (sp_R_init w_push_self) rfl rfl rfl (Nat.le_of_ble_eq_true rfl)) ?_
  rw [w_push_set]
  have g0 := w_push_old (e := .inr (5, [.int c, .int b, .int (-1), .int 0, .null, .int 0, .int 0])) h
  have g1 := w_push_self (M := M) (e := .inr (5, [.int c, .int b, .int (-1), .int 0, .null, .int 0, .int 0]))
  refine wa_astore_n [(1, _), (0, _)] dX6_copy_15 rfl (Nat.le_of_ble_eq_true rfl) rfl ?_
  refine wa_aload_n 0 dX6_copy_16 rfl rfl ?_
  refine wa_aload_n 1 dX6_copy_17 rfl rfl ?_
  refine wa_getf dX6_copy_18 gX6_9 (by assumption) rfl ?_
  refine wa_putf [_, _, _, _, _, _, _] dX6_copy_21 pX6_9 (by assumption) (Nat.le_of_ble_eq_true rfl) rfl rfl rfl ?_
  rw [w_push_set]
  have g0 := w_push_old (e := .inr (5, [.int c, .int b, .int o, .int 0, .null, .int 0, .int 0])) h
  have g1 := w_push_self (M := M) (e := .inr (5, [.int c, .int b, .int o, .int 0, .null, .int 0, .int 0]))
  refine wa_aload_n 0 dX6_copy_24 rfl rfl ?_
  refine wa_aload_n 1 dX6_copy_25 rfl rfl ?_
  refine wa_getf dX6_copy_26 gX6_24 (by assumption) rfl ?_
  refine wa_putf [_, _, _, _, _, _, _] dX6_copy_29 pX6_24 (by assumption) (Nat.le_of_ble_eq_true rfl) rfl rfl rfl ?_
  rw [w_push_set]
  have g0 := w_push_old (e := .inr (5, [.int c, .int b, .int o, .int s, .null, .int 0, .int 0])) h
  have g1 := w_push_self (M := M) (e := .inr (5, [.int c, .int b, .int o, .int s, .null, .int 0, .int 0]))
  refine wa_aload_n 0 dX6_copy_32 rfl rfl ?_
  refine wa_aload_n 1 dX6_copy_33 rfl rfl ?_
  refine wa_getf dX6_copy_34 gX6_27 (by assumption) rfl ?_
  refine wa_putf [_, _, _, _, _, _, _] dX6_copy_37 pX6_27 (by assumption) (Nat.le_of_ble_eq_true rfl) hn hf rfl ?_
  rw [w_push_set]
  have g0 := w_push_old (e := .inr (5, [.int c, .int b, .int o, .int s, va_rf pv, .int 0, .int 0])) h
  have g1 := w_push_self (M := M) (e := .inr (5, [.int c, .int b, .int o, .int s, va_rf pv, .int 0, .int 0]))
  refine wa_aload_n 0 dX6_copy_40 rfl rfl ?_
  refine wa_aload_n 1 dX6_copy_41 rfl rfl ?_
  refine wa_getf dX6_copy_42 gX6_31 (by assumption) rfl ?_
  refine wa_putf [_, _, _, _, _, _, _] dX6_copy_45 pX6_31 (by assumption) (Nat.le_of_ble_eq_true rfl) rfl rfl rfl ?_
  rw [w_push_set]
  have g0 := w_push_old (e := .inr (5, [.int c, .int b, .int o, .int s, va_rf pv, .int d, .int 0])) h
  have g1 := w_push_self (M := M) (e := .inr (5, [.int c, .int b, .int o, .int s, va_rf pv, .int d, .int 0]))
  refine wa_aload_n 0 dX6_copy_48 rfl rfl ?_
  refine wa_aload_n 1 dX6_copy_49 rfl rfl ?_
  refine wa_getf dX6_copy_50 gX6_34 (by assumption) rfl ?_
  refine wa_putf [_, _, _, _, _, _, _] dX6_copy_53 pX6_34 (by assumption) (Nat.le_of_ble_eq_true rfl) rfl rfl rfl ?_
  rw [w_push_set]
  refine wa_aload_n 0 dX6_copy_56 rfl rfl ?_
  refine wa_aret (FieldType.object "RobotAisles$Robot") dX6_copy_57 rfl rfl (Nat.le_of_ble_eq_true rfl) (Nat.le_of_ble_eq_true rfl) ?_
  exact ⟨rfl, rfl⟩
/-- a robot in the memory, with its plan's array (none: no plan; in a tick a plan may have come to its end) -/
def z_robP (M : w_M) (P : Nat → Prop) (a : Nat) (r : z_R) (pv : Option Nat) : Prop := ∃ dn : Int32, P a ∧ M.get a = some (.inr (5, [.int (nI (z_cell r)), .int (z_batt r), .int (z_enc (z_has r)), .int (z_steps r), va_rf pv, .int dn, .int (z_cost r)])) ∧
  match pv with
  | none => z_plan r = []
  | some p => P p ∧ ∃ (m d : Nat) (f : Nat → Int32), M.get p = some (.inl (.int, m, .inl f)) ∧ dn = nI d ∧ d ≤ m ∧ m ≤ 30 ∧ (z_plan r).length = m - d ∧ ∀ i c, (z_plan r)[i]? = some c → f (d + i) = nI c
/-- .. between the calls: a robot with a plan's array has a plan -/
def z_rob (M : w_M) (P : Nat → Prop) (a : Nat) (r : z_R) : Prop := ∃ pv, z_robP M P a r pv ∧ (pv = none ↔ z_plan r = [])
theorem z_robP.keep {M M' : w_M} {P W : Nat → Prop} {a : Nat} {r : z_R} {pv : Option Nat} (h : z_robP M P a r pv) (hf : w_fr M M' W) (hw : ∀ q, P q → ¬ W q) : z_robP M' P a r pv := by
  obtain ⟨dn, h1, h2, h3⟩ := h
  refine ⟨dn, h1, hf.2 _ _ h2 (hw _ h1), ?_⟩
  cases pv with
  | none => exact h3
  | some p =>
    obtain ⟨h4, m, d, f, h5, h6⟩ := h3
    exact ⟨h4, m, d, f, hf.2 _ _ h5 (hw _ h4), h6⟩
theorem z_rob.keep {M M' : w_M} {P W : Nat → Prop} {a : Nat} {r : z_R} (h : z_rob M P a r) (hf : w_fr M M' W) (hw : ∀ q, P q → ¬ W q) : z_rob M' P a r := by
  obtain ⟨pv, h1, h2⟩ := h
  exact ⟨pv, h1.keep hf hw, h2⟩
theorem z_robP.mono {M : w_M} {P P' : Nat → Prop} {a : Nat} {r : z_R} {pv : Option Nat} (h : z_robP M P a r pv) (hp : ∀ q, q < M.sz → P q → P' q) : z_robP M P' a r pv := by
  obtain ⟨dn, h1, h2, h3⟩ := h
  refine ⟨dn, hp _ (w_lt h2) h1, h2, ?_⟩
  cases pv with
  | none => exact h3
  | some p =>
    obtain ⟨h4, m, d, f, h5, h6⟩ := h3
    exact ⟨hp _ (w_lt h5) h4, m, d, f, h5, h6⟩
theorem z_rob.mono {M : w_M} {P P' : Nat → Prop} {a : Nat} {r : z_R} (h : z_rob M P a r) (hp : ∀ q, q < M.sz → P q → P' q) : z_rob M P' a r := by
  obtain ⟨pv, h1, h2⟩ := h
  exact ⟨pv, h1.mono hp, h2⟩
variable {P : Nat → Prop} {r : z_R} {pv : Option Nat}
theorem sp_hasPlan (h : z_robP M P a r pv) : w_S l G tX6_hasPlan (1, 0, 0) [.ref a] M (w_is (.inl (some (.int (if pv = none then 0 else 1)))) M) := by
  obtain ⟨dn, -, h1, -⟩ := h
  cases pv with
  | none =>
    refine w_start (by decide) (Nat.le_of_ble_eq_true rfl) (fun X => ?_)
    refine wa_locals [(0, _)] [0] rfl ?_
    refine wa_aload_n 0 dX6_hasPlan_0 rfl rfl ?_
    refine wa_getf dX6_hasPlan_1 gX6_27 (by assumption) rfl ?_
    refine wa_ifnullN 11 dX6_hasPlan_4 rfl ?_
    refine wa_iconst (0) dX6_hasPlan_11 (by decide) ?_
    refine wa_iret FieldType.boolean dX6_hasPlan_12 rfl rfl (Nat.le_of_ble_eq_true rfl) (Nat.le_of_ble_eq_true rfl) ?_
    exact ⟨rfl, rfl⟩
  | some p =>
    refine w_start (by decide) (Nat.le_of_ble_eq_true rfl) (fun X => ?_)
    refine wa_locals [(0, _)] [0] rfl ?_
    refine wa_aload_n 0 dX6_hasPlan_0 rfl rfl ?_
    refine wa_getf dX6_hasPlan_1 gX6_27 (by assumption) rfl ?_
    refine wa_ifnull dX6_hasPlan_4 ?_
    refine wa_iconst (1) dX6_hasPlan_7 (by decide) ?_
    refine wa_goto 12 dX6_hasPlan_8 rfl ?_
    refine wa_iret FieldType.boolean dX6_hasPlan_12 rfl rfl (Nat.le_of_ble_eq_true rfl) (Nat.le_of_ble_eq_true rfl) ?_
    exact ⟨rfl, rfl⟩
theorem sp_ticksLeft (h : z_robP M P a r pv) : w_S l G tX6_ticksLeft (1, 0, 0) [.ref a] M (w_is (.inl (some (.int (nI (z_plan r).length)))) M) := by
  obtain ⟨dn, -, h1, h2⟩ := h
  cases pv with
  | none =>
    rw [show z_plan r = [] from h2]
    refine w_start (by decide) (Nat.le_of_ble_eq_true rfl) (fun X => ?_)
    refine wa_locals [(0, _)] [0] rfl ?_
    refine wa_aload_n 0 dX6_ticksLeft_0 rfl rfl ?_
    refine wa_getf dX6_ticksLeft_1 gX6_27 (by assumption) rfl ?_
    refine wa_ifnonnullN dX6_ticksLeft_4 ?_
    refine wa_iconst (0) dX6_ticksLeft_7 (by decide) ?_
    refine wa_goto 21 dX6_ticksLeft_8 rfl ?_
    refine wa_iret FieldType.int dX6_ticksLeft_21 rfl rfl (Nat.le_of_ble_eq_true rfl) (Nat.le_of_ble_eq_true rfl) ?_
    exact ⟨rfl, rfl⟩
  | some p =>
    obtain ⟨h4, m, d, f, h5, rfl, h6, h7, h8, h9⟩ := h2
    rw [h8]
    refine w_start (by decide) (Nat.le_of_ble_eq_true rfl) (fun X => ?_)
    refine wa_locals [(0, _)] [0] rfl ?_
    refine wa_aload_n 0 dX6_ticksLeft_0 rfl rfl ?_
    refine wa_getf dX6_ticksLeft_1 gX6_27 (by assumption) rfl ?_
    refine wa_ifnonnull 11 dX6_ticksLeft_4 rfl ?_
    refine wa_aload_n 0 dX6_ticksLeft_11 rfl rfl ?_
    refine wa_getf dX6_ticksLeft_12 gX6_27 (by assumption) rfl ?_
    refine wa_alen 0 dX6_ticksLeft_15 (by assumption) rfl ?_
    refine wa_aload_n 0 dX6_ticksLeft_16 rfl rfl ?_
    refine wa_getf dX6_ticksLeft_17 gX6_31 (by assumption) rfl ?_
    refine wa_isub dX6_ticksLeft_20 ?_
    refine wa_iret FieldType.int dX6_ticksLeft_21 rfl rfl (Nat.le_of_ble_eq_true rfl) (Nat.le_of_ble_eq_true rfl) ?_
    exact ⟨by rw [pk_sub h6], rfl⟩
theorem sp_cellAhead (h : z_robP M P a r pv) (hp : pv = none ↔ z_plan r = []) {t : Nat} (ht : t < 2 ^ 31) : w_S l G tX6_cellAhead (2, 0, 0) [.ref a, .int (nI t)] M (w_is (.inl (some (.int (nI (z_ahead r t))))) M) := by
  obtain ⟨dn, -, h1, h2⟩ := h
  have hz : nI t = 0 ↔ t = 0 := nI_eq (b := 0) ht (by decide)
  cases pv with
  | none =>
    have e : z_ahead r t = z_cell r := by
      unfold z_ahead
      rw [show z_plan r = [] from h2]
      split <;> rfl
    rw [e]
    refine w_start (by decide) (Nat.le_of_ble_eq_true rfl) (fun X => ?_)
    refine wa_locals [(0, _), (1, _)] [0, 1] rfl ?_
    refine wa_aload_n 0 dX6_cellAhead_0 rfl rfl ?_
    refine wa_getf dX6_cellAhead_1 gX6_27 (by assumption) rfl ?_
    refine wa_ifnullN 11 dX6_cellAhead_4 rfl ?_
    refine wa_aload_n 0 dX6_cellAhead_11 rfl rfl ?_
    refine wa_getf dX6_cellAhead_12 gX6_15 (by assumption) rfl ?_
    refine wa_iret FieldType.int dX6_cellAhead_15 rfl rfl (Nat.le_of_ble_eq_true rfl) (Nat.le_of_ble_eq_true rfl) ?_
    exact ⟨rfl, rfl⟩
  | some p =>
    obtain ⟨h4, m, d, f, h5, rfl, h6, h7, h8, h9⟩ := h2
    have hne : z_plan r ≠ [] := fun q => by have := hp.mpr q; cases this
    have hpos : 0 < (z_plan r).length := List.length_pos_iff.mpr hne
    have e0 : (if (30 : Int32) < nI t then (30 : Int32) else nI t) = nI (min t 30) := by
      by_cases hx : 30 < t
      · rw [if_pos (show (30 : Int32) < nI t from nI_lt (a := 30) hx ht), Nat.min_eq_right (by omega)]; rfl
      · rw [if_neg (show ¬ (30 : Int32) < nI t from nI_nlt (a := 30) (b := t) (by omega) (by decide)), Nat.min_eq_left (by omega)]
    refine w_start (by decide) (Nat.le_of_ble_eq_true rfl) (fun X => ?_)
    refine wa_locals [(0, _), (1, _)] [0, 1] rfl ?_
    refine wa_aload_n 0 dX6_cellAhead_0 rfl rfl ?_
    refine wa_getf dX6_cellAhead_1 gX6_27 (by assumption) rfl ?_
    refine wa_ifnull dX6_cellAhead_4 ?_
    refine wa_iload_n 1 dX6_cellAhead_7 rfl rfl ?_
    refine wa_if_ne 16 dX6_cellAhead_8 rfl (fun c8 => ?_) (fun c8 => ?_)
    ·
      refine wa_aload_n 0 dX6_cellAhead_16 rfl rfl ?_
      refine wa_getf dX6_cellAhead_17 gX6_27 (by assumption) rfl ?_
      refine wa_aload_n 0 dX6_cellAhead_20 rfl rfl ?_
      refine wa_getf dX6_cellAhead_21 gX6_27 (by assumption) rfl ?_
      refine wa_alen 0 dX6_cellAhead_24 (by assumption) rfl ?_
      refine wa_iconst (1) dX6_cellAhead_25 (by decide) ?_
      refine wa_isub dX6_cellAhead_26 ?_
      refine wa_aload_n 0 dX6_cellAhead_27 rfl rfl ?_
      refine wa_getf dX6_cellAhead_28 gX6_31 (by assumption) rfl ?_
      refine wa_iload_n 1 dX6_cellAhead_31 rfl rfl ?_
      refine wa_bipush (30) dX6_cellAhead_32 (by decide) ?_
      refine wa_mmin dX6_cellAhead_34 q763 rfl (Nat.le_of_ble_eq_true rfl) (Nat.le_of_ble_eq_true rfl) (Nat.le_of_ble_eq_true rfl) ?_
      rw [e0]
      refine wa_iadd dX6_cellAhead_37 ?_
      refine wa_iconst (1) dX6_cellAhead_38 (by decide) ?_
      refine wa_isub dX6_cellAhead_39 ?_
      refine wa_mmin dX6_cellAhead_40 q763 rfl (Nat.le_of_ble_eq_true rfl) (Nat.le_of_ble_eq_true rfl) (Nat.le_of_ble_eq_true rfl) ?_
      have ht0 : t ≠ 0 := fun q => c8 (hz.mpr q)
      have e1 : nI m - 1 = nI (m - 1) := pk_sub (b := 1) (by omega)
      have e2 : nI d + nI (min t 30) - 1 = nI (d + min t 30 - 1) := by rw [nI_add]; exact pk_sub (b := 1) (by omega)
      have e3 : (if nI d + nI (min t 30) - 1 < nI m - 1 then nI d + nI (min t 30) - 1 else nI m - 1) = nI (d + (min t (z_plan r).length - 1)) := by
        rw [e1, e2]
        by_cases hx : d + min t 30 - 1 < m - 1
        · rw [if_pos (nI_lt hx (by omega))]
          congr 1
          omega
        · rw [if_neg (nI_nlt (by omega) (by omega))]
          congr 1
          omega
      rw [e3]
      have hin : vp_in (nI (d + (min t (z_plan r).length - 1))) m := vp_in_nI (by omega) (by omega)
      refine wa_iald dX6_cellAhead_43 (by assumption) (by assumption) ?_
      refine wa_iret FieldType.int dX6_cellAhead_44 rfl rfl (Nat.le_of_ble_eq_true rfl) (Nat.le_of_ble_eq_true rfl) ?_
      refine ⟨?_, rfl⟩
      rw [nI_clamp (by omega)]
      have hlt : min t (z_plan r).length - 1 < (z_plan r).length := by omega
      rw [h9 _ _ (List.getElem?_eq_getElem hlt)]
      congr 4
      unfold z_ahead
      rw [if_neg ht0, List.getD_eq_getElem?_getD, List.getElem?_eq_getElem hlt]
      rfl
    ·
      refine wa_aload_n 0 dX6_cellAhead_11 rfl rfl ?_
      refine wa_getf dX6_cellAhead_12 gX6_15 (by assumption) rfl ?_
      refine wa_iret FieldType.int dX6_cellAhead_15 rfl rfl (Nat.le_of_ble_eq_true rfl) (Nat.le_of_ble_eq_true rfl) ?_
      exact ⟨by rw [show z_ahead r t = z_cell r by unfold z_ahead; rw [if_pos (hz.mp c8)]], rfl⟩
theorem sp_goOn {p : Nat} (h : z_robP M P a r (some p)) (hp : z_plan r ≠ []) (hc : z_cell r < 2 ^ 31) (hpc : ∀ c ∈ z_plan r, c < 2 ^ 31) (hpa : p ≠ a) : w_S l G tX6_goOn (1, 0, 0) [.ref a] M (w_rV (fun M' => z_robP M' P a (z_goOn r) (some p) ∧ w_fr M M' (fun q => q = a))) := by
  obtain ⟨dn, g0, h1, h4, m, d, f, h5, rfl, h6, h7, h8, h9⟩ := h
  obtain ⟨c, ps, hps⟩ : ∃ c ps, z_plan r = c :: ps := by
    cases hr : z_plan r with
    | nil => exact absurd hr hp
    | cons c ps => exact ⟨c, ps, rfl⟩
  have hlen : ps.length + 1 = m - d := by rw [← h8, hps]; rfl
  have hin : vp_in (nI d) m := vp_in_nI (by omega) (by omega)
  have hf0 : f (nI d).toNatClampNeg = nI c := by
    rw [nI_clamp (by omega)]
    exact h9 0 c (by rw [hps]; rfl)
  have hcc : nI c = nI (z_cell r) ↔ c = z_cell r := nI_eq (hpc c (by rw [hps]; exact List.mem_cons_self)) hc
  have hgo : z_goOn r = (c, if c = z_cell r then z_batt r else z_batt r - z_cost r, z_has r, if c = z_cell r then z_steps r else z_steps r + 1, ps, z_cost r) := by
    unfold z_goOn
    rw [hps]
  refine w_start (by decide) (Nat.le_of_ble_eq_true rfl) (fun X => ?_)
  refine wa_locals [(0, _)] [0] rfl ?_
  refine wa_aload_n 0 dX6_goOn_0 rfl rfl ?_
  refine wa_getf dX6_goOn_1 gX6_27 (by assumption) rfl ?_
  refine wa_aload_n 0 dX6_goOn_4 rfl rfl ?_
  refine wa_getf dX6_goOn_5 gX6_31 (by assumption) rfl ?_
  refine wa_iald dX6_goOn_8 (by assumption) (by assumption) ?_
  rw [hf0]
  refine wa_istore_n [(1, _), (0, _)] dX6_goOn_9 rfl (Nat.le_of_ble_eq_true rfl) rfl ?_
  refine wa_iload_n 0 dX6_goOn_10 rfl rfl ?_
  refine wa_aload_n 1 dX6_goOn_11 rfl rfl ?_
  refine wa_getf dX6_goOn_12 gX6_15 (by assumption) rfl ?_
  refine wa_icmp_eq 22 dX6_goOn_15 rfl (fun c15 => ?_) (fun c15 => ?_)
  ·
    refine wa_iconst (0) dX6_goOn_22 (by decide) ?_
    refine wa_istore_n [(2, _), (1, _), (0, _)] dX6_goOn_23 rfl (Nat.le_of_ble_eq_true rfl) rfl ?_
    refine wa_aload_n 2 dX6_goOn_24 rfl rfl ?_
    refine wa_dup dX6_goOn_25 rfl ?_
    refine wa_getf dX6_goOn_26 gX6_18 (by assumption) rfl ?_
    refine wa_iload_n 0 dX6_goOn_29 rfl rfl ?_
    refine wa_if_eq 40 dX6_goOn_30 rfl (fun c30 => ?_) (fun c30 => absurd (by decide) c30)
    refine wa_iconst (0) dX6_goOn_40 (by decide) ?_
    refine wa_isub dX6_goOn_41 ?_
    refine wa_putf [_, _, _, _, _, _, _] dX6_goOn_42 pX6_18 (by assumption) (Nat.le_of_ble_eq_true rfl) rfl rfl rfl ?_
    skip
    refine wa_aload_n 2 dX6_goOn_45 rfl rfl ?_
    refine wa_dup dX6_goOn_46 rfl ?_
    refine wa_getf dX6_goOn_47 gX6_24 (w_set_self h1) rfl ?_
    refine wa_iload_n 0 dX6_goOn_50 rfl rfl ?_
    refine wa_if_eq 58 dX6_goOn_51 rfl (fun c51 => ?_) (fun c51 => absurd (by decide) c51)
    refine wa_iconst (0) dX6_goOn_58 (by decide) ?_
    refine wa_iadd dX6_goOn_59 ?_
    refine wa_putf [_, _, _, _, _, _, _] dX6_goOn_60 pX6_24 (w_set_self h1) (Nat.le_of_ble_eq_true rfl) rfl rfl rfl ?_
    refine wa_aload_n 2 dX6_goOn_63 rfl rfl ?_
    refine wa_iload_n 1 dX6_goOn_64 rfl rfl ?_
    refine wa_putf [_, _, _, _, _, _, _] dX6_goOn_65 pX6_15 (w_set_self (w_set_self h1)) (Nat.le_of_ble_eq_true rfl) rfl rfl rfl ?_
    refine wa_aload_n 2 dX6_goOn_68 rfl rfl ?_
    refine wa_dup dX6_goOn_69 rfl ?_
    refine wa_getf dX6_goOn_70 gX6_31 (w_set_self (w_set_self (w_set_self h1))) rfl ?_
    refine wa_iconst (1) dX6_goOn_73 (by decide) ?_
    refine wa_iadd dX6_goOn_74 ?_
    refine wa_putf [_, _, _, _, _, _, _] dX6_goOn_75 pX6_31 (w_set_self (w_set_self (w_set_self h1))) (Nat.le_of_ble_eq_true rfl) rfl rfl rfl ?_
    refine wa_vret dX6_goOn_78 rfl (Nat.le_of_ble_eq_true rfl) (Nat.le_of_ble_eq_true rfl) ?_
    refine ⟨rfl, ⟨nI (d + 1), g0, ?_, h4, m, d + 1, f, ?_, rfl, by omega, h7, by rw [hgo]; show ps.length = _; omega, fun i x hx => ?_⟩, w_fr_me.me.me.me⟩
    · rw [hgo, w_set_self (w_set_self (w_set_self (w_set_self h1)))]
      simp [z_cell, z_batt, z_has, z_steps, z_cost, va_rf, nI_1] at hcc c15 ⊢
      simp [hcc] at c15
      simp [c15]
    · rw [w_set_ne hpa, w_set_ne hpa, w_set_ne hpa, w_set_ne hpa]
      exact h5
    · rw [hgo] at hx
      have := h9 (i + 1) x (by rw [hps]; exact hx)
      rw [← this]
      congr 1
      omega
  ·
    refine wa_iconst (1) dX6_goOn_18 (by decide) ?_
    refine wa_goto 23 dX6_goOn_19 rfl ?_
    refine wa_istore_n [(2, _), (1, _), (0, _)] dX6_goOn_23 rfl (Nat.le_of_ble_eq_true rfl) rfl ?_
    refine wa_aload_n 2 dX6_goOn_24 rfl rfl ?_
    refine wa_dup dX6_goOn_25 rfl ?_
    refine wa_getf dX6_goOn_26 gX6_18 (by assumption) rfl ?_
    refine wa_iload_n 0 dX6_goOn_29 rfl rfl ?_
    refine wa_if_eq 40 dX6_goOn_30 rfl (fun c30 => absurd c30 (by decide)) (fun c30 => ?_)
    refine wa_aload_n 2 dX6_goOn_33 rfl rfl ?_
    refine wa_getf dX6_goOn_34 gX6_34 (by assumption) rfl ?_
    refine wa_goto 41 dX6_goOn_37 rfl ?_
    refine wa_isub dX6_goOn_41 ?_
    refine wa_putf [_, _, _, _, _, _, _] dX6_goOn_42 pX6_18 (by assumption) (Nat.le_of_ble_eq_true rfl) rfl rfl rfl ?_
    skip
    refine wa_aload_n 2 dX6_goOn_45 rfl rfl ?_
    refine wa_dup dX6_goOn_46 rfl ?_
    refine wa_getf dX6_goOn_47 gX6_24 (w_set_self h1) rfl ?_
    refine wa_iload_n 0 dX6_goOn_50 rfl rfl ?_
    refine wa_if_eq 58 dX6_goOn_51 rfl (fun c51 => absurd c51 (by decide)) (fun c51 => ?_)
    refine wa_iconst (1) dX6_goOn_54 (by decide) ?_
    refine wa_goto 59 dX6_goOn_55 rfl ?_
    refine wa_iadd dX6_goOn_59 ?_
    refine wa_putf [_, _, _, _, _, _, _] dX6_goOn_60 pX6_24 (w_set_self h1) (Nat.le_of_ble_eq_true rfl) rfl rfl rfl ?_
    refine wa_aload_n 2 dX6_goOn_63 rfl rfl ?_
    refine wa_iload_n 1 dX6_goOn_64 rfl rfl ?_
    refine wa_putf [_, _, _, _, _, _, _] dX6_goOn_65 pX6_15 (w_set_self (w_set_self h1)) (Nat.le_of_ble_eq_true rfl) rfl rfl rfl ?_
    refine wa_aload_n 2 dX6_goOn_68 rfl rfl ?_
    refine wa_dup dX6_goOn_69 rfl ?_
    refine wa_getf dX6_goOn_70 gX6_31 (w_set_self (w_set_self (w_set_self h1))) rfl ?_
    refine wa_iconst (1) dX6_goOn_73 (by decide) ?_
    refine wa_iadd dX6_goOn_74 ?_
    refine wa_putf [_, _, _, _, _, _, _] dX6_goOn_75 pX6_31 (w_set_self (w_set_self (w_set_self h1))) (Nat.le_of_ble_eq_true rfl) rfl rfl rfl ?_
    refine wa_vret dX6_goOn_78 rfl (Nat.le_of_ble_eq_true rfl) (Nat.le_of_ble_eq_true rfl) ?_
    refine ⟨rfl, ⟨nI (d + 1), g0, ?_, h4, m, d + 1, f, ?_, rfl, by omega, h7, by rw [hgo]; show ps.length = _; omega, fun i x hx => ?_⟩, w_fr_me.me.me.me⟩
    · rw [hgo, w_set_self (w_set_self (w_set_self (w_set_self h1)))]
      simp [z_cell, z_batt, z_has, z_steps, z_cost, va_rf, nI_1] at hcc c15 ⊢
      simp [hcc] at c15
      simp [c15]
    · rw [w_set_ne hpa, w_set_ne hpa, w_set_ne hpa, w_set_ne hpa]
      exact h5
    · rw [hgo] at hx
      have := h9 (i + 1) x (by rw [hps]; exact hx)
      rw [← this]
      congr 1
      omega
theorem sp_isAtEnd (h : z_robP M P a r pv) : w_S l G tX6_isAtEnd (1, 0, 0) [.ref a] M (w_is (.inl (some (.int (if pv ≠ none ∧ z_plan r = [] then 1 else 0)))) M) := by
  obtain ⟨dn, -, h1, h2⟩ := h
  cases pv with
  | none =>
    refine w_start (by decide) (Nat.le_of_ble_eq_true rfl) (fun X => ?_)
    refine wa_locals [(0, _)] [0] rfl ?_
    refine wa_aload_n 0 dX6_isAtEnd_0 rfl rfl ?_
    refine wa_getf dX6_isAtEnd_1 gX6_27 (by assumption) rfl ?_
    refine wa_ifnullN 23 dX6_isAtEnd_4 rfl ?_
    refine wa_iconst (0) dX6_isAtEnd_23 (by decide) ?_
    refine wa_iret FieldType.boolean dX6_isAtEnd_24 rfl rfl (Nat.le_of_ble_eq_true rfl) (Nat.le_of_ble_eq_true rfl) ?_
    exact ⟨rfl, rfl⟩
  | some p =>
    obtain ⟨h4, m, d, f, h5, rfl, h6, h7, h8, h9⟩ := h2
    have hz : nI d = nI m ↔ z_plan r = [] := by
      rw [nI_eq (by omega) (by omega), ← List.length_eq_zero_iff]
      omega
    refine w_start (by decide) (Nat.le_of_ble_eq_true rfl) (fun X => ?_)
    refine wa_locals [(0, _)] [0] rfl ?_
    refine wa_aload_n 0 dX6_isAtEnd_0 rfl rfl ?_
    refine wa_getf dX6_isAtEnd_1 gX6_27 (by assumption) rfl ?_
    refine wa_ifnull dX6_isAtEnd_4 ?_
    refine wa_aload_n 0 dX6_isAtEnd_7 rfl rfl ?_
    refine wa_getf dX6_isAtEnd_8 gX6_31 (by assumption) rfl ?_
    refine wa_aload_n 0 dX6_isAtEnd_11 rfl rfl ?_
    refine wa_getf dX6_isAtEnd_12 gX6_27 (by assumption) rfl ?_
    refine wa_alen 0 dX6_isAtEnd_15 (by assumption) rfl ?_
    refine wa_icmp_ne 23 dX6_isAtEnd_16 rfl (fun c16 => ?_) (fun c16 => ?_)
    ·
      refine wa_iconst (0) dX6_isAtEnd_23 (by decide) ?_
      refine wa_iret FieldType.boolean dX6_isAtEnd_24 rfl rfl (Nat.le_of_ble_eq_true rfl) (Nat.le_of_ble_eq_true rfl) ?_
      exact ⟨by simp [hz] at c16; simp [c16], rfl⟩
    ·
      refine wa_iconst (1) dX6_isAtEnd_19 (by decide) ?_
      refine wa_goto 24 dX6_isAtEnd_20 rfl ?_
      refine wa_iret FieldType.boolean dX6_isAtEnd_24 rfl rfl (Nat.le_of_ble_eq_true rfl) (Nat.le_of_ble_eq_true rfl) ?_
      exact ⟨by simp [hz] at c16; simp [c16], rfl⟩
def z_drop (r : z_R) : z_R := (z_cell r, z_batt r, z_has r, z_steps r, [], z_cost r)
theorem sp_drop (h : z_robP M P a r pv) : w_S l G tX6_drop (1, 0, 0) [.ref a] M (w_rV (fun M' => z_robP M' P a (z_drop r) none ∧ w_fr M M' (fun q => q = a))) := by
  obtain ⟨dn, g0, h1, h2⟩ := h
  refine w_start (by decide) (Nat.le_of_ble_eq_true rfl) (fun X => ?_)
  refine wa_locals [(0, _)] [0] rfl ?_
  refine wa_aload_n 0 dX6_drop_0 rfl rfl ?_
  refine wa_null dX6_drop_1 ?_
  refine wa_putf [_, _, _, _, _, _, _] dX6_drop_2 pX6_27 (by assumption) (Nat.le_of_ble_eq_true rfl) rfl rfl rfl ?_
  refine wa_aload_n 0 dX6_drop_5 rfl rfl ?_
  refine wa_iconst (0) dX6_drop_6 (by decide) ?_
  refine wa_putf [_, _, _, _, _, _, _] dX6_drop_7 pX6_31 (w_set_self h1) (Nat.le_of_ble_eq_true rfl) rfl rfl rfl ?_
  refine wa_vret dX6_drop_10 rfl (Nat.le_of_ble_eq_true rfl) (Nat.le_of_ble_eq_true rfl) ?_
  exact ⟨rfl, ⟨0, g0, w_set_self (w_set_self h1), rfl⟩, w_fr_me.me⟩
end RB
