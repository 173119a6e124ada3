/-! ===== the planner: what is asked of it ===== -/
set_option maxRecDepth 100000
/-- the planner at p0: its core at a, the robot k from s to g within H ticks; who reserves what, in the array rv -/
def z_pl (M : w_M) (p0 a rv re : Nat) (c : z_C) (k s g H : Nat) : Prop := M.get p0 = some (.inr (8, [.ref a, .int (nI k), .int (nI s), .int (nI g), .int (nI H), .ref rv, .ref re])) ∧
  ∃ f : Nat → Int32, M.get rv = some (.inl (.int, 1984, .inl f)) ∧ ∀ t q, t ≤ 30 → q < 64 → f (64 * t + q) = nI (z_last c k t q)
theorem z_m1 {n : Nat} (h : n < 2 ^ 31) : nI n - 1 = -1 ↔ n = 0 := by
  constructor
  · intro e
    have : nI n = 0 := by
      have := congrArg (fun z => z + 1) e
      simp only [Int32.sub_add_cancel] at this
      rw [this]; decide
    exact (nI_eq h (by decide)).mp this
  · rintro rfl; decide
theorem z_m1e {n m : Nat} (h : n < 2 ^ 31) (h2 : m < 2 ^ 31) : nI n - 1 = nI m - 1 ↔ n = m := by
  constructor
  · intro e
    have := congrArg (fun z => z + 1) e
    simp only [Int32.sub_add_cancel] at this
    exact (nI_eq h h2).mp this
  · rintro rfl; rfl
theorem z_gt4 {u : Nat} (h : u < 5) : ¬ (4 : Int32) < nI u := fun q => by have := (nI_ltI (a := 4) (by decide) (by omega)).mp q; omega
theorem z_encS {o : Option Nat} {r : Nat} (ho : ∀ x, o = some x → x < 2 ^ 31) (hr : r < 2 ^ 31) (h : z_enc o = nI r) : o = some r := by
  cases o with
  | none =>
    exfalso
    have h1 := nI_toInt hr
    rw [← h] at h1
    have : (z_enc none).toInt = -1 := by decide
    omega
  | some x => rw [(nI_eq (ho x rfl) hr).mp h]
theorem z_gt {u : Nat} (h : 30 < u) (hu : u < 2 ^ 31) : ¬ ¬ (30 : Int32) < nI u := fun q => q (nI_lt (a := 30) h hu)
section PL
variable {l : Launch} {G : w_G} {M : w_M} {P : Nat → Prop} {a kd rl ol sg ra oa p0 rv re k s g H : Nat} {ras oas : List Nat} {c : z_C}
theorem z_last_small (hs : z_small c) {t q : Nat} : z_last c k t q < 2 ^ 31 := by
  have := z_last_le c k t q
  have := hs.2.2.2.2.1
  omega
theorem sp_P_robotAt (hp : z_pl M p0 a rv re c k s g H) {t q : Nat} (ht : t ≤ 30) (hq : q < 64) : w_S l G tX9_robotAt (1, 0, 0) [.ref p0, .int (nI t), .int (nI q)] M (w_is (.inl (some (.int (nI (z_last c k t q) - 1)))) M) := by
  obtain ⟨h1, f, h2, h3⟩ := hp
  have e : (64 : Int32) * nI t + nI q = nI (64 * t + q) := by rw [show (64 : Int32) * nI t = nI (64 * t) from pk_mul 64 t, nI_add]
  refine w_start (by decide) (Nat.le_of_ble_eq_true rfl) (fun X => ?_)
  refine wa_locals [(0, _), (1, _), (2, _)] [0, 1, 2] rfl ?_
  refine wa_aload_n 0 dX9_robotAt_0 rfl rfl ?_
  refine wa_getf dX9_robotAt_1 gX9_9 h1 rfl ?_
  refine wa_bipush (64) dX9_robotAt_4 (by decide) ?_
  refine wa_iload_n 1 dX9_robotAt_6 rfl rfl ?_
  refine wa_imul dX9_robotAt_7 ?_
  refine wa_iload_n 2 dX9_robotAt_8 rfl rfl ?_
  refine wa_iadd dX9_robotAt_9 ?_
  rw [e]
  refine wa_iald dX9_robotAt_10 h2 (vp_in_nI (by omega) (by omega)) ?_
  rw [nI_clamp (by omega), h3 t q ht hq]
  refine wa_iconst (1) dX9_robotAt_11 (by decide) ?_
  refine wa_isub dX9_robotAt_12 ?_
  refine wa_iret FieldType.int dX9_robotAt_13 rfl rfl (Nat.le_of_ble_eq_true rfl) (Nat.le_of_ble_eq_true rfl) ?_
  exact ⟨rfl, rfl⟩
theorem z_may_is {b : Bool} {v : Int32} (h : v = if b = true then 1 else 0) : (Sum.inl (some (Value.int v)) : w_O) = .inl (some (.int (if b = true then 1 else 0))) := by rw [h]
theorem sp_mayGo (hp : z_pl M p0 a rv re c k s g H) (hs : z_small c) {t q r : Nat} (ht : t < 30) (hq : q < 64) (hr : r < 64) : w_S l G tX9_mayGo (2, 0, 0) [.ref p0, .int (nI t), .int (nI q), .int (nI r)] M (w_is (.inl (some (.int (if z_may c k t q r = true then 1 else 0)))) M) := by
  have hg := hp.1
  refine w_start (by decide) (Nat.le_of_ble_eq_true rfl) (fun X => ?_)
  refine wa_locals [(0, _), (1, _), (2, _), (3, _)] [0, 1, 2, 3] rfl ?_
  refine wa_aload_n 0 dX9_mayGo_0 rfl rfl ?_
  refine wa_iload_n 1 dX9_mayGo_1 rfl rfl ?_
  refine wa_iconst (1) dX9_mayGo_2 (by decide) ?_
  refine wa_iadd dX9_mayGo_3 ?_
  refine wa_iload_n 3 dX9_mayGo_4 rfl rfl ?_
  rw [show nI t + 1 = nI (t + 1) from nI_1 t]
  refine wc_isI (wr_V dX9_mayGo_5 mX9_64 (sp_P_robotAt hp (by omega) hr) hg rfl rfl rfl (Nat.le_of_ble_eq_true rfl)) ?_
  refine wa_iconst (-1) dX9_mayGo_8 (by decide) ?_
  refine wa_icmp_eq 14 dX9_mayGo_9 rfl (fun c9 => ?_) (fun c9 => ?_)
  ·
    have i1 := (z_m1 (z_last_small hs)).mp c9
    refine wa_aload_n 0 dX9_mayGo_14 rfl rfl ?_
    refine wa_iload_n 1 dX9_mayGo_15 rfl rfl ?_
    refine wa_iload_n 3 dX9_mayGo_16 rfl rfl ?_
    refine wc_isI (wr_V dX9_mayGo_17 mX9_64 (sp_P_robotAt hp (by omega) hr) hg rfl rfl rfl (Nat.le_of_ble_eq_true rfl)) ?_
    refine wa_istore [(4, _), (0, _), (1, _), (2, _), (3, _)] dX9_mayGo_20 (Nat.le_of_ble_eq_true rfl) rfl ?_
    refine wa_iload 0 dX9_mayGo_22 rfl ?_
    refine wa_iconst (-1) dX9_mayGo_24 (by decide) ?_
    refine wa_icmp_eq 46 dX9_mayGo_25 rfl (fun c25 => ?_) (fun c25 => ?_)
    ·
      have i2 := (z_m1 (z_last_small hs)).mp c25
      refine wa_iconst (1) dX9_mayGo_46 (by decide) ?_
      refine wa_goto 51 dX9_mayGo_47 rfl ?_
      refine wa_iret FieldType.boolean dX9_mayGo_51 rfl rfl (Nat.le_of_ble_eq_true rfl) (Nat.le_of_ble_eq_true rfl) ?_
      refine ⟨z_may_is ?_, rfl⟩
      unfold z_may
      simp [i1, i2]
    ·
      refine wa_iload_n 3 dX9_mayGo_28 rfl rfl ?_
      refine wa_iload_n 4 dX9_mayGo_29 rfl rfl ?_
      refine wa_icmp_eq 46 dX9_mayGo_30 rfl (fun c30 => ?_) (fun c30 => ?_)
      ·
        have i2 := (nI_eq (show q < 2 ^ 31 by omega) (show r < 2 ^ 31 by omega)).mp c30
        refine wa_iconst (1) dX9_mayGo_46 (by decide) ?_
        refine wa_goto 51 dX9_mayGo_47 rfl ?_
        refine wa_iret FieldType.boolean dX9_mayGo_51 rfl rfl (Nat.le_of_ble_eq_true rfl) (Nat.le_of_ble_eq_true rfl) ?_
        refine ⟨z_may_is ?_, rfl⟩
        unfold z_may
        simp [i1, i2]
      ·
        refine wa_aload_n 1 dX9_mayGo_33 rfl rfl ?_
        refine wa_iload_n 2 dX9_mayGo_34 rfl rfl ?_
        refine wa_iconst (1) dX9_mayGo_35 (by decide) ?_
        refine wa_iadd dX9_mayGo_36 ?_
        refine wa_iload_n 3 dX9_mayGo_37 rfl rfl ?_
        rw [show nI t + 1 = nI (t + 1) from nI_1 t]
        refine wc_isI (wr_V dX9_mayGo_38 mX9_64 (sp_P_robotAt hp (by omega) hq) hg rfl rfl rfl (Nat.le_of_ble_eq_true rfl)) ?_
        refine wa_iload 0 dX9_mayGo_41 rfl ?_
        refine wa_icmp_eq 50 dX9_mayGo_43 rfl (fun c43 => ?_) (fun c43 => ?_)
        ·
          have i2 := (z_m1e (z_last_small hs) (z_last_small hs)).mp c43
          have i3 : ¬ z_last c k t r = 0 := fun z => c25 ((z_m1 (z_last_small hs)).mpr z)
          have i4 : ¬ q = r := fun z => c30 (by rw [z])
          refine wa_iconst (0) dX9_mayGo_50 (by decide) ?_
          refine wa_iret FieldType.boolean dX9_mayGo_51 rfl rfl (Nat.le_of_ble_eq_true rfl) (Nat.le_of_ble_eq_true rfl) ?_
          refine ⟨z_may_is ?_, rfl⟩
          unfold z_may
          simp [i1, i2, i3, i4]
        ·
          have i2 : ¬ z_last c k (t + 1) q = z_last c k t r := fun z => c43 ((z_m1e (z_last_small hs) (z_last_small hs)).mpr z)
          refine wa_iconst (1) dX9_mayGo_46 (by decide) ?_
          refine wa_goto 51 dX9_mayGo_47 rfl ?_
          refine wa_iret FieldType.boolean dX9_mayGo_51 rfl rfl (Nat.le_of_ble_eq_true rfl) (Nat.le_of_ble_eq_true rfl) ?_
          refine ⟨z_may_is ?_, rfl⟩
          unfold z_may
          simp [i1, i2]
  ·
    have i1 : ¬ z_last c k (t + 1) r = 0 := fun z => c9 ((z_m1 (z_last_small hs)).mpr z)
    refine wa_iconst (0) dX9_mayGo_12 (by decide) ?_
    refine wa_iret FieldType.boolean dX9_mayGo_13 rfl rfl (Nat.le_of_ble_eq_true rfl) (Nat.le_of_ble_eq_true rfl) ?_
    refine ⟨z_may_is ?_, rfl⟩
    unfold z_may
    rw [decide_eq_false i1]
    rfl
theorem z_stayF {g' t u : Nat} (hu : t < u) (hu2 : u ≤ 30) (h : ¬ z_last c k u g' = 0) : z_stay c k g' t = false := by
  unfold z_stay
  rw [Bool.and_eq_false_iff]
  refine Or.inl (List.all_eq_false.mpr ⟨u, List.mem_range.mpr (by omega), ?_⟩)
  simp [h]
  omega
theorem sp_mayStay (hp : z_pl M p0 a rv re c k s g H) (hs : z_small c) {t : Nat} (ht : t ≤ 30) (hq : g < 64) : w_S l G tX9_mayStay (2, 0, 0) [.ref p0, .int (nI t)] M (w_is (.inl (some (.int (if z_stay c k g t = true then 1 else 0)))) M) := by
  have hg := hp.1
  refine w_start (by decide) (Nat.le_of_ble_eq_true rfl) (fun X => ?_)
  refine wa_locals [(0, _), (1, _)] [0, 1] rfl ?_
  have LP : ∀ (n u : Nat), t < u → u + n = 32 → (∀ v, t < v → v < u → v ≤ 30 → z_last c k v g = 0) → w_A l G tX9_mayStay (2, 0, 0) X 0 0 M 4 [(2, .int (nI u)), (0, .ref p0)] [] (w_is (.inl (some (.int (if z_stay c k g t = true then 1 else 0)))) M) := by
    intro n
    induction n with
    | zero =>
      intro u hu hn hv
      refine wa_iload_n 0 dX9_mayStay_4 rfl rfl ?_
      refine wa_bipush (30) dX9_mayStay_5 (by decide) ?_
      refine wa_icmp_gt 31 dX9_mayStay_7 rfl (fun c7 => ?_) (fun c7 => absurd c7 (z_gt (by omega) (by omega)))
      refine wa_aload_n 1 dX9_mayStay_31 rfl rfl ?_
      refine wa_bipush (30) dX9_mayStay_32 (by decide) ?_
      refine wa_aload_n 1 dX9_mayStay_34 rfl rfl ?_
      refine wa_getf dX9_mayStay_35 gX9_27 hg rfl ?_
      refine wc_isI (wr_V dX9_mayStay_38 mX9_64 (sp_P_robotAt (t := 30) hp (by omega) hq) hg rfl rfl rfl (Nat.le_of_ble_eq_true rfl)) ?_
      refine wa_iconst (-1) dX9_mayStay_41 (by decide) ?_
      refine wa_icmp_ne 49 dX9_mayStay_42 rfl (fun c42 => ?_) (fun c42 => ?_)
      ·
        refine wa_iconst (0) dX9_mayStay_49 (by decide) ?_
        refine wa_iret FieldType.boolean dX9_mayStay_50 rfl rfl (Nat.le_of_ble_eq_true rfl) (Nat.le_of_ble_eq_true rfl) ?_
        refine ⟨z_may_is ?_, rfl⟩
        have i2 : ¬ z_last c k 30 g = 0 := fun z => c42 ((z_m1 (z_last_small hs)).mpr z)
        have e : z_stay c k g t = false := by
          unfold z_stay
          rw [decide_eq_false i2, Bool.and_false]
        rw [e]
        rfl
      ·
        refine wa_iconst (1) dX9_mayStay_45 (by decide) ?_
        refine wa_goto 50 dX9_mayStay_46 rfl ?_
        refine wa_iret FieldType.boolean dX9_mayStay_50 rfl rfl (Nat.le_of_ble_eq_true rfl) (Nat.le_of_ble_eq_true rfl) ?_
        refine ⟨z_may_is ?_, rfl⟩
        have i2 := (z_m1 (z_last_small hs)).mp c42
        have e : z_stay c k g t = true := by
          unfold z_stay
          rw [Bool.and_eq_true, decide_eq_true_eq]
          refine ⟨List.all_eq_true.mpr (fun v hv2 => ?_), i2⟩
          have := List.mem_range.mp hv2
          rw [Bool.or_eq_true, decide_eq_true_eq, decide_eq_true_eq]
          by_cases w : v ≤ t
          · exact Or.inl w
          · exact Or.inr (hv v (by omega) (by omega) (by omega))
        rw [e]
        rfl
    | succ n ih =>
      intro u hu hn hv
      by_cases hu30 : u ≤ 30
      · have HF : ∀ z, (z = nI u) → ¬ (30 : Int32) < nI u := fun _ _ q => by have := (nI_ltI (a := 30) (b := u) (by decide) (by omega)).mp q; omega
        refine wa_iload_n 0 dX9_mayStay_4 rfl rfl ?_
        refine wa_bipush (30) dX9_mayStay_5 (by decide) ?_
        refine wa_icmp_gt 31 dX9_mayStay_7 rfl (fun c7 => absurd c7 (HF _ rfl)) (fun c7 => ?_)
        refine wa_aload_n 1 dX9_mayStay_10 rfl rfl ?_
        refine wa_iload_n 0 dX9_mayStay_11 rfl rfl ?_
        refine wa_aload_n 1 dX9_mayStay_12 rfl rfl ?_
        refine wa_getf dX9_mayStay_13 gX9_27 hg rfl ?_
        refine wc_isI (wr_V dX9_mayStay_16 mX9_64 (sp_P_robotAt hp hu30 hq) hg rfl rfl rfl (Nat.le_of_ble_eq_true rfl)) ?_
        refine wa_iconst (-1) dX9_mayStay_19 (by decide) ?_
        refine wa_icmp_eq 25 dX9_mayStay_20 rfl (fun c20 => ?_) (fun c20 => ?_)
        ·
          have i2 := (z_m1 (z_last_small hs)).mp c20
          refine wa_iinc 0 [(2, _), (0, _)] dX9_mayStay_25 rfl (w_inc u) (Nat.le_of_ble_eq_true rfl) rfl ?_
          refine wa_goto 4 dX9_mayStay_28 rfl ?_
          exact ih (u + 1) (by omega) (by omega) (fun v h1 h2 h3 => by
            by_cases w : v = u
            · subst w; exact i2
            · exact hv v h1 (by omega) h3)
        ·
          have i2 : ¬ z_last c k u g = 0 := fun z => c20 ((z_m1 (z_last_small hs)).mpr z)
          refine wa_iconst (0) dX9_mayStay_23 (by decide) ?_
          refine wa_iret FieldType.boolean dX9_mayStay_24 rfl rfl (Nat.le_of_ble_eq_true rfl) (Nat.le_of_ble_eq_true rfl) ?_
          refine ⟨z_may_is ?_, rfl⟩
          rw [z_stayF hu hu30 i2]
          rfl
      · have hu31 : u = 31 ∨ u = 32 ∨ 31 < u := by omega
        refine wa_iload_n 0 dX9_mayStay_4 rfl rfl ?_
        refine wa_bipush (30) dX9_mayStay_5 (by decide) ?_
        refine wa_icmp_gt 31 dX9_mayStay_7 rfl (fun c7 => ?_) (fun c7 => absurd c7 (z_gt (by omega) (by omega)))
        refine wa_aload_n 1 dX9_mayStay_31 rfl rfl ?_
        refine wa_bipush (30) dX9_mayStay_32 (by decide) ?_
        refine wa_aload_n 1 dX9_mayStay_34 rfl rfl ?_
        refine wa_getf dX9_mayStay_35 gX9_27 hg rfl ?_
        refine wc_isI (wr_V dX9_mayStay_38 mX9_64 (sp_P_robotAt (t := 30) hp (by omega) hq) hg rfl rfl rfl (Nat.le_of_ble_eq_true rfl)) ?_
        refine wa_iconst (-1) dX9_mayStay_41 (by decide) ?_
        refine wa_icmp_ne 49 dX9_mayStay_42 rfl (fun c42 => ?_) (fun c42 => ?_)
        ·
          refine wa_iconst (0) dX9_mayStay_49 (by decide) ?_
          refine wa_iret FieldType.boolean dX9_mayStay_50 rfl rfl (Nat.le_of_ble_eq_true rfl) (Nat.le_of_ble_eq_true rfl) ?_
          refine ⟨z_may_is ?_, rfl⟩
          have i2 : ¬ z_last c k 30 g = 0 := fun z => c42 ((z_m1 (z_last_small hs)).mpr z)
          have e : z_stay c k g t = false := by
            unfold z_stay
            rw [decide_eq_false i2, Bool.and_false]
          rw [e]
          rfl
        ·
          refine wa_iconst (1) dX9_mayStay_45 (by decide) ?_
          refine wa_goto 50 dX9_mayStay_46 rfl ?_
          refine wa_iret FieldType.boolean dX9_mayStay_50 rfl rfl (Nat.le_of_ble_eq_true rfl) (Nat.le_of_ble_eq_true rfl) ?_
          refine ⟨z_may_is ?_, rfl⟩
          have i2 := (z_m1 (z_last_small hs)).mp c42
          have e : z_stay c k g t = true := by
            unfold z_stay
            rw [Bool.and_eq_true, decide_eq_true_eq]
            refine ⟨List.all_eq_true.mpr (fun v hv2 => ?_), i2⟩
            have := List.mem_range.mp hv2
            rw [Bool.or_eq_true, decide_eq_true_eq, decide_eq_true_eq]
            by_cases w : v ≤ t
            · exact Or.inl w
            · exact Or.inr (hv v (by omega) (by omega) (by omega))
          rw [e]
          rfl
  refine wa_iload_n 1 dX9_mayStay_0 rfl rfl ?_
  refine wa_iconst (1) dX9_mayStay_1 (by decide) ?_
  refine wa_iadd dX9_mayStay_2 ?_
  refine wa_istore_n [(2, _), (0, _), (1, _)] dX9_mayStay_3 rfl (Nat.le_of_ble_eq_true rfl) rfl ?_
  rw [show nI t + 1 = nI (t + 1) from nI_1 t]
  refine wa_locals [(2, _), (0, _)] [0, 1] rfl ?_
  exact LP (31 - t) (t + 1) (by omega) (by omega) (fun v h1 h2 => by omega)
theorem z_by_4 {p : Nat} : z_by c p 4 = some p := if_pos rfl
theorem z_by_n {p w : Nat} (h : w < 4) : z_by c p w = z_nb c p w := if_neg (by omega)
theorem sp_cellBy (hp : z_pl M p0 a rv re c k s g H) (h : z_coreL G M P a kd rl ol sg ra oa ras oas c) (hs : z_small c) {q w : Nat} (hq : q < z_size c) (hw : w < 5) : w_S l G tX9_cellBy (4, 0, 0) [.ref p0, .int (nI q), .int (nI w)] M (w_is (.inl (some (.int (z_enc (z_by c q w))))) M) := by
  have hg := hp.1
  have hsz := hs.size
  refine w_start (by decide) (Nat.le_of_ble_eq_true rfl) (fun X => ?_)
  refine wa_locals [(0, _), (1, _), (2, _)] [0, 1, 2] rfl ?_
  refine wa_iload_n 2 dX9_cellBy_0 rfl rfl ?_
  refine wa_iconst (4) dX9_cellBy_1 (by decide) ?_
  refine wa_icmp_ne 9 dX9_cellBy_2 rfl (fun c2 => ?_) (fun c2 => ?_)
  ·
    have i1 : ¬ w = 4 := fun z => c2 (by rw [z]; rfl)
    have i2 : w < 4 := by omega
    refine wa_aload_n 0 dX9_cellBy_9 rfl rfl ?_
    refine wa_getf dX9_cellBy_10 gX9_19 hg rfl ?_
    refine wa_iload_n 1 dX9_cellBy_13 rfl rfl ?_
    refine wa_iload_n 2 dX9_cellBy_14 rfl rfl ?_
    refine wc_isI (wr_V dX9_cellBy_15 mX9_68 (sp_nb h hs hq (by omega)) h.2.1 rfl rfl rfl (Nat.le_of_ble_eq_true rfl)) ?_
    refine wa_iret FieldType.int dX9_cellBy_18 rfl rfl (Nat.le_of_ble_eq_true rfl) (Nat.le_of_ble_eq_true rfl) ?_
    exact ⟨by rw [z_by_n i2], rfl⟩
  ·
    have i1 : w = 4 := (nI_eq (by omega) (by decide)).mp c2
    refine wa_iload_n 1 dX9_cellBy_5 rfl rfl ?_
    refine wa_goto 18 dX9_cellBy_6 rfl ?_
    refine wa_iret FieldType.int dX9_cellBy_18 rfl rfl (Nat.le_of_ble_eq_true rfl) (Nat.le_of_ble_eq_true rfl) ?_
    exact ⟨by rw [i1, z_by_4]; rfl, rfl⟩
theorem sp_isReached (hp : z_pl M p0 a rv re c k s g H) {gf : Nat → Int64} (hre : M.get re = some (.inl (.long, 31, .inr (.inl gf)))) {t q : Nat} (ht : t < 31) : w_S l G tX9_isReached (1, 0, 0) [.ref p0, .int (nI t), .int (nI q)] M (w_is (.inl (some (.int (if z_bit (gf t) q = true then 1 else 0)))) M) := by
  have hg := hp.1
  have e : lg_cmp (gf t >>> ((nI q).toInt64 &&& 63) &&& 1) 1 = 0 ↔ z_bit (gf t) q = true := by
    unfold z_bit
    rw [decide_eq_true_eq]
    exact w_lcmp0 _ _
  refine w_start (by decide) (Nat.le_of_ble_eq_true rfl) (fun X => ?_)
  refine wa_locals [(0, _), (1, _), (2, _)] [0, 1, 2] rfl ?_
  refine wa_aload_n 0 dX9_isReached_0 rfl rfl ?_
  refine wa_getf dX9_isReached_1 gX9_15 hg rfl ?_
  refine wa_iload_n 1 dX9_isReached_4 rfl rfl ?_
  refine wa_lald dX9_isReached_5 hre (vp_in_nI ht (by decide)) ?_
  rw [nI_clamp (by omega)]
  refine wa_iload_n 2 dX9_isReached_6 rfl rfl ?_
  refine wa_lshr dX9_isReached_7 ?_
  refine wa_lconst 1 dX9_isReached_8 (by decide) ?_
  refine wa_land dX9_isReached_9 ?_
  refine wa_lconst 1 dX9_isReached_10 (by decide) ?_
  refine wa_lcmp dX9_isReached_11 ?_
  refine wa_if_ne 19 dX9_isReached_12 rfl (fun c12 => ?_) (fun c12 => ?_)
  ·
    refine wa_iconst (0) dX9_isReached_19 (by decide) ?_
    refine wa_iret FieldType.boolean dX9_isReached_20 rfl rfl (Nat.le_of_ble_eq_true rfl) (Nat.le_of_ble_eq_true rfl) ?_
    exact ⟨by rw [e] at c12; simp [c12], rfl⟩
  ·
    refine wa_iconst (1) dX9_isReached_15 (by decide) ?_
    refine wa_goto 20 dX9_isReached_16 rfl ?_
    refine wa_iret FieldType.boolean dX9_isReached_20 rfl rfl (Nat.le_of_ble_eq_true rfl) (Nat.le_of_ble_eq_true rfl) ?_
    exact ⟨by rw [e] at c12; simp [c12], rfl⟩
theorem sp_isEnd (hp : z_pl M p0 a rv re c k s g H) (hs : z_small c) {t q : Nat} (ht : t < 30) (hq : q < 64) (hgg : g < 64) : w_S l G tX9_isEnd (3, 0, 0) [.ref p0, .int (nI t), .int (nI q)] M (w_is (.inl (some (.int (if z_isEnd c k g t q = true then 1 else 0)))) M) := by
  have hg := hp.1
  refine w_start (by decide) (Nat.le_of_ble_eq_true rfl) (fun X => ?_)
  refine wa_locals [(0, _), (1, _), (2, _)] [0, 1, 2] rfl ?_
  refine wa_iload_n 2 dX9_isEnd_0 rfl rfl ?_
  refine wa_aload_n 0 dX9_isEnd_1 rfl rfl ?_
  refine wa_getf dX9_isEnd_2 gX9_27 hg rfl ?_
  refine wa_icmp_eq 35 dX9_isEnd_5 rfl (fun c5 => ?_) (fun c5 => ?_)
  ·
    have i1 := (nI_eq (show q < 2 ^ 31 by omega) (show g < 2 ^ 31 by omega)).mp c5
    refine wa_iconst (0) dX9_isEnd_35 (by decide) ?_
    refine wa_iret FieldType.boolean dX9_isEnd_36 rfl rfl (Nat.le_of_ble_eq_true rfl) (Nat.le_of_ble_eq_true rfl) ?_
    refine ⟨z_may_is ?_, rfl⟩
    unfold z_isEnd
    simp [i1]
  ·
    have i1 : ¬ q = g := fun z => c5 (by rw [z])
    refine wa_aload_n 0 dX9_isEnd_8 rfl rfl ?_
    refine wa_iload_n 1 dX9_isEnd_9 rfl rfl ?_
    refine wa_iload_n 2 dX9_isEnd_10 rfl rfl ?_
    refine wa_aload_n 0 dX9_isEnd_11 rfl rfl ?_
    refine wa_getf dX9_isEnd_12 gX9_27 hg rfl ?_
    refine wc_isI (wr_V dX9_isEnd_15 mX9_71 (sp_mayGo hp hs ht hq hgg) hg rfl rfl rfl (Nat.le_of_ble_eq_true rfl)) ?_
    refine wa_if_eq 35 dX9_isEnd_18 rfl (fun c18 => ?_) (fun c18 => ?_)
    ·
      have i2 := z_n c18
      refine wa_iconst (0) dX9_isEnd_35 (by decide) ?_
      refine wa_iret FieldType.boolean dX9_isEnd_36 rfl rfl (Nat.le_of_ble_eq_true rfl) (Nat.le_of_ble_eq_true rfl) ?_
      refine ⟨z_may_is ?_, rfl⟩
      unfold z_isEnd
      simp [i1, i2]
    ·
      refine wa_aload_n 0 dX9_isEnd_21 rfl rfl ?_
      refine wa_iload_n 1 dX9_isEnd_22 rfl rfl ?_
      refine wa_iconst (1) dX9_isEnd_23 (by decide) ?_
      refine wa_iadd dX9_isEnd_24 ?_
      rw [show nI t + 1 = nI (t + 1) from nI_1 t]
      refine wc_isI (wr_V dX9_isEnd_25 mX9_75 (sp_mayStay hp hs (by omega) hgg) hg rfl rfl rfl (Nat.le_of_ble_eq_true rfl)) ?_
      refine wa_if_eq 35 dX9_isEnd_28 rfl (fun c28 => ?_) (fun c28 => ?_)
      ·
        have i2 := z_n c28
        have i3 := z_y c18
        refine wa_iconst (0) dX9_isEnd_35 (by decide) ?_
        refine wa_iret FieldType.boolean dX9_isEnd_36 rfl rfl (Nat.le_of_ble_eq_true rfl) (Nat.le_of_ble_eq_true rfl) ?_
        refine ⟨z_may_is ?_, rfl⟩
        unfold z_isEnd
        simp [i1, i2, i3]
      ·
        have i2 := z_y c28
        have i3 := z_y c18
        refine wa_iconst (1) dX9_isEnd_31 (by decide) ?_
        refine wa_goto 36 dX9_isEnd_32 rfl ?_
        refine wa_iret FieldType.boolean dX9_isEnd_36 rfl rfl (Nat.le_of_ble_eq_true rfl) (Nat.le_of_ble_eq_true rfl) ?_
        refine ⟨z_may_is ?_, rfl⟩
        unfold z_isEnd
        simp [i1, i2, i3]
theorem sp_isBeside (hp : z_pl M p0 a rv re c k s g H) (h : z_coreL G M P a kd rl ol sg ra oa ras oas c) (hs : z_small c) {q r : Nat} (hq : q < z_size c) (hr : r < z_size c) : w_S l G tX9_isBeside (4, 0, 0) [.ref p0, .int (nI q), .int (nI r)] M (w_is (.inl (some (.int (if z_isBeside c q r = true then 1 else 0)))) M) := by
  have hg := hp.1
  have hsz := hs.size
  refine w_start (by decide) (Nat.le_of_ble_eq_true rfl) (fun X => ?_)
  refine wa_locals [(0, _), (1, _), (2, _)] [0, 1, 2] rfl ?_
  have LP : ∀ (n u : Nat), u + n = 4 → (∀ v, v < u → ¬ z_nb c q v = some r) → w_A l G tX9_isBeside (4, 0, 0) X 0 0 M 2 [(3, .int (nI u)), (0, .ref p0), (1, .int (nI q)), (2, .int (nI r))] [] (w_is (.inl (some (.int (if z_isBeside c q r = true then 1 else 0)))) M) := by
    intro n
    induction n with
    | zero =>
      intro u hn hv
      refine wa_iload_n 0 dX9_isBeside_2 rfl rfl ?_
      refine wa_iconst (4) dX9_isBeside_3 (by decide) ?_
      refine wa_icmp_ge 28 dX9_isBeside_4 rfl (fun c4 => ?_) (fun c4 => absurd (nI_le (a := 4) (by omega) (by omega)) c4)
      refine wa_iconst (0) dX9_isBeside_28 (by decide) ?_
      refine wa_iret FieldType.boolean dX9_isBeside_29 rfl rfl (Nat.le_of_ble_eq_true rfl) (Nat.le_of_ble_eq_true rfl) ?_
      refine ⟨z_may_is ?_, rfl⟩
      have e : z_isBeside c q r = false := by
        unfold z_isBeside
        refine List.any_eq_false.mpr (fun v hv2 => ?_)
        have := List.mem_range.mp hv2
        rw [decide_eq_true_eq]
        exact hv v (by omega)
      rw [e]
      rfl
    | succ n ih =>
      intro u hn hv
      have hxl : ∀ x, z_nb c q u = some x → x < 2 ^ 31 := fun x hx => by have := z_by_lt hs hq ((z_by_n (show u < 4 by omega)).trans hx); omega
      refine wa_iload_n 0 dX9_isBeside_2 rfl rfl ?_
      refine wa_iconst (4) dX9_isBeside_3 (by decide) ?_
      refine wa_icmp_ge 28 dX9_isBeside_4 rfl (fun c4 => absurd c4 (nI_lt_not (b := 4) (by omega) (by decide))) (fun c4 => ?_)
      refine wa_aload_n 1 dX9_isBeside_7 rfl rfl ?_
      refine wa_getf dX9_isBeside_8 gX9_19 hg rfl ?_
      refine wa_iload_n 2 dX9_isBeside_11 rfl rfl ?_
      refine wa_iload_n 0 dX9_isBeside_12 rfl rfl ?_
      refine wc_isI (wr_V dX9_isBeside_13 mX9_68 (sp_nb h hs hq (by omega)) h.2.1 rfl rfl rfl (Nat.le_of_ble_eq_true rfl)) ?_
      refine wa_iload_n 3 dX9_isBeside_16 rfl rfl ?_
      refine wa_icmp_ne 22 dX9_isBeside_17 rfl (fun c17 => ?_) (fun c17 => ?_)
      ·
        have i1 : ¬ z_nb c q u = some r := fun z => c17 (by rw [z]; rfl)
        refine wa_iinc 0 [(3, _), (0, _), (1, _), (2, _)] dX9_isBeside_22 rfl (w_inc u) (Nat.le_of_ble_eq_true rfl) rfl ?_
        refine wa_goto 2 dX9_isBeside_25 rfl ?_
        exact ih (u + 1) (by omega) (fun v h1 => by
          by_cases w : v = u
          · subst w; exact i1
          · exact hv v (by omega))
      ·
        have i1 : z_nb c q u = some r := z_encS hxl (by omega) c17
        refine wa_iconst (1) dX9_isBeside_20 (by decide) ?_
        refine wa_iret FieldType.boolean dX9_isBeside_21 rfl rfl (Nat.le_of_ble_eq_true rfl) (Nat.le_of_ble_eq_true rfl) ?_
        refine ⟨z_may_is ?_, rfl⟩
        have e : z_isBeside c q r = true := by
          unfold z_isBeside
          exact List.any_eq_true.mpr ⟨u, List.mem_range.mpr (by omega), decide_eq_true i1⟩
        rw [e]
        rfl
  refine wa_iconst (0) dX9_isBeside_0 (by decide) ?_
  refine wa_istore_n [(3, _), (0, _), (1, _), (2, _)] dX9_isBeside_1 rfl (Nat.le_of_ble_eq_true rfl) rfl ?_
  exact LP 4 0 (by omega) (fun v h => absurd h (Nat.not_lt_zero v))
theorem sp_nextFrom (hp : z_pl M p0 a rv re c k s g H) (h : z_coreL G M P a kd rl ol sg ra oa ras oas c) (hs : z_small c) {t q : Nat} {w : Int64} (ht : t < 30) (hq : q < z_size c) : w_S l G tX9_nextFrom (5, 0, 0) [.ref p0, .int (nI t), .int (nI q), .long w] M (w_is (.inl (some (.int (z_enc (z_next c k t q (z_bit w)))))) M) := by
  have hg := hp.1
  have hsz := hs.size
  refine w_start (by decide) (Nat.le_of_ble_eq_true rfl) (fun X => ?_)
  refine wa_locals [(0, _), (1, _), (2, _), (3, _)] [0, 1, 2, 3] rfl ?_
  have LP : ∀ (n u : Nat), u + n = 5 → z_nextW c k t q (z_bit w) n u = z_next c k t q (z_bit w) → w_A l G tX9_nextFrom (5, 0, 0) X 0 0 M 3 [(5, .int (nI u)), (0, .ref p0), (1, .int (nI t)), (2, .int (nI q)), (3, .long w)] [] (w_is (.inl (some (.int (z_enc (z_next c k t q (z_bit w)))))) M) := by
    intro n
    induction n with
    | zero =>
      intro u hn he
      refine wa_iload 0 dX9_nextFrom_3 rfl ?_
      refine wa_iconst (4) dX9_nextFrom_5 (by decide) ?_
      refine wa_icmp_gt 55 dX9_nextFrom_6 rfl (fun c6 => ?_) (fun c6 => absurd (nI_lt (a := 4) (by omega) (by omega)) c6)
      refine wa_iconst (-1) dX9_nextFrom_55 (by decide) ?_
      refine wa_iret FieldType.int dX9_nextFrom_56 rfl rfl (Nat.le_of_ble_eq_true rfl) (Nat.le_of_ble_eq_true rfl) ?_
      exact ⟨by rw [← he]; rfl, rfl⟩
    | succ n ih =>
      intro u hn he
      have hxl : ∀ x, z_by c q u = some x → x < 2 ^ 31 := fun x hx => by have := z_by_lt hs hq hx; omega
      have hxm := z_enc_m1 hxl
      rw [z_nextW] at he
      refine wa_iload 0 dX9_nextFrom_3 rfl ?_
      refine wa_iconst (4) dX9_nextFrom_5 (by decide) ?_
      refine wa_icmp_gt 55 dX9_nextFrom_6 rfl (fun c6 => absurd c6 (z_gt4 (by omega))) (fun c6 => ?_)
      refine wa_aload_n 1 dX9_nextFrom_9 rfl rfl ?_
      refine wa_iload_n 3 dX9_nextFrom_10 rfl rfl ?_
      refine wa_iload 0 dX9_nextFrom_11 rfl ?_
      refine wc_isI (wr_V dX9_nextFrom_13 mX9_84 (sp_cellBy hp h hs hq (by omega)) hg rfl rfl rfl (Nat.le_of_ble_eq_true rfl)) ?_
      refine wa_istore [(6, _), (5, _), (0, _), (1, _), (2, _), (3, _)] dX9_nextFrom_16 (Nat.le_of_ble_eq_true rfl) rfl ?_
      refine wa_iload 0 dX9_nextFrom_18 rfl ?_
      refine wa_iconst (-1) dX9_nextFrom_20 (by decide) ?_
      refine wa_icmp_eq 49 dX9_nextFrom_21 rfl (fun c21 => ?_) (fun c21 => ?_)
      ·
        refine wa_iinc 1 [(5, _), (6, _), (0, _), (1, _), (2, _), (3, _)] dX9_nextFrom_49 rfl (w_inc u) (Nat.le_of_ble_eq_true rfl) rfl ?_
        refine wa_goto 3 dX9_nextFrom_52 rfl ?_
        refine wa_locals [(5, _), (0, _), (1, _), (2, _), (3, _)] [0, 2, 3, 4, 5] rfl ?_
        have i1 := hxm.mp c21
        simp only [i1] at he
        exact ih (u + 1) (by omega) he
      ·
        obtain ⟨x, i1⟩ : ∃ x, z_by c q u = some x := Option.ne_none_iff_exists'.mp (fun z => c21 (hxm.mpr z))
        have hx := z_by_lt hs hq i1
        rw [show z_enc (z_by c q u) = nI x by rw [i1]; rfl]
        simp only [i1] at he
        have e2 : lg_cmp (w >>> ((nI x).toInt64 &&& 63) &&& 1) 1 = 0 ↔ z_bit w x = true := by
          unfold z_bit
          rw [decide_eq_true_eq]
          exact w_lcmp0 _ _
        refine wa_lload_n 5 dX9_nextFrom_24 rfl rfl ?_
        refine wa_iload 0 dX9_nextFrom_25 rfl ?_
        refine wa_lshr dX9_nextFrom_27 ?_
        refine wa_lconst 1 dX9_nextFrom_28 (by decide) ?_
        refine wa_land dX9_nextFrom_29 ?_
        refine wa_lconst 1 dX9_nextFrom_30 (by decide) ?_
        refine wa_lcmp dX9_nextFrom_31 ?_
        refine wa_if_ne 49 dX9_nextFrom_32 rfl (fun c32 => ?_) (fun c32 => ?_)
        ·
          refine wa_iinc 1 [(5, _), (6, _), (0, _), (1, _), (2, _), (3, _)] dX9_nextFrom_49 rfl (w_inc u) (Nat.le_of_ble_eq_true rfl) rfl ?_
          refine wa_goto 3 dX9_nextFrom_52 rfl ?_
          refine wa_locals [(5, _), (0, _), (1, _), (2, _), (3, _)] [0, 2, 3, 4, 5] rfl ?_
          have i2 : ¬ (z_bit w x = true ∧ z_may c k t q x = true) := fun z => c32 (e2.mpr z.1)
          rw [if_neg i2] at he
          exact ih (u + 1) (by omega) he
        ·
          refine wa_aload_n 2 dX9_nextFrom_35 rfl rfl ?_
          refine wa_iload_n 3 dX9_nextFrom_36 rfl rfl ?_
          refine wa_iload_n 4 dX9_nextFrom_37 rfl rfl ?_
          refine wa_iload 0 dX9_nextFrom_38 rfl ?_
          refine wc_isI (wr_V dX9_nextFrom_40 mX9_71 (sp_mayGo hp hs ht (by omega) (by omega)) hg rfl rfl rfl (Nat.le_of_ble_eq_true rfl)) ?_
          refine wa_if_eq 49 dX9_nextFrom_43 rfl (fun c43 => ?_) (fun c43 => ?_)
          ·
            refine wa_iinc 1 [(5, _), (6, _), (0, _), (1, _), (2, _), (3, _)] dX9_nextFrom_49 rfl (w_inc u) (Nat.le_of_ble_eq_true rfl) rfl ?_
            refine wa_goto 3 dX9_nextFrom_52 rfl ?_
            refine wa_locals [(5, _), (0, _), (1, _), (2, _), (3, _)] [0, 2, 3, 4, 5] rfl ?_
            have i2 : ¬ (z_bit w x = true ∧ z_may c k t q x = true) := fun z => z_n c43 z.2
            rw [if_neg i2] at he
            exact ih (u + 1) (by omega) he
          ·
            refine wa_iload 0 dX9_nextFrom_46 rfl ?_
            refine wa_iret FieldType.int dX9_nextFrom_48 rfl rfl (Nat.le_of_ble_eq_true rfl) (Nat.le_of_ble_eq_true rfl) ?_
            exact ⟨by rw [if_pos ⟨e2.mp c32, z_y c43⟩] at he; rw [← he]; rfl, rfl⟩
  refine wa_iconst (0) dX9_nextFrom_0 (by decide) ?_
  refine wa_istore [(5, _), (0, _), (1, _), (2, _), (3, _)] dX9_nextFrom_1 (Nat.le_of_ble_eq_true rfl) rfl ?_
  exact LP 5 0 (by omega) rfl
/-- a layer, from the cells below p alone -/
def z_lay (c : z_C) (k s t p q : Nat) : Bool := (List.range p).any (fun p' => z_reach c k s t p' && (List.range 5).any (fun w => z_step c k t p' q w))
def z_layE (c : z_C) (k s g t p : Nat) : Bool := (List.range p).any (fun p' => z_reach c k s t p' && (List.range 5).any (fun w => z_endAt c k g t p' w))
theorem z_anyS (n : Nat) (f : Nat → Bool) : (List.range (n + 1)).any f = ((List.range n).any f || f n) := by simp [List.range_succ, List.any_append]
theorem z_any0 (f : Nat → Bool) : (List.range 0).any f = false := rfl
def z_lst (c : z_C) (k s : Nat) (M N : w_M) (re : Nat) (gf : Nat → Int64) (t : Nat) (lay : Nat → Bool) : Prop := N.get re = some (.inl (.long, 31, .inr (.inl gf))) ∧ w_fr M N (fun q => q = re) ∧ (∀ u q, u ≤ t → q < 64 → z_bit (gf u) q = z_reach c k s u q) ∧ ∀ q, q < 64 → z_bit (gf (t + 1)) q = lay q
theorem z_lst.put {c : z_C} {k s : Nat} {M N : w_M} {re : Nat} {gf : Nat → Int64} {t : Nat} {lay lay' : Nat → Bool} (h : z_lst c k s M N re gf t lay) {v : Int64} (hv : ∀ q, q < 64 → z_bit v q = lay' q) : z_lst c k s M (N.set re (.inl (.long, 31, .inr (.inl (vp_updL gf (t + 1) v))))) re (vp_updL gf (t + 1) v) t lay' :=
  ⟨w_set_self h.1, h.2.1.me, fun u q hu hq => by rw [show vp_updL gf (t + 1) v u = gf u from if_neg (by omega)]; exact h.2.2.1 u q hu hq, fun q hq => by rw [show vp_updL gf (t + 1) v (t + 1) = v from if_pos rfl]; exact hv q hq⟩
/-- what arrivalByLayers leaves: the first tick, and the layers up to it -/
def z_layQ (c : z_C) (k s g H : Nat) (M : w_M) (re : Nat) : w_O → w_M → Prop := w_rI (fun r N => r = z_enc ((z_first c k s g H 0).map (· + 1)) ∧ w_fr M N (fun q => q = re) ∧ ∃ gf : Nat → Int64, N.get re = some (.inl (.long, 31, .inr (.inl gf))) ∧ ∀ T, z_first c k s g H 0 = some T → ∀ u q, u ≤ T → q < 64 → z_bit (gf u) q = z_reach c k s u q)
theorem z_pl.keep {N : w_M} (hp : z_pl M p0 a rv re c k s g H) {gf0 : Nat → Int64} {n0 : Nat} (hre : M.get re = some (.inl (.long, n0, .inr (.inl gf0)))) (hf : w_fr M N (fun q => q = re)) : z_pl N p0 a rv re c k s g H := by
  obtain ⟨h1, f, h2, h3⟩ := hp
  exact ⟨hf.2 _ _ h1 (w_neA h1 hre), f, hf.2 _ _ h2 (w_neT h2 hre (by decide)), h3⟩
theorem sp_layers (hp : z_pl M p0 a rv re c k s g H) (h : z_coreL G M P a kd rl ol sg ra oa ras oas c) (hs : z_small c) {gf0 : Nat → Int64} (hre : M.get re = some (.inl (.long, 31, .inr (.inl gf0)))) (hPr : ∀ q, P q → ¬ q = re) (hss : s < z_size c) (hgs : g < z_size c) (hH : H ≤ 30) : w_S l G tX9_arrivalByLayers (5, 0, 0) [.ref p0] M (z_layQ c k s g H M re) := by
  have hg := hp.1
  have hsz := hs.size
  refine w_start (by decide) (Nat.le_of_ble_eq_true rfl) (fun X => ?_)
  refine wa_locals [(0, _)] [0] rfl ?_
  refine wa_lo (fun lo hd => ?_)
  have hr0 : ¬ w_ad G 0 = re := fun q => by rw [← q] at hre; exact hd _ hre
  have LW : ∀ (t : Nat) (_ : t < H) (p : Nat) (_ : p < z_size c) (_ : z_first c k s g (H - t) t = z_first c k s g H 0) (_ : z_reach c k s t p = true)
      (_ : ∀ (v : Int32) (N : w_M) (gf : Nat → Int64), z_lst c k s M N re gf t (z_lay c k s t (p + 1)) → (List.range 5).any (fun w => z_endAt c k g t p w) = false → w_A l G tX9_arrivalByLayers (5, 0, 0) X 0 0 N 132 [(3, .int v), (2, .int (nI p)), (1, .int (nI t)), (0, .ref p0)] [] (z_layQ c k s g H M re)),
      ∀ (n w : Nat) (N : w_M) (gf : Nat → Int64), w + n = 5 → z_lst c k s M N re gf t (fun q => z_lay c k s t p q || (List.range w).any (fun w' => z_step c k t p q w')) → (List.range w).any (fun w' => z_endAt c k g t p w') = false → w_A l G tX9_arrivalByLayers (5, 0, 0) X 0 0 N 46 [(3, .int (nI w)), (2, .int (nI p)), (1, .int (nI t)), (0, .ref p0)] [] (z_layQ c k s g H M re) := by
    intro t ht p hpp hfst hrp K n
    induction n with
    | zero =>
      intro w N gf hn hst hend
      have hw : w = 5 := by omega
      subst hw
      refine wa_iload_n 0 dX9_arrivalByLayers_46 rfl rfl ?_
      refine wa_iconst (4) dX9_arrivalByLayers_47 (by decide) ?_
      refine wa_icmp_gt 132 dX9_arrivalByLayers_48 rfl (fun c48 => ?_) (fun c48 => absurd (by decide) c48)
      refine K _ N gf ⟨hst.1, hst.2.1, hst.2.2.1, fun q hq => ?_⟩ hend
      rw [hst.2.2.2 q hq]
      unfold z_lay
      rw [z_anyS, hrp, Bool.true_and]
    | succ n ih =>
      intro w N gf hn hst hend
      have hpN := hp.keep hre hst.2.1
      have hgN := hpN.1
      have hcN := h.keep (W := fun q => q = re) hst.2.1 hPr hr0
      have hgc := hcN.2.1
      have hreN := hst.1
      have hxl : ∀ x, z_by c p w = some x → x < 2 ^ 31 := fun x hx => by have := z_by_lt hs hpp hx; omega
      have hxm := z_enc_m1 hxl
      have fin : ∀ x : Int64, (∀ q, q < 64 → z_bit x q = z_step c k t p q w) → z_endAt c k g t p w = false → w_A l G tX9_arrivalByLayers (5, 0, 0) X 0 0 (N.set re (.inl (.long, 31, .inr (.inl (vp_updL gf (t + 1) (gf (t + 1) ||| x)))))) 46 [(3, .int (nI (w + 1))), (2, .int (nI p)), (1, .int (nI t)), (0, .ref p0)] [] (z_layQ c k s g H M re) := fun x hx he => ih (w + 1) _ _ (by omega) (hst.put (fun q hq => by rw [z_bit_or hq, hst.2.2.2 q hq, hx q hq, z_anyS, Bool.or_assoc])) (by rw [z_anyS, hend, he]; rfl)
      have hnone : ∀ q, q < 64 → z_bit 0 q = z_step c k t p q w ∨ z_step c k t p q w = true := fun q hq => by rw [z_bit_zero hq]; cases z_step c k t p q w <;> simp
      refine wa_iload_n 0 dX9_arrivalByLayers_46 rfl rfl ?_
      refine wa_iconst (4) dX9_arrivalByLayers_47 (by decide) ?_
      refine wa_icmp_gt 132 dX9_arrivalByLayers_48 rfl (fun c48 => absurd c48 (z_gt4 (by omega))) (fun c48 => ?_)
      refine wa_aload_n 3 dX9_arrivalByLayers_51 rfl rfl ?_
      refine wa_iload_n 2 dX9_arrivalByLayers_52 rfl rfl ?_
      refine wa_iload_n 1 dX9_arrivalByLayers_53 rfl rfl ?_
      refine wc_isI (wr_V dX9_arrivalByLayers_54 mX9_80 (sp_isReached hpN hreN (by omega)) hgN rfl rfl rfl (Nat.le_of_ble_eq_true rfl)) ?_
      refine wa_if_eq 132 dX9_arrivalByLayers_57 rfl (fun c57 => absurd (z_n c57) (fun z => z (by rw [hst.2.2.1 t p (Nat.le_refl _) (by omega)]; exact hrp))) (fun c57 => ?_)
      refine wa_aload_n 3 dX9_arrivalByLayers_60 rfl rfl ?_
      refine wa_iload_n 1 dX9_arrivalByLayers_61 rfl rfl ?_
      refine wa_iload_n 0 dX9_arrivalByLayers_62 rfl rfl ?_
      refine wc_isI (wr_V dX9_arrivalByLayers_63 mX9_84 (sp_cellBy hpN hcN hs hpp (by omega)) hgN rfl rfl rfl (Nat.le_of_ble_eq_true rfl)) ?_
      refine wa_istore [(4, _), (3, _), (2, _), (1, _), (0, _)] dX9_arrivalByLayers_66 (Nat.le_of_ble_eq_true rfl) rfl ?_
      refine wa_iload 0 dX9_arrivalByLayers_68 rfl ?_
      refine wa_aload_n 4 dX9_arrivalByLayers_70 rfl rfl ?_
      refine wa_getf dX9_arrivalByLayers_71 gX9_27 (by assumption) rfl ?_
      refine wa_icmp_ne 90 dX9_arrivalByLayers_74 rfl (fun c74 => ?_) (fun c74 => ?_)
      ·
        have i1 : z_endAt c k g t p w = false := by
          unfold z_endAt
          rw [decide_eq_false (fun z => c74 (by rw [z]; rfl))]
          rfl
        refine wa_locals [(4, _), (3, _), (2, _), (1, _), (0, _)] [0, 1, 2, 3, 4] rfl ?_
        refine wa_aload_n 4 dX9_arrivalByLayers_90 rfl rfl ?_
        refine wa_getf dX9_arrivalByLayers_91 gX9_15 hgN rfl ?_
        refine wa_iload_n 3 dX9_arrivalByLayers_94 rfl rfl ?_
        refine wa_iconst (1) dX9_arrivalByLayers_95 (by decide) ?_
        refine wa_iadd dX9_arrivalByLayers_96 ?_
        rw [show nI t + 1 = nI (t + 1) from nI_1 t]
        refine wa_dup2 dX9_arrivalByLayers_97 rfl rfl ?_
        refine wa_lald dX9_arrivalByLayers_98 hreN (vp_in_nI (by omega) (by decide)) ?_
        rw [nI_clamp (by omega)]
        refine wa_iload 0 dX9_arrivalByLayers_99 rfl ?_
        refine wa_iconst (-1) dX9_arrivalByLayers_101 (by decide) ?_
        refine wa_icmp_eq 123 dX9_arrivalByLayers_102 rfl (fun c102 => ?_) (fun c102 => ?_)
        ·
          have i2 := hxm.mp c102
          refine wa_lconst 0 dX9_arrivalByLayers_123 (by decide) ?_
          refine wa_lor dX9_arrivalByLayers_124 ?_
          refine wa_last dX9_arrivalByLayers_125 hreN (vp_in_nI (by omega) (by decide)) ?_
          rw [nI_clamp (by omega)]
          refine wa_iinc 1 [(3, _), (4, _), (2, _), (1, _), (0, _)] dX9_arrivalByLayers_126 rfl (w_inc w) (Nat.le_of_ble_eq_true rfl) rfl ?_
          refine wa_goto 46 dX9_arrivalByLayers_129 rfl ?_
          refine wa_locals [(3, _), (2, _), (1, _), (0, _)] [0, 2, 3, 4] rfl ?_
          refine fin 0 (fun q hq => ?_) i1
          rw [z_bit_zero hq]
          unfold z_step
          rw [i2]
          rfl
        ·
          obtain ⟨x, i2⟩ : ∃ x, z_by c p w = some x := Option.ne_none_iff_exists'.mp (fun z => c102 (hxm.mpr z))
          have hx := z_by_lt hs hpp i2
          rw [show z_enc (z_by c p w) = nI x by rw [i2]; rfl]
          refine wa_aload_n 4 dX9_arrivalByLayers_105 rfl rfl ?_
          refine wa_iload_n 3 dX9_arrivalByLayers_106 rfl rfl ?_
          refine wa_iload_n 2 dX9_arrivalByLayers_107 rfl rfl ?_
          refine wa_iload 0 dX9_arrivalByLayers_108 rfl ?_
          refine wc_isI (wr_V dX9_arrivalByLayers_110 mX9_71 (sp_mayGo hpN hs (by omega) (by omega) (by omega)) hgN rfl rfl rfl (Nat.le_of_ble_eq_true rfl)) ?_
          refine wa_if_eq 123 dX9_arrivalByLayers_113 rfl (fun c113 => ?_) (fun c113 => ?_)
          ·
            have i3 := z_n c113
            refine wa_lconst 0 dX9_arrivalByLayers_123 (by decide) ?_
            refine wa_lor dX9_arrivalByLayers_124 ?_
            refine wa_last dX9_arrivalByLayers_125 hreN (vp_in_nI (by omega) (by decide)) ?_
            rw [nI_clamp (by omega)]
            refine wa_iinc 1 [(3, _), (4, _), (2, _), (1, _), (0, _)] dX9_arrivalByLayers_126 rfl (w_inc w) (Nat.le_of_ble_eq_true rfl) rfl ?_
            refine wa_goto 46 dX9_arrivalByLayers_129 rfl ?_
            refine wa_locals [(3, _), (2, _), (1, _), (0, _)] [0, 2, 3, 4] rfl ?_
            refine fin 0 (fun q hq => ?_) i1
            rw [z_bit_zero hq]
            unfold z_step
            rw [i2]
            by_cases e : x = q
            · subst e
              rw [Bool.eq_false_iff.mpr i3, Bool.and_false]
            · rw [decide_eq_false (fun z => e (Option.some.inj z))]
              rfl
          ·
            have i3 := z_y c113
            refine wa_lconst 1 dX9_arrivalByLayers_116 (by decide) ?_
            refine wa_iload 0 dX9_arrivalByLayers_117 rfl ?_
            refine wa_lshl dX9_arrivalByLayers_119 ?_
            rw [z_oneE]
            refine wa_goto 124 dX9_arrivalByLayers_120 rfl ?_
            refine wa_lor dX9_arrivalByLayers_124 ?_
            refine wa_last dX9_arrivalByLayers_125 hreN (vp_in_nI (by omega) (by decide)) ?_
            rw [nI_clamp (by omega)]
            refine wa_iinc 1 [(3, _), (4, _), (2, _), (1, _), (0, _)] dX9_arrivalByLayers_126 rfl (w_inc w) (Nat.le_of_ble_eq_true rfl) rfl ?_
            refine wa_goto 46 dX9_arrivalByLayers_129 rfl ?_
            refine wa_locals [(3, _), (2, _), (1, _), (0, _)] [0, 2, 3, 4] rfl ?_
            refine fin (z_one x) (fun q hq => ?_) i1
            rw [z_bit_one (by omega) hq]
            unfold z_step
            rw [i2]
            by_cases e : q = x
            · subst e
              rw [i3]
              simp
            · rw [decide_eq_false (fun z => e (Option.some.inj z).symm), decide_eq_false e]
              rfl
      ·
        refine wa_aload_n 4 dX9_arrivalByLayers_77 rfl rfl ?_
        refine wa_iload_n 3 dX9_arrivalByLayers_78 rfl rfl ?_
        refine wa_iload_n 2 dX9_arrivalByLayers_79 rfl rfl ?_
        refine wc_isI (wr_V dX9_arrivalByLayers_80 mX9_87 (sp_isEnd hpN hs (by omega) (by omega) (by omega)) hgN rfl rfl rfl (Nat.le_of_ble_eq_true rfl)) ?_
        refine wa_if_eq 90 dX9_arrivalByLayers_83 rfl (fun c83 => ?_) (fun c83 => ?_)
        ·
          have i1 : z_endAt c k g t p w = false := by
            unfold z_endAt
            rw [Bool.eq_false_iff.mpr (z_n c83), Bool.and_false]
          refine wa_locals [(4, _), (3, _), (2, _), (1, _), (0, _)] [0, 1, 2, 3, 4] rfl ?_
          refine wa_aload_n 4 dX9_arrivalByLayers_90 rfl rfl ?_
          refine wa_getf dX9_arrivalByLayers_91 gX9_15 hgN rfl ?_
          refine wa_iload_n 3 dX9_arrivalByLayers_94 rfl rfl ?_
          refine wa_iconst (1) dX9_arrivalByLayers_95 (by decide) ?_
          refine wa_iadd dX9_arrivalByLayers_96 ?_
          rw [show nI t + 1 = nI (t + 1) from nI_1 t]
          refine wa_dup2 dX9_arrivalByLayers_97 rfl rfl ?_
          refine wa_lald dX9_arrivalByLayers_98 hreN (vp_in_nI (by omega) (by decide)) ?_
          rw [nI_clamp (by omega)]
          refine wa_iload 0 dX9_arrivalByLayers_99 rfl ?_
          refine wa_iconst (-1) dX9_arrivalByLayers_101 (by decide) ?_
          refine wa_icmp_eq 123 dX9_arrivalByLayers_102 rfl (fun c102 => ?_) (fun c102 => ?_)
          ·
            have i2 := hxm.mp c102
            refine wa_lconst 0 dX9_arrivalByLayers_123 (by decide) ?_
            refine wa_lor dX9_arrivalByLayers_124 ?_
            refine wa_last dX9_arrivalByLayers_125 hreN (vp_in_nI (by omega) (by decide)) ?_
            rw [nI_clamp (by omega)]
            refine wa_iinc 1 [(3, _), (4, _), (2, _), (1, _), (0, _)] dX9_arrivalByLayers_126 rfl (w_inc w) (Nat.le_of_ble_eq_true rfl) rfl ?_
            refine wa_goto 46 dX9_arrivalByLayers_129 rfl ?_
            refine wa_locals [(3, _), (2, _), (1, _), (0, _)] [0, 2, 3, 4] rfl ?_
            refine fin 0 (fun q hq => ?_) i1
            rw [z_bit_zero hq]
            unfold z_step
            rw [i2]
            rfl
          ·
            obtain ⟨x, i2⟩ : ∃ x, z_by c p w = some x := Option.ne_none_iff_exists'.mp (fun z => c102 (hxm.mpr z))
            have hx := z_by_lt hs hpp i2
            rw [show z_enc (z_by c p w) = nI x by rw [i2]; rfl]
            refine wa_aload_n 4 dX9_arrivalByLayers_105 rfl rfl ?_
            refine wa_iload_n 3 dX9_arrivalByLayers_106 rfl rfl ?_
            refine wa_iload_n 2 dX9_arrivalByLayers_107 rfl rfl ?_
            refine wa_iload 0 dX9_arrivalByLayers_108 rfl ?_
            refine wc_isI (wr_V dX9_arrivalByLayers_110 mX9_71 (sp_mayGo hpN hs (by omega) (by omega) (by omega)) hgN rfl rfl rfl (Nat.le_of_ble_eq_true rfl)) ?_
            refine wa_if_eq 123 dX9_arrivalByLayers_113 rfl (fun c113 => ?_) (fun c113 => ?_)
            ·
              have i3 := z_n c113
              refine wa_lconst 0 dX9_arrivalByLayers_123 (by decide) ?_
              refine wa_lor dX9_arrivalByLayers_124 ?_
              refine wa_last dX9_arrivalByLayers_125 hreN (vp_in_nI (by omega) (by decide)) ?_
              rw [nI_clamp (by omega)]
              refine wa_iinc 1 [(3, _), (4, _), (2, _), (1, _), (0, _)] dX9_arrivalByLayers_126 rfl (w_inc w) (Nat.le_of_ble_eq_true rfl) rfl ?_
              refine wa_goto 46 dX9_arrivalByLayers_129 rfl ?_
              refine wa_locals [(3, _), (2, _), (1, _), (0, _)] [0, 2, 3, 4] rfl ?_
              refine fin 0 (fun q hq => ?_) i1
              rw [z_bit_zero hq]
              unfold z_step
              rw [i2]
              by_cases e : x = q
              · subst e
                rw [Bool.eq_false_iff.mpr i3, Bool.and_false]
              · rw [decide_eq_false (fun z => e (Option.some.inj z))]
                rfl
            ·
              have i3 := z_y c113
              refine wa_lconst 1 dX9_arrivalByLayers_116 (by decide) ?_
              refine wa_iload 0 dX9_arrivalByLayers_117 rfl ?_
              refine wa_lshl dX9_arrivalByLayers_119 ?_
              rw [z_oneE]
              refine wa_goto 124 dX9_arrivalByLayers_120 rfl ?_
              refine wa_lor dX9_arrivalByLayers_124 ?_
              refine wa_last dX9_arrivalByLayers_125 hreN (vp_in_nI (by omega) (by decide)) ?_
              rw [nI_clamp (by omega)]
              refine wa_iinc 1 [(3, _), (4, _), (2, _), (1, _), (0, _)] dX9_arrivalByLayers_126 rfl (w_inc w) (Nat.le_of_ble_eq_true rfl) rfl ?_
              refine wa_goto 46 dX9_arrivalByLayers_129 rfl ?_
              refine wa_locals [(3, _), (2, _), (1, _), (0, _)] [0, 2, 3, 4] rfl ?_
              refine fin (z_one x) (fun q hq => ?_) i1
              rw [z_bit_one (by omega) hq]
              unfold z_step
              rw [i2]
              by_cases e : q = x
              · subst e
                rw [i3]
                simp
              · rw [decide_eq_false (fun z => e (Option.some.inj z).symm), decide_eq_false e]
                rfl
        ·
          have i1 : z_by c p w = some g := z_encS hxl (by omega) c74
          have i2 := z_y c83
          have hh : z_hasEnd c k s g t = true := List.any_eq_true.mpr ⟨p, List.mem_range.mpr hpp, by rw [hrp, Bool.true_and]; exact List.any_eq_true.mpr ⟨w, List.mem_range.mpr (by omega), by unfold z_endAt; rw [i2, Bool.and_true]; exact decide_eq_true i1⟩⟩
          have hf : z_first c k s g H 0 = some t := by rw [← hfst, show H - t = (H - (t + 1)) + 1 by omega, z_first, if_pos hh]
          refine wa_iload_n 3 dX9_arrivalByLayers_86 rfl rfl ?_
          refine wa_iconst (1) dX9_arrivalByLayers_87 (by decide) ?_
          refine wa_iadd dX9_arrivalByLayers_88 ?_
          rw [show nI t + 1 = nI (t + 1) from nI_1 t]
          refine wa_iret FieldType.int dX9_arrivalByLayers_89 rfl rfl (Nat.le_of_ble_eq_true rfl) (Nat.le_of_ble_eq_true rfl) ?_
          exact ⟨_, rfl, by rw [hf]; rfl, hst.2.1, gf, hst.1, fun T hT u q hu hq => by rw [hf] at hT; cases hT; exact hst.2.2.1 u q hu hq⟩
  have LC : ∀ (t : Nat) (_ : t < H) (_ : z_first c k s g (H - t) t = z_first c k s g H 0)
      (_ : ∀ (v : Int32) (N : w_M) (gf : Nat → Int64), z_lst c k s M N re gf t (z_lay c k s t (z_size c)) → z_hasEnd c k s g t = false → w_A l G tX9_arrivalByLayers (5, 0, 0) X 0 0 N 138 [(2, .int v), (1, .int (nI t)), (0, .ref p0)] [] (z_layQ c k s g H M re)),
      ∀ (n p : Nat) (N : w_M) (gf : Nat → Int64), p + n = z_size c → z_lst c k s M N re gf t (z_lay c k s t p) → z_layE c k s g t p = false → w_A l G tX9_arrivalByLayers (5, 0, 0) X 0 0 N 33 [(2, .int (nI p)), (1, .int (nI t)), (0, .ref p0)] [] (z_layQ c k s g H M re) := by
    intro t ht hfst K n
    induction n with
    | zero =>
      intro p N gf hn hst hend
      have hpN := hp.keep hre hst.2.1
      have hgN := hpN.1
      have hcN := h.keep (W := fun q => q = re) hst.2.1 hPr hr0
      have hgc := hcN.2.1
      have hreN := hst.1
      have hw : p = z_size c := by omega
      subst hw
      refine wa_iload_n 0 dX9_arrivalByLayers_33 rfl rfl ?_
      refine wa_aload_n 2 dX9_arrivalByLayers_34 rfl rfl ?_
      refine wa_getf dX9_arrivalByLayers_35 gX9_19 hgN rfl ?_
      refine wc_isI (wr_V dX9_arrivalByLayers_38 mX9_79 (sp_C_size hcN) hgc rfl rfl rfl (Nat.le_of_ble_eq_true rfl)) ?_
      refine wa_icmp_ge 138 dX9_arrivalByLayers_41 rfl (fun c41 => ?_) (fun c41 => absurd (nI_le (by omega) (by omega)) c41)
      exact K _ N gf hst hend
    | succ n ih =>
      intro p N gf hn hst hend
      have hpN := hp.keep hre hst.2.1
      have hgN := hpN.1
      have hcN := h.keep (W := fun q => q = re) hst.2.1 hPr hr0
      have hgc := hcN.2.1
      have hreN := hst.1
      refine wa_iload_n 0 dX9_arrivalByLayers_33 rfl rfl ?_
      refine wa_aload_n 2 dX9_arrivalByLayers_34 rfl rfl ?_
      refine wa_getf dX9_arrivalByLayers_35 gX9_19 hgN rfl ?_
      refine wc_isI (wr_V dX9_arrivalByLayers_38 mX9_79 (sp_C_size hcN) hgc rfl rfl rfl (Nat.le_of_ble_eq_true rfl)) ?_
      refine wa_icmp_ge 138 dX9_arrivalByLayers_41 rfl (fun c41 => absurd c41 (nI_lt_not (by omega) (by omega))) (fun c41 => ?_)
      refine wa_iconst (0) dX9_arrivalByLayers_44 (by decide) ?_
      refine wa_istore_n [(3, _), (2, _), (1, _), (0, _)] dX9_arrivalByLayers_45 rfl (Nat.le_of_ble_eq_true rfl) rfl ?_
      have KK : ∀ (v : Int32) (N : w_M) (gf : Nat → Int64), z_lst c k s M N re gf t (z_lay c k s t (p + 1)) → z_layE c k s g t (p + 1) = false → w_A l G tX9_arrivalByLayers (5, 0, 0) X 0 0 N 132 [(3, .int v), (2, .int (nI p)), (1, .int (nI t)), (0, .ref p0)] [] (z_layQ c k s g H M re) := fun v N gf hst2 he2 => by
        refine wa_iinc 1 [(2, _), (3, _), (1, _), (0, _)] dX9_arrivalByLayers_132 rfl (w_inc p) (Nat.le_of_ble_eq_true rfl) rfl ?_
        refine wa_goto 33 dX9_arrivalByLayers_135 rfl ?_
        refine wa_locals [(2, _), (1, _), (0, _)] [0, 2, 3] rfl ?_
        exact ih (p + 1) N gf (by omega) hst2 he2
      by_cases hrp : z_reach c k s t p = true
      · refine LW t ht p (by omega) hfst hrp (fun v N2 gf2 hst2 he2 => KK v N2 gf2 hst2 ?_) 5 0 N gf (by omega) ⟨hst.1, hst.2.1, hst.2.2.1, fun q hq => by rw [hst.2.2.2 q hq]; exact (Bool.or_false _).symm⟩ rfl
        unfold z_layE at hend ⊢
        rw [z_anyS, hend, he2, Bool.and_false]
        rfl
      · have hrf := Bool.eq_false_iff.mpr hrp
        refine wa_iload_n 0 dX9_arrivalByLayers_46 rfl rfl ?_
        refine wa_iconst (4) dX9_arrivalByLayers_47 (by decide) ?_
        refine wa_icmp_gt 132 dX9_arrivalByLayers_48 rfl (fun c48 => absurd c48 (by decide)) (fun c48 => ?_)
        refine wa_aload_n 3 dX9_arrivalByLayers_51 rfl rfl ?_
        refine wa_iload_n 2 dX9_arrivalByLayers_52 rfl rfl ?_
        refine wa_iload_n 1 dX9_arrivalByLayers_53 rfl rfl ?_
        refine wc_isI (wr_V dX9_arrivalByLayers_54 mX9_80 (sp_isReached hpN hreN (by omega)) hgN rfl rfl rfl (Nat.le_of_ble_eq_true rfl)) ?_
        refine wa_if_eq 132 dX9_arrivalByLayers_57 rfl (fun c57 => ?_) (fun c57 => absurd (z_y c57) (fun z => hrp (by rw [← hst.2.2.1 t p (Nat.le_refl _) (by omega)]; exact z)))
        refine KK _ N gf ⟨hst.1, hst.2.1, hst.2.2.1, fun q hq => ?_⟩ ?_
        · rw [hst.2.2.2 q hq]
          unfold z_lay
          rw [z_anyS, hrf, Bool.false_and, Bool.or_false]
        · unfold z_layE at hend ⊢
          rw [z_anyS, hend, hrf, Bool.false_and]
          rfl
  have LT : ∀ (n t : Nat) (N : w_M) (gf : Nat → Int64), t + n = H → z_first c k s g n t = z_first c k s g H 0 → N.get re = some (.inl (.long, 31, .inr (.inl gf))) → w_fr M N (fun q => q = re) → (∀ u q, u ≤ t → q < 64 → z_bit (gf u) q = z_reach c k s u q) → w_A l G tX9_arrivalByLayers (5, 0, 0) X 0 0 N 14 [(1, .int (nI t)), (0, .ref p0)] [] (z_layQ c k s g H M re) := by
    intro n
    induction n with
    | zero =>
      intro t N gf hn hfst hreN hfr hb
      have hgN := (hp.keep hre hfr).1
      refine wa_iload_n 0 dX9_arrivalByLayers_14 rfl rfl ?_
      refine wa_aload_n 1 dX9_arrivalByLayers_15 rfl rfl ?_
      refine wa_getf dX9_arrivalByLayers_16 gX9_53 hgN rfl ?_
      refine wa_icmp_ge 144 dX9_arrivalByLayers_19 rfl (fun c19 => ?_) (fun c19 => absurd (nI_le (by omega) (by omega)) c19)
      refine wa_iconst (-1) dX9_arrivalByLayers_144 (by decide) ?_
      refine wa_iret FieldType.int dX9_arrivalByLayers_145 rfl rfl (Nat.le_of_ble_eq_true rfl) (Nat.le_of_ble_eq_true rfl) ?_
      exact ⟨_, rfl, by rw [← hfst]; rfl, hfr, gf, hreN, fun T hT => by rw [← hfst] at hT; cases hT⟩
    | succ n ih =>
      intro t N gf hn hfst hreN hfr hb
      have hgN := (hp.keep hre hfr).1
      refine wa_iload_n 0 dX9_arrivalByLayers_14 rfl rfl ?_
      refine wa_aload_n 1 dX9_arrivalByLayers_15 rfl rfl ?_
      refine wa_getf dX9_arrivalByLayers_16 gX9_53 hgN rfl ?_
      refine wa_icmp_ge 144 dX9_arrivalByLayers_19 rfl (fun c19 => absurd c19 (nI_lt_not (by omega) (by omega))) (fun c19 => ?_)
      refine wa_aload_n 1 dX9_arrivalByLayers_22 rfl rfl ?_
      refine wa_getf dX9_arrivalByLayers_23 gX9_15 hgN rfl ?_
      refine wa_iload_n 0 dX9_arrivalByLayers_26 rfl rfl ?_
      refine wa_iconst (1) dX9_arrivalByLayers_27 (by decide) ?_
      refine wa_iadd dX9_arrivalByLayers_28 ?_
      refine wa_lconst 0 dX9_arrivalByLayers_29 (by decide) ?_
      rw [show nI t + 1 = nI (t + 1) from nI_1 t]
      refine wa_last dX9_arrivalByLayers_30 hreN (vp_in_nI (by omega) (by decide)) ?_
      rw [nI_clamp (by omega)]
      refine wa_iconst (0) dX9_arrivalByLayers_31 (by decide) ?_
      refine wa_istore_n [(2, _), (1, _), (0, _)] dX9_arrivalByLayers_32 rfl (Nat.le_of_ble_eq_true rfl) rfl ?_
      refine LC t (by omega) (by rw [show H - t = n + 1 by omega]; exact hfst) (fun v N2 gf2 hst2 he2 => ?_) (z_size c) 0 (N.set re (.inl (.long, 31, .inr (.inl (vp_updL gf (t + 1) 0))))) (vp_updL gf (t + 1) 0) (by omega) ⟨w_set_self hreN, hfr.me, fun u q hu hq => by rw [show vp_updL gf (t + 1) 0 u = gf u from if_neg (by omega)]; exact hb u q hu hq, fun q hq => by rw [show vp_updL gf (t + 1) 0 (t + 1) = 0 from if_pos rfl, z_bit_zero hq]; rfl⟩ rfl
      refine wa_iinc 1 [(1, _), (2, _), (0, _)] dX9_arrivalByLayers_138 rfl (w_inc t) (Nat.le_of_ble_eq_true rfl) rfl ?_
      refine wa_goto 14 dX9_arrivalByLayers_141 rfl ?_
      refine wa_locals [(1, _), (0, _)] [0, 2] rfl ?_
      refine ih (t + 1) N2 gf2 (by omega) ?_ hst2.1 hst2.2.1 (fun u q hu hq => ?_)
      · rw [← hfst, z_first, if_neg (by rw [he2]; decide)]
      · by_cases hu2 : u ≤ t
        · exact hst2.2.2.1 u q hu2 hq
        · rw [show u = t + 1 by omega, hst2.2.2.2 q hq]
          rfl
  refine wa_aload_n 0 dX9_arrivalByLayers_0 rfl rfl ?_
  refine wa_getf dX9_arrivalByLayers_1 gX9_15 hg rfl ?_
  refine wa_iconst (0) dX9_arrivalByLayers_4 (by decide) ?_
  refine wa_lconst 1 dX9_arrivalByLayers_5 (by decide) ?_
  refine wa_aload_n 0 dX9_arrivalByLayers_6 rfl rfl ?_
  refine wa_getf dX9_arrivalByLayers_7 gX9_47 hg rfl ?_
  refine wa_lshl dX9_arrivalByLayers_10 ?_
  rw [z_oneE]
  refine wa_last dX9_arrivalByLayers_11 hre (vp_in_nI (n := 0) (by decide) (by decide)) ?_
  refine wa_iconst (0) dX9_arrivalByLayers_12 (by decide) ?_
  refine wa_istore_n [(1, _), (0, _)] dX9_arrivalByLayers_13 rfl (Nat.le_of_ble_eq_true rfl) rfl ?_
  refine LT H 0 _ _ (by omega) rfl (w_set_self hre) w_fr_me (fun u q hu hq => ?_)
  rw [show u = 0 by omega]
  show z_bit (z_one s) q = z_reach c k s 0 q
  rw [z_bit_one (by omega) hq]
  rfl
end PL
