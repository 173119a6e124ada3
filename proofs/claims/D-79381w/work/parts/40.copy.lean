/-! ===== arrays of numbers; the core made and copied; ticks passed ===== -/
set_option maxRecDepth 100000
theorem w_nb {N c : Nat} (hN : N < 2 ^ 20) (h : c ≤ 8) : N * c ≤ 536870912 := by
  have := Nat.mul_le_mul_left N h
  omega
section NA
variable {l : Launch} {G : w_G} {T : w_T} {B : w_R} {X : w_X} {k n : Nat} {M : w_M} {pc : Nat} {L : List (Nat × Value)} {st : List Value} {Q : w_O → w_M → Prop}
theorem wa_newi {m : Int32} (N : Nat) (hd : decode T.1 pc = .ok (.newarray .int, 2)) (harr : Cond.arrayClass .int ∈ lw_all) (hm : m = nI N) (hN : N < 2 ^ 20) (h1 : k + 1 ≤ B.2.1) (h2 : n + N ≤ B.2.2) (kk : w_A l G T B X (k + 1) (n + N) (M.push (.inl (.int, N, .inl (fun _ => 0)))) (pc + 2) L (.ref M.sz :: st) Q) : w_A l G T B X k n M pc L (.int m :: st) Q :=
  wa_newa .int N (N, .inl (fun _ => 0)) 0 hd rfl rfl harr (fun cA => by rw [vp_cell_i]; rfl) hm (w_nb hN (by decide)) (by omega) h1 h2 kk
theorem wa_newl {m : Int32} (N : Nat) (hd : decode T.1 pc = .ok (.newarray .long, 2)) (harr : Cond.arrayClass .long ∈ lw_all) (hm : m = nI N) (hN : N < 2 ^ 20) (h1 : k + 1 ≤ B.2.1) (h2 : n + N ≤ B.2.2) (kk : w_A l G T B X (k + 1) (n + N) (M.push (.inl (.long, N, .inr (.inl (fun _ => 0))))) (pc + 2) L (.ref M.sz :: st) Q) : w_A l G T B X k n M pc L (.int m :: st) Q :=
  wa_newa .long N (N, .inr (.inl (fun _ => 0))) 1 hd rfl rfl harr (fun cA => by rw [vp_cell_l]; rfl) hm (w_nb hN (by decide)) (by omega) h1 h2 kk
theorem wa_newc {m : Int32} (N : Nat) (hd : decode T.1 pc = .ok (.newarray .char, 2)) (harr : Cond.arrayClass .char ∈ lw_all) (hm : m = nI N) (hN : N < 2 ^ 20) (h1 : k + 1 ≤ B.2.1) (h2 : n + N ≤ B.2.2) (kk : w_A l G T B X (k + 1) (n + N) (M.push (.inl (.char, N, .inl (fun _ => 0)))) (pc + 2) L (.ref M.sz :: st) Q) : w_A l G T B X k n M pc L (.int m :: st) Q :=
  wa_newa .char N (N, .inl (fun _ => 0)) 2 hd rfl rfl harr (fun cA => by rw [vp_cell_i]; rfl) hm (w_nb hN (by decide)) (by omega) h1 h2 kk
theorem wa_newz {m : Int32} (N : Nat) (hd : decode T.1 pc = .ok (.newarray .boolean, 2)) (harr : Cond.arrayClass .boolean ∈ lw_all) (hm : m = nI N) (hN : N < 2 ^ 20) (h1 : k + 1 ≤ B.2.1) (h2 : n + N ≤ B.2.2) (kk : w_A l G T B X (k + 1) (n + N) (M.push (.inl (.boolean, N, .inl (fun _ => 0)))) (pc + 2) L (.ref M.sz :: st) Q) : w_A l G T B X k n M pc L (.int m :: st) Q :=
  wa_newa .boolean N (N, .inl (fun _ => 0)) 4 hd rfl rfl harr (fun cA => by rw [vp_cell_i]; rfl) hm (w_nb hN (by decide)) (by omega) h1 h2 kk
theorem wa_newd {m : Int32} (N : Nat) (hd : decode T.1 pc = .ok (.newarray .double, 2)) (harr : Cond.arrayClass .double ∈ lw_all) (hm : m = nI N) (hN : N < 2 ^ 20) (h1 : k + 1 ≤ B.2.1) (h2 : n + N ≤ B.2.2) (kk : w_A l G T B X (k + 1) (n + N) (M.push (.inl (.double, N, .inr (.inr (.inr (.inl (fun _ => 0))))))) (pc + 2) L (.ref M.sz :: st) Q) : w_A l G T B X k n M pc L (.int m :: st) Q :=
  wa_newa .double N (N, .inr (.inr (.inr (.inl (fun _ => 0))))) 5 hd rfl rfl harr (fun cA => by rw [vp_cell_d]; rfl) hm (w_nb hN (by decide)) (by omega) h1 h2 kk
theorem wa_costs {k' n' : Nat} (hk : k = k') (hn : n = n') (kk : w_A l G T B X k' n' M pc L st Q) : w_A l G T B X k n M pc L st Q := by
  subst hk; subst hn; exact kk
theorem wa_pad {k' n' : Nat} (hk : k ≤ k') (hn : n ≤ n') (kk : w_A l G T B X k' n' M pc L st Q) : w_A l G T B X k n M pc L st Q :=
  fun O H locs ls hR h0 hl => W.widen hk hn (kk O H locs ls hR h0 hl)
def w_rN (post : w_M → Prop) : w_O → w_M → Prop := fun o M' => o = .inl (some .null) ∧ post M'
theorem wc_N {st0 : List Value} {post : w_M → Prop} {k2 n2 len : Nat} (h : w_Run l G T B X k n M pc len L st0 st (w_rN post) k2 n2) (kk : ∀ M', post M' → w_A l G T B X k2 n2 M' (pc + len) L (.null :: st) Q) : w_A l G T B X k n M pc L st0 Q :=
  h Q (fun v' M' q => by obtain ⟨q1, q2⟩ := q; cases q1; exact kk M' q2) (fun E q M' q => by obtain ⟨q1, q2⟩ := q; cases q1)
end NA
theorem w_fit_mk {B B' : w_R} {k n : Nat} (h1 : k + B'.2.1 ≤ B.2.1) (h2 : n + B'.2.2 ≤ B.2.2) (h3 : Nat.ble (B'.1 + 1) B.1 = true) : w_fit B B' k n = true := by
  simp only [w_fit, Bool.and_eq_true]
  exact ⟨Nat.ble_eq_true_of_le h1, Nat.ble_eq_true_of_le h2, h3⟩
section CP
variable {l : Launch} {G : w_G} {M : w_M} {P : Nat → Prop} {a kd rl ol sg ra oa s0 : Nat} {ras oas : List Nat} {c : z_C}
theorem sp_C_pass (h : z_coreL G M P a kd rl ol sg ra oa ras oas c) (hs : z_small c) (ho : z_own G s0 a rl ol sg ra oa ras oas) {x : Int32} : w_S l G tX2_pass (7, 1, 8) [.ref a, .int x] M (z_post G P s0 a M (z_passC c x)) := by
  refine w_start (by decide) (Nat.le_of_ble_eq_true rfl) (fun X => ?_)
  refine wa_locals [(0, _), (1, _)] [0, 1] rfl ?_
  refine wa_iload_n 1 dX2_pass_0 rfl rfl ?_
  refine wa_iconst (1) dX2_pass_1 (by decide) ?_
  refine wa_bipush (99) dX2_pass_2 (by decide) ?_
  refine wc_isI (wr_S dX2_pass_4 mX2_75 sp_between rfl rfl rfl (Nat.le_of_ble_eq_true rfl)) ?_
  refine wa_if_ne 14 dX2_pass_7 rfl (fun c7 => ?_) (fun c7 => ?_)
  ·
    have i1 := z_y c7
    refine wa_iconst (0) dX2_pass_14 (by decide) ?_
    refine wa_iconst (2) dX2_pass_15 (by decide) ?_
    refine wc_isV (wr_S dX2_pass_16 mX2_105 sp_refuse2N rfl rfl rfl (Nat.le_of_ble_eq_true rfl)) ?_
    obtain ⟨m, hm, rfl⟩ := nI_of (Int32.not_lt.mpr (Int32.le_trans (by decide) i1.1))
    have hm99 : m ≤ 99 := (nI_leI (b := 99) hm (by decide)).mp i1.2
    have e : z_passC c (nI m) = .inl ((z_ticks m c 0).2, (z_ticks m c 0).1) := by
      unfold z_passC
      rw [if_pos i1, nI_clamp hm]
    rw [e]
    have LP : ∀ (j k : Nat) (N : w_M) (cc : z_C) (d : Int32), k + j = m → z_small cc → z_coreL G N P a kd rl ol sg ra oa ras oas cc → w_fr M N (fun q => s0 ≤ q) → z_ticks j cc d = z_ticks m c 0 → w_A l G tX2_pass (7, 1, 8) X 0 0 N 23 [(3, .int (nI k)), (2, .int d), (0, .ref a), (1, .int (nI m))] [] (z_post G P s0 a M (.inl ((z_ticks m c 0).2, (z_ticks m c 0).1))) := by
      intro j
      induction j with
      | zero =>
        intro k N cc d hkn hsc hc hfr he
        refine wa_iload_n 0 dX2_pass_23 rfl rfl ?_
        refine wa_iload_n 3 dX2_pass_24 rfl rfl ?_
        refine wa_icmp_ge 41 dX2_pass_25 rfl (fun c25 => ?_) (fun c25 => absurd (nI_le (by omega) (by omega)) c25)
        refine wa_iload_n 1 dX2_pass_41 rfl rfl ?_
        refine wa_iret FieldType.int dX2_pass_42 rfl rfl (Nat.le_of_ble_eq_true rfl) (Nat.le_of_ble_eq_true rfl) ?_
        exact z_postY rfl hfr (by rw [← he]; exact ⟨_, _, _, _, _, _, _, _, hc⟩) (by rw [← he]; rfl)
      | succ j ih =>
        intro k N cc d hkn hsc hc hfr he
        refine wa_iload_n 0 dX2_pass_23 rfl rfl ?_
        refine wa_iload_n 3 dX2_pass_24 rfl rfl ?_
        refine wa_icmp_ge 41 dX2_pass_25 rfl (fun c25 => absurd c25 (nI_lt_not (by omega) (by omega))) (fun c25 => ?_)
        refine wa_iload_n 1 dX2_pass_28 rfl rfl ?_
        refine wa_aload_n 2 dX2_pass_29 rfl rfl ?_
        refine wc_I (wr_V dX2_pass_30 mX2_184 (sp_tick hc hsc ho) hc.2.1 rfl rfl rfl (Nat.le_of_ble_eq_true rfl)) (fun r30 M30 h30 => ?_)
        obtain ⟨er, hc2, hf2⟩ := h30
        subst er
        refine wa_iadd dX2_pass_33 ?_
        refine wa_istore_n [(2, _), (3, _), (0, _), (1, _)] dX2_pass_34 rfl (Nat.le_of_ble_eq_true rfl) rfl ?_
        refine wa_iinc 1 [(3, _), (2, _), (0, _), (1, _)] dX2_pass_35 rfl (w_inc k) (Nat.le_of_ble_eq_true rfl) rfl ?_
        refine wa_goto 23 dX2_pass_38 rfl ?_
        refine wa_locals [(3, _), (2, _), (0, _), (1, _)] [0, 1, 2, 3] rfl ?_
        exact ih (k + 1) M30 (z_tickC cc).1 (d + (z_tickC cc).2) (by omega) (z_small_tick hsc) hc2 (hfr.trans hf2) he
    refine wa_iconst (0) dX2_pass_19 (by decide) ?_
    refine wa_istore_n [(2, _), (0, _), (1, _)] dX2_pass_20 rfl (Nat.le_of_ble_eq_true rfl) rfl ?_
    refine wa_iconst (0) dX2_pass_21 (by decide) ?_
    refine wa_istore_n [(3, _), (2, _), (0, _), (1, _)] dX2_pass_22 rfl (Nat.le_of_ble_eq_true rfl) rfl ?_
    exact LP m 0 M c 0 (by omega) hs h w_fr.rf rfl
  ·
    have i1 := z_n c7
    refine wa_iconst (1) dX2_pass_10 (by decide) ?_
    refine wa_goto 15 dX2_pass_11 rfl ?_
    refine wa_iconst (2) dX2_pass_15 (by decide) ?_
    refine wc_isx (wr_S dX2_pass_16 mX2_105 sp_refuse2T rfl rfl rfl (Nat.le_of_ble_eq_true rfl)) ?_
    exact wx_out (fun _ h => by cases h) (Nat.le_of_ble_eq_true rfl) (Nat.le_of_ble_eq_true rfl) (z_postN (by unfold z_passC; exact if_neg i1))
/-- the settings as a core is made with them -/
def z_set0 (k : Nat) : Int32 := if k = 0 then 5 else if k = 1 then 2 else 30
theorem sp_C_init (hal : a < M.sz) (h : M.get a = some (.inr (1, [.int 0, .int 0, .null, .null, .null, .null, .long 0, .int 0]))) {rw cw : Int32} : w_S l G tX2_init (5, 3, 9) [.ref a, .int rw, .int cw, .ref kd] M (w_rV (fun M' => M'.sz = M.sz + 3 ∧ M'.get a = some (.inr (1, [.int rw, .int cw, .ref kd, .ref M.sz, .ref (M.sz + 1), .ref (M.sz + 2), .long 0, .int 0])) ∧ M'.get M.sz = some (.inr (11, [.int 0, .ref (w_ad G 0), .int 0])) ∧ M'.get (M.sz + 1) = some (.inr (11, [.int 0, .ref (w_ad G 0), .int 0])) ∧
    (∃ f : Nat → Int32, M'.get (M.sz + 2) = some (.inl (.int, 3, .inl f)) ∧ ∀ k, k < 3 → f k = z_set0 k) ∧ w_fr M M' (fun q => q = a))) := by
  refine w_start (by decide) (Nat.le_of_ble_eq_true rfl) (fun X => ?_)
  refine wa_locals [(0, _), (1, _), (2, _), (3, _)] [0, 1, 2, 3] rfl ?_
  refine wa_aload_n 0 dX2_init_0 rfl rfl ?_
  refine wa_objInit dX2_init_1 q133 rfl (Nat.le_of_ble_eq_true rfl) ?_
  refine wa_aload_n 0 dX2_init_4 rfl rfl ?_
  refine wa_new dX2_init_5 nX2_9 (Nat.le_of_ble_eq_true rfl) (Nat.le_of_ble_eq_true rfl) ?_
  refine wa_dup dX2_init_8 rfl ?_
  refine wc_isV (wr_I dX2_init_9 mX2_11 (sp_J2_init (v2 := .int 0) w_push_self) rfl rfl rfl (Nat.le_of_ble_eq_true rfl)) ?_
  rw [w_push_set]
  refine wa_putF [_, _, _, _, _, _, _, _] dX2_init_12 rfl pX2_12 (w_push_old h) (Nat.le_of_ble_eq_true rfl) rfl rfl rfl ?_
  have h1 := w_set_self (e := .inr (1, [.int 0, .int 0, .null, .ref M.sz, .null, .null, .long 0, .int 0])) (w_push_old (e := .inr (11, [.int 0, .ref (w_ad G 0), .int 0])) h)
  refine wa_aload_n 0 dX2_init_15 rfl rfl ?_
  refine wa_new dX2_init_16 nX2_9 (Nat.le_of_ble_eq_true rfl) (Nat.le_of_ble_eq_true rfl) ?_
  refine wa_dup dX2_init_19 rfl ?_
  refine wc_isV (wr_I dX2_init_20 mX2_11 (sp_J2_init (v2 := .int 0) w_push_self) rfl rfl rfl (Nat.le_of_ble_eq_true rfl)) ?_
  rw [w_push_set]
  have h2 := w_push_old (e := .inr (11, [.int 0, .ref (w_ad G 0), .int 0])) h1
  refine wa_putF [_, _, _, _, _, _, _, _] dX2_init_23 rfl pX2_18 h2 (Nat.le_of_ble_eq_true rfl) rfl rfl rfl ?_
  have h3 := w_set_self (e := .inr (1, [.int 0, .int 0, .null, .ref M.sz, .ref (M.sz + 1), .null, .long 0, .int 0])) h2
  refine wa_aload_n 0 dX2_init_26 rfl rfl ?_
  refine wa_iconst (3) dX2_init_27 (by decide) ?_
  refine wa_newi (3) dX2_init_28 q160 rfl (by decide) (Nat.le_of_ble_eq_true rfl) (Nat.le_of_ble_eq_true rfl) ?_
  refine wa_dup dX2_init_30 rfl ?_
  refine wa_iconst (0) dX2_init_31 (by decide) ?_
  refine wa_iconst (5) dX2_init_32 (by decide) ?_
  refine wa_iast dX2_init_33 w_push_self (vp_in_nI (n := 0) (by decide) (by decide)) ?_
  rw [w_push_set]
  refine wa_dup dX2_init_34 rfl ?_
  refine wa_iconst (1) dX2_init_35 (by decide) ?_
  refine wa_iconst (2) dX2_init_36 (by decide) ?_
  refine wa_iast dX2_init_37 w_push_self (vp_in_nI (n := 1) (by decide) (by decide)) ?_
  rw [w_push_set]
  refine wa_dup dX2_init_38 rfl ?_
  refine wa_iconst (2) dX2_init_39 (by decide) ?_
  refine wa_bipush (30) dX2_init_40 (by decide) ?_
  refine wa_iast dX2_init_42 w_push_self (vp_in_nI (n := 2) (by decide) (by decide)) ?_
  rw [w_push_set]
  refine wa_putF [_, _, _, _, _, _, _, _] dX2_init_43 rfl pX2_21 (w_push_old h3) (Nat.le_of_ble_eq_true rfl) rfl rfl rfl ?_
  refine wa_aload_n 0 dX2_init_46 rfl rfl ?_
  refine wa_iload_n 1 dX2_init_47 rfl rfl ?_
  refine wa_putF [_, _, _, _, _, _, _, _] dX2_init_48 rfl pX2_25 (w_set_self (w_push_old h3)) (Nat.le_of_ble_eq_true rfl) rfl rfl rfl ?_
  rw [w_set_set]
  refine wa_aload_n 0 dX2_init_51 rfl rfl ?_
  refine wa_iload_n 2 dX2_init_52 rfl rfl ?_
  refine wa_putF [_, _, _, _, _, _, _, _] dX2_init_53 rfl pX2_29 (w_set_self (w_push_old h3)) (Nat.le_of_ble_eq_true rfl) rfl rfl rfl ?_
  rw [w_set_set]
  refine wa_aload_n 0 dX2_init_56 rfl rfl ?_
  refine wa_aload_n 3 dX2_init_57 rfl rfl ?_
  refine wa_putF [_, _, _, _, _, _, _, _] dX2_init_58 rfl pX2_32 (w_set_self (w_push_old h3)) (Nat.le_of_ble_eq_true rfl) rfl rfl rfl ?_
  rw [w_set_set]
  refine wa_vret dX2_init_61 rfl (Nat.le_of_ble_eq_true rfl) (Nat.le_of_ble_eq_true rfl) ?_
  have n0 : M.sz ≠ a := by omega
  have n1 : M.sz + 1 ≠ a := by omega
  have n2 : M.sz + 2 ≠ a := by omega
  refine ⟨rfl, rfl, w_set_self (w_push_old h3), w_sne (w_push_old (w_sne (w_push_old (w_sne w_push_self n0)) n0)) n0, w_sne (w_push_old (w_sne w_push_self n1)) n1, ⟨_, w_sne w_push_self n2, ?_⟩, ((w_fr.set (W := fun q => q = a) (w_fr.set (W := fun q => q = a) (w_fr.set (W := fun q => q = a) w_fr.rf.push rfl).push rfl).push rfl))⟩
  intro k hk
  rcases (show k = 0 ∨ k = 1 ∨ k = 2 by omega) with rfl | rfl | rfl <;> rfl
theorem z_frN {M N N' : w_M} (h1 : w_fr M N (fun _ => False)) (h2 : w_fr N N' (fun q => M.sz ≤ q)) : w_fr M N' (fun _ => False) := ⟨Nat.le_trans h1.1 h2.1, fun q e hq _ => h2.2 q e (h1.2 q e hq id) (by have := w_lt hq; omega)⟩
theorem z_robP.copy {M N : w_M} {P P' : Nat → Prop} {y : Nat} {r : z_R} {pv : Option Nat} {dn : Int32} (h : z_robP M P y r pv) (hob : M.get y = some (.inr (5, [.int (nI (z_cell r)), .int (z_batt r), .int (z_enc (z_has r)), .int (z_steps r), va_rf pv, .int dn, .int (z_cost r)]))) (hf : w_fr M N (fun _ => False)) (hp : ∀ q, q < M.sz → P q → P' q) (hn : P' N.sz) : z_robP (N.push (.inr (5, [.int (nI (z_cell r)), .int (z_batt r), .int (z_enc (z_has r)), .int (z_steps r), va_rf pv, .int dn, .int (z_cost r)]))) P' N.sz r pv := by
  obtain ⟨dn', h1, h2, h3⟩ := h
  have e := hob.symm.trans h2
  simp only [Option.some.injEq, Sum.inr.injEq, Prod.mk.injEq, List.cons.injEq, Value.int.injEq, true_and, and_true] at e
  subst e
  refine ⟨dn, hn, w_push_self, ?_⟩
  cases pv with
  | none => exact h3
  | some p =>
    obtain ⟨h4, m, d, f, h5, h6⟩ := h3
    exact ⟨hp _ (w_lt h5) h4, m, d, f, w_push_old (hf.2 _ _ h5 id), h6⟩
theorem z_ord.copy {M N : w_M} {P P' : Nat → Prop} {y i : Nat} {o : z_O} {la : Nat} (h : z_ord M P y i o) (hob : M.get y = some (.inr (6, [.int (nI i), .int (z_due o), .ref la, .int (nI (z_picked o)), .int (nI (z_state o)), .int (z_del o)]))) (hf : w_fr M N (fun _ => False)) (hp : ∀ q, q < M.sz → P q → P' q) (hn : P' N.sz) : z_ord (N.push (.inr (6, [.int (nI i), .int (z_due o), .ref la, .int (nI (z_picked o)), .int (nI (z_state o)), .int (z_del o)]))) P' N.sz i o := by
  obtain ⟨la', h1, h2, h3, f, h4, h5⟩ := h
  have e := hob.symm.trans h3
  simp only [Option.some.injEq, Sum.inr.injEq, Prod.mk.injEq, List.cons.injEq, Value.ref.injEq, true_and, and_true] at e
  subst e
  exact ⟨la, hn, hp _ (w_lt h4) h2, w_push_self, f, w_push_old (hf.2 _ _ h4 id), h5⟩
theorem w_lt_of_mem {M : w_M} {x : Nat} {e : w_E} (h : M.get x = some e) : x ≠ M.sz := Nat.ne_of_lt (w_lt h)
theorem z_ras_lt (h : z_coreL G M P a kd rl ol sg ra oa ras oas c) : M.sz ∉ ras ∧ M.sz ∉ oas := by
  constructor
  · intro q
    obtain ⟨i, hi, e⟩ := List.mem_iff_getElem.mp q
    have hlen : ras.length = (z_robs c).length := h.2.2.2.2.2.2.1
    obtain ⟨y, hy, hr⟩ := z_robAt h (List.getElem?_eq_getElem (show i < (z_robs c).length by omega))
    obtain ⟨fs, hfs⟩ := hr.obj
    rw [List.getElem?_eq_getElem hi, e] at hy
    cases hy
    exact w_lt_of_mem hfs rfl
  · intro q
    obtain ⟨i, hi, e⟩ := List.mem_iff_getElem.mp q
    have hlen : oas.length = (z_ords c).length := h.2.2.2.2.2.2.2.1
    obtain ⟨y, hy, hr⟩ := z_ordAt h (List.getElem?_eq_getElem (show i < (z_ords c).length by omega))
    obtain ⟨fs, hfs⟩ := hr.obj
    rw [List.getElem?_eq_getElem hi, e] at hy
    cases hy
    exact w_lt_of_mem hfs rfl
/-- the core as it is made -/
def z_new (rows cols : Nat) (kinds : Nat → Int32) : z_C := (rows, cols, kinds, [], [], z_set0, 0, 0)
theorem z_new_core {M : w_M} {P : Nat → Prop} {s rows cols : Nat} {kinds : Nat → Int32} {sg : Nat} {f : Nat → Int32} (hP : ∀ q, s ≤ q → P q) (hkP : P kd) (h1 : M.get s = some (.inr (1, [.int (nI rows), .int (nI cols), .ref kd, .ref rl, .ref ol, .ref sg, .long 0, .int 0]))) (h2 : M.get rl = some (.inr (11, [.int 0, .ref (w_ad G 0), .int 0]))) (h3 : M.get ol = some (.inr (11, [.int 0, .ref (w_ad G 0), .int 0]))) (h4 : M.get sg = some (.inl (.int, 3, .inl f))) (h5 : ∀ k, k < 3 → f k = z_set0 k) (hkd : ∃ f : Nat → Int32, M.get kd = some (.inl (.int, rows * cols, .inl f)) ∧ ∀ k, k < rows * cols → f k = kinds k) (hrl : s ≤ rl) (hol : s ≤ ol) (hsg : s ≤ sg) (hne : rl ≠ ol) (hks : kd ≠ sg) : z_coreL G M P s kd rl ol sg (w_ad G 0) (w_ad G 0) [] [] (z_new rows cols kinds) :=
  ⟨⟨hP _ (Nat.le_refl _), hkP, hP _ hrl, hP _ hol, hP _ hsg, Or.inl rfl, Or.inl rfl⟩, h1, hkd, ⟨f, h4, h5⟩, ⟨0, h2, by decide, Or.inl ⟨rfl, rfl⟩⟩, ⟨0, h3, by decide, Or.inl ⟨rfl, rfl⟩⟩, rfl, rfl, fun i x r e => (by cases e), fun i x r e => (by cases e), List.nodup_nil, List.nodup_nil, hne, fun _ => rfl, hks⟩
theorem sp_C_copy (h : z_coreL G M P a kd rl ol sg ra oa ras oas c) (hs : z_small c) : w_S l G tX2_copy (7, 36, 279) [.ref a] M (w_rA (fun r M' => r = M.sz ∧ (∃ rl ol sg ra oa ras oas, z_coreL G M' (fun q => P q ∨ M.sz ≤ q) M.sz kd rl ol sg ra oa ras oas c ∧ z_own G M.sz M.sz rl ol sg ra oa ras oas) ∧ w_fr M M' (fun _ => False))) := by
  have hg := h.2.1
  have hlen : ras.length = (z_robs c).length := h.2.2.2.2.2.2.1
  have hleo : oas.length = (z_ords c).length := h.2.2.2.2.2.2.2.1
  have h6 : (z_robs c).length ≤ 6 := hs.2.2.2.2.1
  have h10 : (z_ords c).length ≤ 10 := hs.2.2.2.2.2.1
  have hsP : ∀ q, M.sz ≤ q → (fun q => P q ∨ M.sz ≤ q) q := fun q z => Or.inr z
  refine w_start (by decide) (Nat.le_of_ble_eq_true rfl) (fun X => ?_)
  refine wa_locals [(0, _)] [0] rfl ?_
  have LE2 : ∀ (ck cn : Nat) (_ : ck ≤ 36) (_ : cn ≤ 279) (N : w_M) (ra' oa' : Nat) (ras' oas' : List Nat) (v : Value), z_coreL G N (fun q => P q ∨ M.sz ≤ q) M.sz kd (M.sz + 1) (M.sz + 2) (M.sz + 3) ra' oa' ras' oas' (z_setO (z_setR (z_new (z_rows c) (z_cols c) (z_kinds c)) (z_robs c)) (z_ords c)) → w_fr M N (fun _ => False) → z_own G M.sz M.sz (M.sz + 1) (M.sz + 2) (M.sz + 3) ra' oa' ras' oas' → w_A l G tX2_copy (7, 36, 279) X ck cn N 102 [(2, v), (1, .ref M.sz), (0, .ref a)] [] (w_rA (fun r M' => r = M.sz ∧ (∃ rl ol sg ra oa ras oas, z_coreL G M' (fun q => P q ∨ M.sz ≤ q) M.sz kd rl ol sg ra oa ras oas c ∧ z_own G M.sz M.sz rl ol sg ra oa ras oas) ∧ w_fr M M' (fun _ => False))) := by
    intro ck cn hck hcn N ra' oa' ras' oas' v hc hfr how
    have hN := h.keep (W := fun _ => False) hfr (fun _ _ z => z) (fun z => z)
    have hgN := hN.2.1
    have halN := hN.2.2.2.2.1
    have hglN := halN.choose_spec.1
    have holN := hN.2.2.2.2.2.1
    have hgoN := holN.choose_spec.1
    obtain ⟨sf, hs1, hs2⟩ := hN.2.2.2.1
    obtain ⟨tf, ht1, ht2⟩ := hc.2.2.2.1
    have hgc := hc.2.1
    have hsa : M.sz ≠ a := (w_lt_of_mem hg).symm
    refine wa_aload_n 2 dX2_copy_102 rfl rfl ?_
    refine wa_getf dX2_copy_103 gX2_21 hgN rfl ?_
    refine wa_iconst (0) dX2_copy_106 (by decide) ?_
    refine wa_aload_n 1 dX2_copy_107 rfl rfl ?_
    refine wa_getf dX2_copy_108 gX2_21 hgc rfl ?_
    refine wa_iconst (0) dX2_copy_111 (by decide) ?_
    refine wa_iconst (3) dX2_copy_112 (by decide) ?_
    refine wa_copyi 0 0 3 dX2_copy_113 q417 hs1 ht1 rfl rfl rfl (by decide) (by decide) (by decide) (by decide) rfl (Nat.le_of_ble_eq_true rfl) ?_
    have hfr2 : w_fr M (N.set (M.sz + 3) (.inl (.int, 3, .inl (va_cpy sf tf 0 0 3)))) (fun _ => False) := hfr.setN (by omega)
    have hc2 := (hc.setSet (g' := va_cpy sf tf 0 0 3) w_fr_me (w_set_self ht1)).setsEq (g := z_sets c) (fun k hk => by rw [← hs2 k hk]; unfold va_cpy; rw [if_pos (by omega)]; congr 1; omega)
    have hN2 := h.keep (W := fun _ => False) hfr2 (fun _ _ z => z) (fun z => z)
    refine wa_aload_n 1 dX2_copy_116 rfl rfl ?_
    refine wa_aload_n 2 dX2_copy_117 rfl rfl ?_
    refine wa_getf dX2_copy_118 gX2_67 (hN2.2.1) rfl ?_
    refine wa_putf [_, _, _, _, _, _, _, _] dX2_copy_121 pX2_67 hc2.2.1 (Nat.le_of_ble_eq_true rfl) rfl rfl rfl ?_
    have hc3 := hc2.setTop (w := z_closed c) (n := 0) w_fr_me (w_set_self hc2.2.1)
    have hfr3 : w_fr M _ (fun _ => False) := hfr2.setN (a := M.sz) (e := .inr (1, [.int (nI (z_rows c)), .int (nI (z_cols c)), .ref kd, .ref (M.sz + 1), .ref (M.sz + 2), .ref (M.sz + 3), .long (z_closed c), .int 0])) (Nat.le_refl _)
    have hN3 := h.keep (W := fun _ => False) hfr3 (fun _ _ z => z) (fun z => z)
    refine wa_aload_n 1 dX2_copy_124 rfl rfl ?_
    refine wa_aload_n 2 dX2_copy_125 rfl rfl ?_
    refine wa_getf dX2_copy_126 gX2_71 hN3.2.1 rfl ?_
    refine wa_putf [_, _, _, _, _, _, _, _] dX2_copy_129 pX2_71 hc3.2.1 (Nat.le_of_ble_eq_true rfl) rfl rfl rfl ?_
    have hc4 := hc3.setTop (w := z_closed c) (n := z_now c) w_fr_me (w_set_self hc3.2.1)
    have hfr4 : w_fr M _ (fun _ => False) := hfr3.setN (a := M.sz) (e := .inr (1, [.int (nI (z_rows c)), .int (nI (z_cols c)), .ref kd, .ref (M.sz + 1), .ref (M.sz + 2), .ref (M.sz + 3), .long (z_closed c), .int (z_now c)])) (Nat.le_refl _)
    refine wa_aload_n 1 dX2_copy_132 rfl rfl ?_
    refine wa_aret (FieldType.object "RobotAisles$Core") dX2_copy_133 rfl rfl (by dsimp only; omega) (by dsimp only; omega) ?_
    exact ⟨_, rfl, rfl, ⟨_, _, _, _, _, _, _, hc4, how⟩, hfr4⟩
  have LP2 : ∀ (kb nb : Nat) (_ : kb ≤ 16) (_ : nb ≤ 119) (j k : Nat) (N : w_M) (ra' oa' : Nat) (ras' oas' : List Nat), k + j = (z_ords c).length → z_coreL G N (fun q => P q ∨ M.sz ≤ q) M.sz kd (M.sz + 1) (M.sz + 2) (M.sz + 3) ra' oa' ras' oas' (z_setO (z_setR (z_new (z_rows c) (z_cols c) (z_kinds c)) (z_robs c)) ((z_ords c).take k)) → w_fr M N (fun _ => False) → z_own G M.sz M.sz (M.sz + 1) (M.sz + 2) (M.sz + 3) ra' oa' ras' oas' → w_A l G tX2_copy (7, 36, 279) X (kb + 2 * k) (nb + 16 * k) N 63 [(2, .int (nI k)), (1, .ref M.sz), (0, .ref a)] [] (w_rA (fun r M' => r = M.sz ∧ (∃ rl ol sg ra oa ras oas, z_coreL G M' (fun q => P q ∨ M.sz ≤ q) M.sz kd rl ol sg ra oa ras oas c ∧ z_own G M.sz M.sz rl ol sg ra oa ras oas) ∧ w_fr M M' (fun _ => False))) := by
    intro kb nb hkb hnb j
    induction j with
    | zero =>
      intro k N ra' oa' ras' oas' hkn hc hfr how
      rw [List.take_of_length_le (by omega)] at hc
      have hN := h.keep (W := fun _ => False) hfr (fun _ _ z => z) (fun z => z)
      have hgN := hN.2.1
      have halN := hN.2.2.2.2.1
      have hglN := halN.choose_spec.1
      have holN := hN.2.2.2.2.2.1
      have hgoN := holN.choose_spec.1
      refine wa_iload_n 0 dX2_copy_63 rfl rfl ?_
      refine wa_aload_n 2 dX2_copy_64 rfl rfl ?_
      refine wa_getf dX2_copy_65 gX2_18 hgN rfl ?_
      refine wc_isI (wr_V dX2_copy_68 mX2_38 (sp_size holN) hgoN rfl (w_fit_mk (by dsimp only; omega) (by dsimp only; omega) rfl) rfl (Nat.le_of_ble_eq_true rfl)) ?_
      refine wa_icmp_ge 102 dX2_copy_71 rfl (fun c71 => ?_) (fun c71 => absurd (nI_le (by omega) (by omega)) c71)
      exact (LE2 _ _ (by dsimp only; omega) (by dsimp only; omega) N ra' oa' ras' oas' _ hc hfr how)
    | succ j ih =>
      intro k N ra' oa' ras' oas' hkn hc hfr how
      have hN := h.keep (W := fun _ => False) hfr (fun _ _ z => z) (fun z => z)
      have hgN := hN.2.1
      have halN := hN.2.2.2.2.1
      have hglN := halN.choose_spec.1
      have holN := hN.2.2.2.2.2.1
      have hgoN := holN.choose_spec.1
      obtain ⟨od, hod⟩ : ∃ o, (z_ords c)[k]? = some o := ⟨_, List.getElem?_eq_getElem (by omega)⟩
      obtain ⟨y, hy, hor⟩ := z_ordAt h hod
      obtain ⟨la, hp1, hp2, hoM, hrest⟩ := id hor
      have hoN := hfr.2 _ _ hoM id
      have hlk : oas'.length = k := by have : oas'.length = ((z_ords c).take k).length := hc.2.2.2.2.2.2.2.1; rw [List.length_take] at this; omega
      have hco := hc.2.2.2.2.2.1
      refine wa_iload_n 0 dX2_copy_63 rfl rfl ?_
      refine wa_aload_n 2 dX2_copy_64 rfl rfl ?_
      refine wa_getf dX2_copy_65 gX2_18 hgN rfl ?_
      refine wc_isI (wr_V dX2_copy_68 mX2_38 (sp_size holN) hgoN rfl (w_fit_mk (by dsimp only; omega) (by dsimp only; omega) rfl) rfl (Nat.le_of_ble_eq_true rfl)) ?_
      refine wa_icmp_ge 102 dX2_copy_71 rfl (fun c71 => absurd c71 (nI_lt_not (by omega) (by omega))) (fun c71 => ?_)
      refine wa_aload_n 1 dX2_copy_74 rfl rfl ?_
      refine wa_getf dX2_copy_75 gX2_18 hc.2.1 rfl ?_
      refine wa_aload_n 2 dX2_copy_78 rfl rfl ?_
      refine wa_getf dX2_copy_79 gX2_18 hgN rfl ?_
      refine wa_iload_n 0 dX2_copy_82 rfl rfl ?_
      refine wc_isA (wr_V dX2_copy_83 mX2_42 (sp_get holN hy) hgoN rfl (w_fit_mk (by dsimp only; omega) (by dsimp only; omega) rfl) rfl (Nat.le_of_ble_eq_true rfl)) ?_
      refine wa_castS dX2_copy_86 q377 hoN rfl ?_
      refine wc_isA (wr_V dX2_copy_89 mX2_58 (sp_O_copy hoN) hoN rfl (w_fit_mk (by dsimp only; omega) (by dsimp only; omega) rfl) rfl (Nat.le_of_ble_eq_true rfl)) ?_
      refine wa_lo (fun lo hd => ?_)
      have h1 : z_coreL G (N.push (.inr (6, [.int (nI k), .int (z_due od), .ref la, .int (nI (z_picked od)), .int (nI (z_state od)), .int (z_del od)]))) (fun q => P q ∨ M.sz ≤ q) M.sz kd (M.sz + 1) (M.sz + 2) (M.sz + 3) ra' oa' ras' oas' _ := hc.keep (W := fun _ => False) w_fr.rf.push (fun _ _ z => z) (fun z => z)
      have hal1 := h1.2.2.2.2.2.1
      have hel : w_el (N.push (.inr (6, [.int (nI k), .int (z_due od), .ref la, .int (nI (z_picked od)), .int (nI (z_state od)), .int (z_del od)]))) N.sz := ⟨6, _, _, _, _, w_push_self, rfl, by decide +kernel⟩
      have hne : N.sz ≠ M.sz + 2 := (w_lt_of_mem hco.choose_spec.1).symm
      have hnew : z_ord (N.push (.inr (6, [.int (nI k), .int (z_due od), .ref la, .int (nI (z_picked od)), .int (nI (z_state od)), .int (z_del od)]))) (fun q => (fun q => P q ∨ M.sz ≤ q) q ∧ q ≠ M.sz + 3) N.sz oas'.length od := by
        rw [hlk]
        exact (hor.copy (P' := fun q => (fun q => P q ∨ M.sz ≤ q) q ∧ q ≠ M.sz + 3) hoM hfr (fun q z1 z2 => ⟨Or.inl z2.1, by omega⟩) ⟨Or.inr hfr.1, by obtain ⟨f, g2, _⟩ := hc.2.2.2.1; exact (w_lt_of_mem g2).symm⟩)
      refine wc_I (wr_V dX2_copy_92 mX2_52 (sp_addE hal1 (by omega) hel hne) hal1.choose_spec.1 rfl (w_fit_mk (by dsimp only; omega) (by dsimp only; omega) rfl) rfl (Nat.le_of_ble_eq_true rfl)) (fun r92 M92 h92 => ?_)
      obtain ⟨-, oa2, hal2, hoa2, hf2⟩ := h92
      have hra2 : oa2 = oa' ∨ ((N.push (.inr (6, [.int (nI k), .int (z_due od), .ref la, .int (nI (z_picked od)), .int (nI (z_state od)), .int (z_del od)]))).sz ≤ oa2 ∧ (fun q => P q ∨ M.sz ≤ q) oa2) := hoa2.imp id (fun e => by subst e; exact ⟨Nat.le_refl _, Or.inr (Nat.le_trans hfr.1 (Nat.le_succ _))⟩)
      have hc2 := h1.addOrd hf2 hal2 hra2 hnew (z_ras_lt hc).2 hd
      rw [show (z_ords (z_setO (z_setR (z_new (z_rows c) (z_cols c) (z_kinds c)) (z_robs c)) ((z_ords c).take k))) ++ [od] = (z_ords c).take (k + 1) by rw [List.take_succ_eq_append_getElem (List.getElem?_eq_some_iff.mp hod).1, (List.getElem?_eq_some_iff.mp hod).2]; rfl] at hc2
      refine wa_pop dX2_copy_95 rfl ?_
      refine wa_iinc 0 [(2, _), (1, _), (0, _)] dX2_copy_96 rfl (w_inc k) (Nat.le_of_ble_eq_true rfl) rfl ?_
      refine wa_goto 63 dX2_copy_99 rfl ?_
      refine wa_locals [(2, _), (1, _), (0, _)] [0, 1, 2] rfl ?_
      refine wa_costs (k' := kb + 2 * (k + 1)) (n' := nb + 16 * (k + 1)) (by dsimp only; omega) (by dsimp only; omega) ?_
      refine ih (k + 1) M92 ra' oa2 ras' (oas' ++ [N.sz]) (by omega) hc2 (z_frN hfr (w_fr.trans w_fr.rf.push (z_frL hf2 (by omega) how.2.2.2.2.2.1 hd))) ⟨how.1, how.2.1, how.2.2.1, how.2.2.2.1, how.2.2.2.2.1, ?_, how.2.2.2.2.2.2.1, ?_⟩
      · rcases hoa2 with rfl | rfl
        · exact how.2.2.2.2.2.1
        · exact Or.inr (Nat.le_trans hfr.1 (Nat.le_succ _))
      · intro x hx
        rcases List.mem_append.mp hx with hx | hx
        · exact how.2.2.2.2.2.2.2 x hx
        · rw [List.mem_singleton.mp hx]; exact hfr.1
  have LP1 : ∀ (j k : Nat) (N : w_M) (ra' : Nat) (ras' : List Nat), k + j = (z_robs c).length → z_coreL G N (fun q => P q ∨ M.sz ≤ q) M.sz kd (M.sz + 1) (M.sz + 2) (M.sz + 3) ra' (w_ad G 0) ras' [] (z_setR (z_new (z_rows c) (z_cols c) (z_kinds c)) ((z_robs c).take k)) → w_fr M N (fun _ => False) → z_own G M.sz M.sz (M.sz + 1) (M.sz + 2) (M.sz + 3) ra' (w_ad G 0) ras' [] → w_A l G tX2_copy (7, 36, 279) X (4 + 2 * k) (17 + 17 * k) N 22 [(2, .int (nI k)), (1, .ref M.sz), (0, .ref a)] [] (w_rA (fun r M' => r = M.sz ∧ (∃ rl ol sg ra oa ras oas, z_coreL G M' (fun q => P q ∨ M.sz ≤ q) M.sz kd rl ol sg ra oa ras oas c ∧ z_own G M.sz M.sz rl ol sg ra oa ras oas) ∧ w_fr M M' (fun _ => False))) := by
    intro j
    induction j with
    | zero =>
      intro k N ra' ras' hkn hc hfr how
      rw [List.take_of_length_le (by omega)] at hc
      have hN := h.keep (W := fun _ => False) hfr (fun _ _ z => z) (fun z => z)
      have hgN := hN.2.1
      have halN := hN.2.2.2.2.1
      have hglN := halN.choose_spec.1
      have holN := hN.2.2.2.2.2.1
      have hgoN := holN.choose_spec.1
      refine wa_iload_n 0 dX2_copy_22 rfl rfl ?_
      refine wa_aload_n 2 dX2_copy_23 rfl rfl ?_
      refine wa_getf dX2_copy_24 gX2_12 hgN rfl ?_
      refine wc_isI (wr_V dX2_copy_27 mX2_38 (sp_size halN) hglN rfl (w_fit_mk (by dsimp only; omega) (by dsimp only; omega) rfl) rfl (Nat.le_of_ble_eq_true rfl)) ?_
      refine wa_icmp_ge 61 dX2_copy_30 rfl (fun c30 => ?_) (fun c30 => absurd (nI_le (by omega) (by omega)) c30)
      refine wa_iconst (0) dX2_copy_61 (by decide) ?_
      refine wa_istore_n [(2, _), (1, _), (0, _)] dX2_copy_62 rfl (Nat.le_of_ble_eq_true rfl) rfl ?_
      refine wa_locals [(2, _), (1, _), (0, _)] [0, 1, 2] rfl ?_
      refine wa_costs (k' := (4 + 2 * (z_robs c).length) + 2 * 0) (n' := (17 + 17 * (z_robs c).length) + 16 * 0) (by dsimp only; omega) (by dsimp only; omega) ?_
      exact (LP2 (4 + 2 * (z_robs c).length) (17 + 17 * (z_robs c).length) (by omega) (by omega) (z_ords c).length 0 N ra' (w_ad G 0) ras' [] (by omega) hc hfr how)
    | succ j ih =>
      intro k N ra' ras' hkn hc hfr how
      have hN := h.keep (W := fun _ => False) hfr (fun _ _ z => z) (fun z => z)
      have hgN := hN.2.1
      have halN := hN.2.2.2.2.1
      have hglN := halN.choose_spec.1
      have holN := hN.2.2.2.2.2.1
      have hgoN := holN.choose_spec.1
      obtain ⟨r, hr⟩ : ∃ r, (z_robs c)[k]? = some r := ⟨_, List.getElem?_eq_getElem (by omega)⟩
      obtain ⟨y, hy, pv, hrp, hrn⟩ := z_robAt h hr
      obtain ⟨dn, hp1, hoM, hrest⟩ := id hrp
      have hoN := hfr.2 _ _ hoM id
      have hlk : ras'.length = k := by have : ras'.length = ((z_robs c).take k).length := hc.2.2.2.2.2.2.1; rw [List.length_take] at this; omega
      have hcr := hc.2.2.2.2.1
      refine wa_iload_n 0 dX2_copy_22 rfl rfl ?_
      refine wa_aload_n 2 dX2_copy_23 rfl rfl ?_
      refine wa_getf dX2_copy_24 gX2_12 hgN rfl ?_
      refine wc_isI (wr_V dX2_copy_27 mX2_38 (sp_size halN) hglN rfl (w_fit_mk (by dsimp only; omega) (by dsimp only; omega) rfl) rfl (Nat.le_of_ble_eq_true rfl)) ?_
      refine wa_icmp_ge 61 dX2_copy_30 rfl (fun c30 => absurd c30 (nI_lt_not (by omega) (by omega))) (fun c30 => ?_)
      refine wa_aload_n 1 dX2_copy_33 rfl rfl ?_
      refine wa_getf dX2_copy_34 gX2_12 hc.2.1 rfl ?_
      refine wa_aload_n 2 dX2_copy_37 rfl rfl ?_
      refine wa_getf dX2_copy_38 gX2_12 hgN rfl ?_
      refine wa_iload_n 0 dX2_copy_41 rfl rfl ?_
      refine wc_isA (wr_V dX2_copy_42 mX2_42 (sp_get halN hy) hglN rfl (w_fit_mk (by dsimp only; omega) (by dsimp only; omega) rfl) rfl (Nat.le_of_ble_eq_true rfl)) ?_
      refine wa_castS dX2_copy_45 q259 hoN rfl ?_
      refine wc_isA (wr_V dX2_copy_48 mX2_48 (sp_R_copy pv hoN) hoN rfl (w_fit_mk (by dsimp only; omega) (by dsimp only; omega) rfl) rfl (Nat.le_of_ble_eq_true rfl)) ?_
      refine wa_lo (fun lo hd => ?_)
      have h1 : z_coreL G (N.push (.inr (5, [.int (nI (z_cell r)), .int (z_batt r), .int (z_enc (z_has r)), .int (z_steps r), va_rf pv, .int dn, .int (z_cost r)]))) (fun q => P q ∨ M.sz ≤ q) M.sz kd (M.sz + 1) (M.sz + 2) (M.sz + 3) ra' (w_ad G 0) ras' [] _ := hc.keep (W := fun _ => False) w_fr.rf.push (fun _ _ z => z) (fun z => z)
      have hal1 := h1.2.2.2.2.1
      have hel : w_el (N.push (.inr (5, [.int (nI (z_cell r)), .int (z_batt r), .int (z_enc (z_has r)), .int (z_steps r), va_rf pv, .int dn, .int (z_cost r)]))) N.sz := ⟨5, _, _, _, _, w_push_self, rfl, by decide +kernel⟩
      have hne : N.sz ≠ M.sz + 1 := (w_lt_of_mem hcr.choose_spec.1).symm
      have hnew : z_rob (N.push (.inr (5, [.int (nI (z_cell r)), .int (z_batt r), .int (z_enc (z_has r)), .int (z_steps r), va_rf pv, .int dn, .int (z_cost r)]))) (fun q => (fun q => P q ∨ M.sz ≤ q) q ∧ q ≠ M.sz + 3) N.sz r :=
        ⟨pv, hrp.copy (P' := fun q => (fun q => P q ∨ M.sz ≤ q) q ∧ q ≠ M.sz + 3) hoM hfr (fun q z1 z2 => ⟨Or.inl z2.1, by omega⟩) ⟨Or.inr hfr.1, by obtain ⟨f, g2, _⟩ := hc.2.2.2.1; exact (w_lt_of_mem g2).symm⟩, hrn⟩
      refine wc_I (wr_V dX2_copy_51 mX2_52 (sp_addE hal1 (by omega) hel hne) hal1.choose_spec.1 rfl (w_fit_mk (by dsimp only; omega) (by dsimp only; omega) rfl) rfl (Nat.le_of_ble_eq_true rfl)) (fun r51 M51 h51 => ?_)
      obtain ⟨-, ra2, hal2, hoa2, hf2⟩ := h51
      have hra2 : ra2 = ra' ∨ ((N.push (.inr (5, [.int (nI (z_cell r)), .int (z_batt r), .int (z_enc (z_has r)), .int (z_steps r), va_rf pv, .int dn, .int (z_cost r)]))).sz ≤ ra2 ∧ (fun q => P q ∨ M.sz ≤ q) ra2) := hoa2.imp id (fun e => by subst e; exact ⟨Nat.le_refl _, Or.inr (Nat.le_trans hfr.1 (Nat.le_succ _))⟩)
      have hc2 := h1.addRob hf2 hal2 hra2 hnew (z_ras_lt hc).1 hd
      rw [show (z_robs (z_setR (z_new (z_rows c) (z_cols c) (z_kinds c)) ((z_robs c).take k))) ++ [r] = (z_robs c).take (k + 1) by rw [List.take_succ_eq_append_getElem (List.getElem?_eq_some_iff.mp hr).1, (List.getElem?_eq_some_iff.mp hr).2]; rfl] at hc2
      refine wa_pop dX2_copy_54 rfl ?_
      refine wa_iinc 0 [(2, _), (1, _), (0, _)] dX2_copy_55 rfl (w_inc k) (Nat.le_of_ble_eq_true rfl) rfl ?_
      refine wa_goto 22 dX2_copy_58 rfl ?_
      refine wa_locals [(2, _), (1, _), (0, _)] [0, 1, 2] rfl ?_
      refine wa_costs (k' := 4 + 2 * (k + 1)) (n' := 17 + 17 * (k + 1)) (by dsimp only; omega) (by dsimp only; omega) ?_
      refine ih (k + 1) M51 ra2 (ras' ++ [N.sz]) (by omega) hc2 (z_frN hfr (w_fr.trans w_fr.rf.push (z_frL hf2 (by omega) how.2.2.2.2.1 hd))) ⟨how.1, how.2.1, how.2.2.1, how.2.2.2.1, ?_, how.2.2.2.2.2.1, ?_, how.2.2.2.2.2.2.2⟩
      · rcases hoa2 with rfl | rfl
        · exact how.2.2.2.2.1
        · exact Or.inr (Nat.le_trans hfr.1 (Nat.le_succ _))
      · intro x hx
        rcases List.mem_append.mp hx with hx | hx
        · exact how.2.2.2.2.2.2.1 x hx
        · rw [List.mem_singleton.mp hx]; exact hfr.1
  refine wa_new dX2_copy_0 nX2_13 (Nat.le_of_ble_eq_true rfl) (Nat.le_of_ble_eq_true rfl) ?_
  refine wa_dup dX2_copy_3 rfl ?_
  refine wa_aload_n 0 dX2_copy_4 rfl rfl ?_
  refine wa_getf dX2_copy_5 gX2_25 (w_push_old hg) rfl ?_
  refine wa_aload_n 0 dX2_copy_8 rfl rfl ?_
  refine wa_getf dX2_copy_9 gX2_29 (w_push_old hg) rfl ?_
  refine wa_aload_n 0 dX2_copy_12 rfl rfl ?_
  refine wa_getf dX2_copy_13 gX2_32 (w_push_old hg) rfl ?_
  refine wc_V (wr_I dX2_copy_16 mX2_35 (sp_C_init (Nat.lt_succ_self _) w_push_self) rfl rfl rfl (Nat.le_of_ble_eq_true rfl)) (fun M16 h16 => ?_)
  obtain ⟨e1, e2, e3, e4, ⟨f, e5, e6⟩, e7⟩ := h16
  have hfr : w_fr M M16 (fun _ => False) := z_frN (N := M.push (.inr (1, [.int 0, .int 0, .null, .null, .null, .null, .long 0, .int 0]))) w_fr.rf.push (z_fr1 e7 (Nat.le_refl _))
  obtain ⟨kf, hk1, hk2⟩ := h.2.2.1
  have hc := z_new_core (G := G) (P := fun q => P q ∨ M.sz ≤ q) (s := M.sz) (kinds := z_kinds c) hsP (Or.inl h.1.2.1) e2 e3 e4 e5 e6 ⟨kf, hfr.2 _ _ hk1 id, hk2⟩ (Nat.le_succ _) (Nat.le_succ_of_le (Nat.le_succ _)) (Nat.le_succ_of_le (Nat.le_succ_of_le (Nat.le_succ _))) (by show M.sz + 1 ≠ M.sz + 1 + 1; omega) (by have := w_lt hk1; show kd ≠ M.sz + 1 + 2; omega)
  refine wa_astore_n [(1, _), (0, _)] dX2_copy_19 rfl (Nat.le_of_ble_eq_true rfl) rfl ?_
  refine wa_iconst (0) dX2_copy_20 (by decide) ?_
  refine wa_istore_n [(2, _), (1, _), (0, _)] dX2_copy_21 rfl (Nat.le_of_ble_eq_true rfl) rfl ?_
  exact LP1 (z_robs c).length 0 M16 (w_ad G 0) [] (by omega) hc hfr ⟨Nat.le_refl _, by omega, by omega, by omega, Or.inl rfl, Or.inl rfl, fun _ q => (by cases q), fun _ q => (by cases q)⟩
end CP
