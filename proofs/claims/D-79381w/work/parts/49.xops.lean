/-! ===== RobotAisles' changes: on a copy of the core ===== -/
set_option maxRecDepth 100000
/-- a change's answer: the number, or UnsupportedOperationException with reason and detail kept -/
def z_opQ (G : w_G) (E : Nat → Prop) (x bl tx : Nat) (M : w_M) (S : z_S) (res : z_res) : w_O → w_M → Prop := fun o N => w_fr M N (fun q => ¬ E q) ∧ match res with
  | .inl (r, c') => o = .inl (some (.int r)) ∧ z_sys G N E x bl tx (z_come S c')
  | .inr (rs, dt) => (∃ q, o = .inr ("java/lang/UnsupportedOperationException", q)) ∧ z_sys G N E x bl tx (z_keep S rs dt)
section XO
variable {l : Launch} {G : w_G} {M : w_M} {E : Nat → Prop} {x bl tx : Nat} {S : z_S}
theorem sp_X1_add (hS : z_sys G M E x bl tx S) (hs : z_small (z_cur S)) {a b : Int32} : w_S l G tX1_add (9, 39, 306) [.ref x, .int a, .int b] M (z_opQ G E x bl tx M S (z_addC (z_cur S) a b)) := by
  obtain ⟨ba, ca, sv, bas, h⟩ := hS
  have hg := h.2.1
  obtain ⟨kd, rl, ol, sg, ra, oa, ras, oas, hL⟩ := h.2.2.1
  have hgc := hL.2.1
  refine w_start (by decide) (Nat.le_of_ble_eq_true rfl) (fun X => ?_)
  refine wa_locals [(0, _), (1, _), (2, _)] [0, 1, 2] rfl ?_
  refine wa_lo2 (fun h0 => ?_)
  refine wa_aload_n 0 dX1_add_0 rfl rfl ?_
  refine wa_getf dX1_add_1 gX1_14 hg rfl ?_
  refine wc_A (wr_V dX1_add_4 mX1_80 (sp_C_copy hL hs) hgc rfl rfl rfl (Nat.le_of_ble_eq_true rfl)) (fun r4 M4 h4 => ?_)
  obtain ⟨e4, ⟨rl', ol', sg', ra', oa', ras', oas', hL4, how⟩, hf4⟩ := h4
  subst e4
  have hg4 := hL4.2.1
  have hP : ∀ q, M.sz ≤ q → (fun q => z_cm E x bl ba tx q ∨ M.sz ≤ q) q := fun q z => Or.inr z
  have hsz0 := hf4.1
  have hop := sp_C_add (l := l) (s0 := M.sz) hL4 hs how hP hsz0 (x := a) (b := b)
  cases hres : (z_addC (z_cur S) a b) with
  | inl p =>
    obtain ⟨r, c'⟩ := p
    have hop2 : w_S l G tX2_add _ _ _ (w_rI (fun v N => v = r ∧ w_fr M4 N (fun q => M.sz ≤ q) ∧ z_core G N (fun q => z_cm E x bl ba tx q ∨ M.sz ≤ q) M.sz c')) := hop.mono (fun o N z => by obtain ⟨z1, z2⟩ := z; rw [hres] at z2; exact ⟨r, z2.1, rfl, z1, z2.2⟩)
    refine wa_astore_n [(3, _), (0, _), (1, _), (2, _)] dX1_add_7 rfl (Nat.le_of_ble_eq_true rfl) rfl ?_
    refine wa_aload_n 1 dX1_add_8 rfl rfl ?_
    refine wa_aload_n 0 dX1_add_9 rfl rfl ?_
    refine wa_aload_n 0 dX1_add_10 rfl rfl ?_
    refine wa_iload_n 2 dX1_add_11 rfl rfl ?_
    refine wa_iload_n 3 dX1_add_12 rfl rfl ?_
    refine wc_I (wr_V dX1_add_13 mX1_84 hop2 hg4 rfl rfl rfl (Nat.le_of_ble_eq_true rfl)) (fun r13 M13 h13 => ?_)
    obtain ⟨e5, hf5, hc5⟩ := h13
    subst e5
    have hfN : w_fr M M13 (fun _ => False) := z_frN hf4 hf5
    have hN := h.keepE (hfN.mono (fun _ _ z => z.elim))
    have hcN := h.commit h0 hc5
    have hgN := hN.2.1
    refine wc_I (wr_V dX1_add_16 mX1_87 (sp_come hN hcN) hgN rfl rfl rfl (Nat.le_of_ble_eq_true rfl)) (fun r16 M16 h16 => ?_)
    obtain ⟨e6, hs6, hf6⟩ := h16
    subst e6
    refine wa_iret FieldType.int dX1_add_19 rfl rfl (Nat.le_of_ble_eq_true rfl) (Nat.le_of_ble_eq_true rfl) ?_
    refine ⟨w_fr.trans (hfN.mono (fun _ _ z => z.elim)) hf6, ?_⟩
    exact ⟨rfl, hs6⟩
  | inr p =>
    obtain ⟨rs, dt⟩ := p
    have hop2 : w_S l G tX2_add _ _ _ (w_rX "RobotAisles$RefusedException" (fun q N => w_fr M4 N (fun q => M.sz ≤ q) ∧ N.get q = some (.inr (7, [.null, .null, .null, .null, .null, .int 0, .int rs, .int dt])))) := hop.mono (fun o N z => by obtain ⟨z1, z2⟩ := z; rw [hres] at z2; obtain ⟨q, z3, z4⟩ := z2; exact ⟨q, z3, z1, z4⟩)
    refine wa_astore_n [(3, _), (0, _), (1, _), (2, _)] dX1_add_7 rfl (Nat.le_of_ble_eq_true rfl) rfl ?_
    refine wa_aload_n 1 dX1_add_8 rfl rfl ?_
    refine wa_aload_n 0 dX1_add_9 rfl rfl ?_
    refine wa_aload_n 0 dX1_add_10 rfl rfl ?_
    refine wa_iload_n 2 dX1_add_11 rfl rfl ?_
    refine wa_iload_n 3 dX1_add_12 rfl rfl ?_
    refine wc_X (wr_V dX1_add_13 mX1_84 hop2 hg4 rfl rfl rfl (Nat.le_of_ble_eq_true rfl)) (fun q13 M13 h13 => ?_)
    obtain ⟨hf5, hq5⟩ := h13
    have hfN : w_fr M M13 (fun _ => False) := z_frN hf4 hf5
    have hN := h.keepE (hfN.mono (fun _ _ z => z.elim))
    have hgN := hN.2.1
    refine wx_catch [] [] _ rfl (fun z hz => by cases hz) rfl (by decide) q697 q717 20 rfl ?_
    refine wa_astore_n [(3, _), (0, _), (1, _), (2, _)] dX1_add_20 rfl (Nat.le_of_ble_eq_true rfl) rfl ?_
    refine wa_aload_n 1 dX1_add_21 rfl rfl ?_
    refine wa_aload_n 0 dX1_add_22 rfl rfl ?_
    refine wc_A (wr_V dX1_add_23 mX1_91 (sp_keep hN hq5) hgN rfl rfl rfl (Nat.le_of_ble_eq_true rfl)) (fun r23 M23 h23 => ?_)
    obtain ⟨e6, hq6, hs6, hf6⟩ := h23
    refine wa_athrow dX1_add_26 hq6 rfl (wx_out (fun z hz => Or.inl (by rcases List.mem_singleton.mp hz with rfl; rfl)) (Nat.le_of_ble_eq_true rfl) (Nat.le_of_ble_eq_true rfl) ⟨w_fr.trans (hfN.mono (fun _ _ z => z.elim)) hf6, ?_⟩)
    exact ⟨⟨_, rfl⟩, _, _, _, _, hs6⟩
theorem sp_X1_takeOff (hS : z_sys G M E x bl tx S) (hs : z_small (z_cur S)) {a : Int32} : w_S l G tX1_takeOff (9, 38, 297) [.ref x, .int a] M (z_opQ G E x bl tx M S (z_takeOffC (z_cur S) a)) := by
  obtain ⟨ba, ca, sv, bas, h⟩ := hS
  have hg := h.2.1
  obtain ⟨kd, rl, ol, sg, ra, oa, ras, oas, hL⟩ := h.2.2.1
  have hgc := hL.2.1
  refine w_start (by decide) (Nat.le_of_ble_eq_true rfl) (fun X => ?_)
  refine wa_locals [(0, _), (1, _)] [0, 1] rfl ?_
  refine wa_lo2 (fun h0 => ?_)
  refine wa_aload_n 0 dX1_takeOff_0 rfl rfl ?_
  refine wa_getf dX1_takeOff_1 gX1_14 hg rfl ?_
  refine wc_A (wr_V dX1_takeOff_4 mX1_80 (sp_C_copy hL hs) hgc rfl rfl rfl (Nat.le_of_ble_eq_true rfl)) (fun r4 M4 h4 => ?_)
  obtain ⟨e4, ⟨rl', ol', sg', ra', oa', ras', oas', hL4, how⟩, hf4⟩ := h4
  subst e4
  have hg4 := hL4.2.1
  have hP : ∀ q, M.sz ≤ q → (fun q => z_cm E x bl ba tx q ∨ M.sz ≤ q) q := fun q z => Or.inr z
  have hsz0 := hf4.1
  have hop := sp_C_takeOff (l := l) (s0 := M.sz) hL4 hs how  (x := a)
  cases hres : (z_takeOffC (z_cur S) a) with
  | inl p =>
    obtain ⟨r, c'⟩ := p
    have hop2 : w_S l G tX2_takeOff _ _ _ (w_rI (fun v N => v = r ∧ w_fr M4 N (fun q => M.sz ≤ q) ∧ z_core G N (fun q => z_cm E x bl ba tx q ∨ M.sz ≤ q) M.sz c')) := hop.mono (fun o N z => by obtain ⟨z1, z2⟩ := z; rw [hres] at z2; exact ⟨r, z2.1, rfl, z1, z2.2⟩)
    refine wa_astore_n [(2, _), (0, _), (1, _)] dX1_takeOff_7 rfl (Nat.le_of_ble_eq_true rfl) rfl ?_
    refine wa_aload_n 1 dX1_takeOff_8 rfl rfl ?_
    refine wa_aload_n 0 dX1_takeOff_9 rfl rfl ?_
    refine wa_aload_n 0 dX1_takeOff_10 rfl rfl ?_
    refine wa_iload_n 2 dX1_takeOff_11 rfl rfl ?_
    refine wc_I (wr_V dX1_takeOff_12 mX1_95 hop2 hg4 rfl rfl rfl (Nat.le_of_ble_eq_true rfl)) (fun r12 M12 h12 => ?_)
    obtain ⟨e5, hf5, hc5⟩ := h12
    subst e5
    have hfN : w_fr M M12 (fun _ => False) := z_frN hf4 hf5
    have hN := h.keepE (hfN.mono (fun _ _ z => z.elim))
    have hcN := h.commit h0 hc5
    have hgN := hN.2.1
    refine wc_I (wr_V dX1_takeOff_15 mX1_87 (sp_come hN hcN) hgN rfl rfl rfl (Nat.le_of_ble_eq_true rfl)) (fun r15 M15 h15 => ?_)
    obtain ⟨e6, hs6, hf6⟩ := h15
    subst e6
    refine wa_iret FieldType.int dX1_takeOff_18 rfl rfl (Nat.le_of_ble_eq_true rfl) (Nat.le_of_ble_eq_true rfl) ?_
    refine ⟨w_fr.trans (hfN.mono (fun _ _ z => z.elim)) hf6, ?_⟩
    exact ⟨rfl, hs6⟩
  | inr p =>
    obtain ⟨rs, dt⟩ := p
    have hop2 : w_S l G tX2_takeOff _ _ _ (w_rX "RobotAisles$RefusedException" (fun q N => w_fr M4 N (fun q => M.sz ≤ q) ∧ N.get q = some (.inr (7, [.null, .null, .null, .null, .null, .int 0, .int rs, .int dt])))) := hop.mono (fun o N z => by obtain ⟨z1, z2⟩ := z; rw [hres] at z2; obtain ⟨q, z3, z4⟩ := z2; exact ⟨q, z3, z1, z4⟩)
    refine wa_astore_n [(2, _), (0, _), (1, _)] dX1_takeOff_7 rfl (Nat.le_of_ble_eq_true rfl) rfl ?_
    refine wa_aload_n 1 dX1_takeOff_8 rfl rfl ?_
    refine wa_aload_n 0 dX1_takeOff_9 rfl rfl ?_
    refine wa_aload_n 0 dX1_takeOff_10 rfl rfl ?_
    refine wa_iload_n 2 dX1_takeOff_11 rfl rfl ?_
    refine wc_X (wr_V dX1_takeOff_12 mX1_95 hop2 hg4 rfl rfl rfl (Nat.le_of_ble_eq_true rfl)) (fun q12 M12 h12 => ?_)
    obtain ⟨hf5, hq5⟩ := h12
    have hfN : w_fr M M12 (fun _ => False) := z_frN hf4 hf5
    have hN := h.keepE (hfN.mono (fun _ _ z => z.elim))
    have hgN := hN.2.1
    refine wx_catch [] [] _ rfl (fun z hz => by cases hz) rfl (by decide) q697 q717 19 rfl ?_
    refine wa_astore_n [(2, _), (0, _), (1, _)] dX1_takeOff_19 rfl (Nat.le_of_ble_eq_true rfl) rfl ?_
    refine wa_aload_n 1 dX1_takeOff_20 rfl rfl ?_
    refine wa_aload_n 0 dX1_takeOff_21 rfl rfl ?_
    refine wc_A (wr_V dX1_takeOff_22 mX1_91 (sp_keep hN hq5) hgN rfl rfl rfl (Nat.le_of_ble_eq_true rfl)) (fun r22 M22 h22 => ?_)
    obtain ⟨e6, hq6, hs6, hf6⟩ := h22
    refine wa_athrow dX1_takeOff_25 hq6 rfl (wx_out (fun z hz => Or.inl (by rcases List.mem_singleton.mp hz with rfl; rfl)) (Nat.le_of_ble_eq_true rfl) (Nat.le_of_ble_eq_true rfl) ⟨w_fr.trans (hfN.mono (fun _ _ z => z.elim)) hf6, ?_⟩)
    exact ⟨⟨_, rfl⟩, _, _, _, _, hs6⟩
theorem sp_X1_assign (hS : z_sys G M E x bl tx S) (hs : z_small (z_cur S)) {a b : Int32} : w_S l G tX1_assign (9, 38, 297) [.ref x, .int a, .int b] M (z_opQ G E x bl tx M S (z_assignC (z_cur S) a b)) := by
  obtain ⟨ba, ca, sv, bas, h⟩ := hS
  have hg := h.2.1
  obtain ⟨kd, rl, ol, sg, ra, oa, ras, oas, hL⟩ := h.2.2.1
  have hgc := hL.2.1
  refine w_start (by decide) (Nat.le_of_ble_eq_true rfl) (fun X => ?_)
  refine wa_locals [(0, _), (1, _), (2, _)] [0, 1, 2] rfl ?_
  refine wa_lo2 (fun h0 => ?_)
  refine wa_aload_n 0 dX1_assign_0 rfl rfl ?_
  refine wa_getf dX1_assign_1 gX1_14 hg rfl ?_
  refine wc_A (wr_V dX1_assign_4 mX1_80 (sp_C_copy hL hs) hgc rfl rfl rfl (Nat.le_of_ble_eq_true rfl)) (fun r4 M4 h4 => ?_)
  obtain ⟨e4, ⟨rl', ol', sg', ra', oa', ras', oas', hL4, how⟩, hf4⟩ := h4
  subst e4
  have hg4 := hL4.2.1
  have hP : ∀ q, M.sz ≤ q → (fun q => z_cm E x bl ba tx q ∨ M.sz ≤ q) q := fun q z => Or.inr z
  have hsz0 := hf4.1
  have hop := sp_C_assign (l := l) (s0 := M.sz) hL4 hs how  (x := a) (x2 := b)
  cases hres : (z_assignC (z_cur S) a b) with
  | inl p =>
    obtain ⟨r, c'⟩ := p
    have hop2 : w_S l G tX2_assign _ _ _ (w_rI (fun v N => v = r ∧ w_fr M4 N (fun q => M.sz ≤ q) ∧ z_core G N (fun q => z_cm E x bl ba tx q ∨ M.sz ≤ q) M.sz c')) := hop.mono (fun o N z => by obtain ⟨z1, z2⟩ := z; rw [hres] at z2; exact ⟨r, z2.1, rfl, z1, z2.2⟩)
    refine wa_astore_n [(3, _), (0, _), (1, _), (2, _)] dX1_assign_7 rfl (Nat.le_of_ble_eq_true rfl) rfl ?_
    refine wa_aload_n 1 dX1_assign_8 rfl rfl ?_
    refine wa_aload_n 0 dX1_assign_9 rfl rfl ?_
    refine wa_aload_n 0 dX1_assign_10 rfl rfl ?_
    refine wa_iload_n 2 dX1_assign_11 rfl rfl ?_
    refine wa_iload_n 3 dX1_assign_12 rfl rfl ?_
    refine wc_I (wr_V dX1_assign_13 mX1_114 hop2 hg4 rfl rfl rfl (Nat.le_of_ble_eq_true rfl)) (fun r13 M13 h13 => ?_)
    obtain ⟨e5, hf5, hc5⟩ := h13
    subst e5
    have hfN : w_fr M M13 (fun _ => False) := z_frN hf4 hf5
    have hN := h.keepE (hfN.mono (fun _ _ z => z.elim))
    have hcN := h.commit h0 hc5
    have hgN := hN.2.1
    refine wc_I (wr_V dX1_assign_16 mX1_87 (sp_come hN hcN) hgN rfl rfl rfl (Nat.le_of_ble_eq_true rfl)) (fun r16 M16 h16 => ?_)
    obtain ⟨e6, hs6, hf6⟩ := h16
    subst e6
    refine wa_iret FieldType.int dX1_assign_19 rfl rfl (Nat.le_of_ble_eq_true rfl) (Nat.le_of_ble_eq_true rfl) ?_
    refine ⟨w_fr.trans (hfN.mono (fun _ _ z => z.elim)) hf6, ?_⟩
    exact ⟨rfl, hs6⟩
  | inr p =>
    obtain ⟨rs, dt⟩ := p
    have hop2 : w_S l G tX2_assign _ _ _ (w_rX "RobotAisles$RefusedException" (fun q N => w_fr M4 N (fun q => M.sz ≤ q) ∧ N.get q = some (.inr (7, [.null, .null, .null, .null, .null, .int 0, .int rs, .int dt])))) := hop.mono (fun o N z => by obtain ⟨z1, z2⟩ := z; rw [hres] at z2; obtain ⟨q, z3, z4⟩ := z2; exact ⟨q, z3, z1, z4⟩)
    refine wa_astore_n [(3, _), (0, _), (1, _), (2, _)] dX1_assign_7 rfl (Nat.le_of_ble_eq_true rfl) rfl ?_
    refine wa_aload_n 1 dX1_assign_8 rfl rfl ?_
    refine wa_aload_n 0 dX1_assign_9 rfl rfl ?_
    refine wa_aload_n 0 dX1_assign_10 rfl rfl ?_
    refine wa_iload_n 2 dX1_assign_11 rfl rfl ?_
    refine wa_iload_n 3 dX1_assign_12 rfl rfl ?_
    refine wc_X (wr_V dX1_assign_13 mX1_114 hop2 hg4 rfl rfl rfl (Nat.le_of_ble_eq_true rfl)) (fun q13 M13 h13 => ?_)
    obtain ⟨hf5, hq5⟩ := h13
    have hfN : w_fr M M13 (fun _ => False) := z_frN hf4 hf5
    have hN := h.keepE (hfN.mono (fun _ _ z => z.elim))
    have hgN := hN.2.1
    refine wx_catch [] [] _ rfl (fun z hz => by cases hz) rfl (by decide) q697 q717 20 rfl ?_
    refine wa_astore_n [(3, _), (0, _), (1, _), (2, _)] dX1_assign_20 rfl (Nat.le_of_ble_eq_true rfl) rfl ?_
    refine wa_aload_n 1 dX1_assign_21 rfl rfl ?_
    refine wa_aload_n 0 dX1_assign_22 rfl rfl ?_
    refine wc_A (wr_V dX1_assign_23 mX1_91 (sp_keep hN hq5) hgN rfl rfl rfl (Nat.le_of_ble_eq_true rfl)) (fun r23 M23 h23 => ?_)
    obtain ⟨e6, hq6, hs6, hf6⟩ := h23
    refine wa_athrow dX1_assign_26 hq6 rfl (wx_out (fun z hz => Or.inl (by rcases List.mem_singleton.mp hz with rfl; rfl)) (Nat.le_of_ble_eq_true rfl) (Nat.le_of_ble_eq_true rfl) ⟨w_fr.trans (hfN.mono (fun _ _ z => z.elim)) hf6, ?_⟩)
    exact ⟨⟨_, rfl⟩, _, _, _, _, hs6⟩
theorem sp_X1_release (hS : z_sys G M E x bl tx S) (hs : z_small (z_cur S)) {a : Int32} : w_S l G tX1_release (9, 38, 297) [.ref x, .int a] M (z_opQ G E x bl tx M S (z_releaseC (z_cur S) a)) := by
  obtain ⟨ba, ca, sv, bas, h⟩ := hS
  have hg := h.2.1
  obtain ⟨kd, rl, ol, sg, ra, oa, ras, oas, hL⟩ := h.2.2.1
  have hgc := hL.2.1
  refine w_start (by decide) (Nat.le_of_ble_eq_true rfl) (fun X => ?_)
  refine wa_locals [(0, _), (1, _)] [0, 1] rfl ?_
  refine wa_lo2 (fun h0 => ?_)
  refine wa_aload_n 0 dX1_release_0 rfl rfl ?_
  refine wa_getf dX1_release_1 gX1_14 hg rfl ?_
  refine wc_A (wr_V dX1_release_4 mX1_80 (sp_C_copy hL hs) hgc rfl rfl rfl (Nat.le_of_ble_eq_true rfl)) (fun r4 M4 h4 => ?_)
  obtain ⟨e4, ⟨rl', ol', sg', ra', oa', ras', oas', hL4, how⟩, hf4⟩ := h4
  subst e4
  have hg4 := hL4.2.1
  have hP : ∀ q, M.sz ≤ q → (fun q => z_cm E x bl ba tx q ∨ M.sz ≤ q) q := fun q z => Or.inr z
  have hsz0 := hf4.1
  have hop := sp_C_release (l := l) (s0 := M.sz) hL4 hs how  (x := a)
  cases hres : (z_releaseC (z_cur S) a) with
  | inl p =>
    obtain ⟨r, c'⟩ := p
    have hop2 : w_S l G tX2_release _ _ _ (w_rI (fun v N => v = r ∧ w_fr M4 N (fun q => M.sz ≤ q) ∧ z_core G N (fun q => z_cm E x bl ba tx q ∨ M.sz ≤ q) M.sz c')) := hop.mono (fun o N z => by obtain ⟨z1, z2⟩ := z; rw [hres] at z2; exact ⟨r, z2.1, rfl, z1, z2.2⟩)
    refine wa_astore_n [(2, _), (0, _), (1, _)] dX1_release_7 rfl (Nat.le_of_ble_eq_true rfl) rfl ?_
    refine wa_aload_n 1 dX1_release_8 rfl rfl ?_
    refine wa_aload_n 0 dX1_release_9 rfl rfl ?_
    refine wa_aload_n 0 dX1_release_10 rfl rfl ?_
    refine wa_iload_n 2 dX1_release_11 rfl rfl ?_
    refine wc_I (wr_V dX1_release_12 mX1_117 hop2 hg4 rfl rfl rfl (Nat.le_of_ble_eq_true rfl)) (fun r12 M12 h12 => ?_)
    obtain ⟨e5, hf5, hc5⟩ := h12
    subst e5
    have hfN : w_fr M M12 (fun _ => False) := z_frN hf4 hf5
    have hN := h.keepE (hfN.mono (fun _ _ z => z.elim))
    have hcN := h.commit h0 hc5
    have hgN := hN.2.1
    refine wc_I (wr_V dX1_release_15 mX1_87 (sp_come hN hcN) hgN rfl rfl rfl (Nat.le_of_ble_eq_true rfl)) (fun r15 M15 h15 => ?_)
    obtain ⟨e6, hs6, hf6⟩ := h15
    subst e6
    refine wa_iret FieldType.int dX1_release_18 rfl rfl (Nat.le_of_ble_eq_true rfl) (Nat.le_of_ble_eq_true rfl) ?_
    refine ⟨w_fr.trans (hfN.mono (fun _ _ z => z.elim)) hf6, ?_⟩
    exact ⟨rfl, hs6⟩
  | inr p =>
    obtain ⟨rs, dt⟩ := p
    have hop2 : w_S l G tX2_release _ _ _ (w_rX "RobotAisles$RefusedException" (fun q N => w_fr M4 N (fun q => M.sz ≤ q) ∧ N.get q = some (.inr (7, [.null, .null, .null, .null, .null, .int 0, .int rs, .int dt])))) := hop.mono (fun o N z => by obtain ⟨z1, z2⟩ := z; rw [hres] at z2; obtain ⟨q, z3, z4⟩ := z2; exact ⟨q, z3, z1, z4⟩)
    refine wa_astore_n [(2, _), (0, _), (1, _)] dX1_release_7 rfl (Nat.le_of_ble_eq_true rfl) rfl ?_
    refine wa_aload_n 1 dX1_release_8 rfl rfl ?_
    refine wa_aload_n 0 dX1_release_9 rfl rfl ?_
    refine wa_aload_n 0 dX1_release_10 rfl rfl ?_
    refine wa_iload_n 2 dX1_release_11 rfl rfl ?_
    refine wc_X (wr_V dX1_release_12 mX1_117 hop2 hg4 rfl rfl rfl (Nat.le_of_ble_eq_true rfl)) (fun q12 M12 h12 => ?_)
    obtain ⟨hf5, hq5⟩ := h12
    have hfN : w_fr M M12 (fun _ => False) := z_frN hf4 hf5
    have hN := h.keepE (hfN.mono (fun _ _ z => z.elim))
    have hgN := hN.2.1
    refine wx_catch [] [] _ rfl (fun z hz => by cases hz) rfl (by decide) q697 q717 19 rfl ?_
    refine wa_astore_n [(2, _), (0, _), (1, _)] dX1_release_19 rfl (Nat.le_of_ble_eq_true rfl) rfl ?_
    refine wa_aload_n 1 dX1_release_20 rfl rfl ?_
    refine wa_aload_n 0 dX1_release_21 rfl rfl ?_
    refine wc_A (wr_V dX1_release_22 mX1_91 (sp_keep hN hq5) hgN rfl rfl rfl (Nat.le_of_ble_eq_true rfl)) (fun r22 M22 h22 => ?_)
    obtain ⟨e6, hq6, hs6, hf6⟩ := h22
    refine wa_athrow dX1_release_25 hq6 rfl (wx_out (fun z hz => Or.inl (by rcases List.mem_singleton.mp hz with rfl; rfl)) (Nat.le_of_ble_eq_true rfl) (Nat.le_of_ble_eq_true rfl) ⟨w_fr.trans (hfN.mono (fun _ _ z => z.elim)) hf6, ?_⟩)
    exact ⟨⟨_, rfl⟩, _, _, _, _, hs6⟩
theorem sp_X1_close (hS : z_sys G M E x bl tx S) (hs : z_small (z_cur S)) {a : Int32} : w_S l G tX1_close (9, 38, 297) [.ref x, .int a] M (z_opQ G E x bl tx M S (z_closeC (z_cur S) a)) := by
  obtain ⟨ba, ca, sv, bas, h⟩ := hS
  have hg := h.2.1
  obtain ⟨kd, rl, ol, sg, ra, oa, ras, oas, hL⟩ := h.2.2.1
  have hgc := hL.2.1
  refine w_start (by decide) (Nat.le_of_ble_eq_true rfl) (fun X => ?_)
  refine wa_locals [(0, _), (1, _)] [0, 1] rfl ?_
  refine wa_lo2 (fun h0 => ?_)
  refine wa_aload_n 0 dX1_close_0 rfl rfl ?_
  refine wa_getf dX1_close_1 gX1_14 hg rfl ?_
  refine wc_A (wr_V dX1_close_4 mX1_80 (sp_C_copy hL hs) hgc rfl rfl rfl (Nat.le_of_ble_eq_true rfl)) (fun r4 M4 h4 => ?_)
  obtain ⟨e4, ⟨rl', ol', sg', ra', oa', ras', oas', hL4, how⟩, hf4⟩ := h4
  subst e4
  have hg4 := hL4.2.1
  have hP : ∀ q, M.sz ≤ q → (fun q => z_cm E x bl ba tx q ∨ M.sz ≤ q) q := fun q z => Or.inr z
  have hsz0 := hf4.1
  have hop := sp_C_close (l := l) (s0 := M.sz) hL4 hs how  (x := a)
  cases hres : (z_closeC (z_cur S) a) with
  | inl p =>
    obtain ⟨r, c'⟩ := p
    have hop2 : w_S l G tX2_close _ _ _ (w_rI (fun v N => v = r ∧ w_fr M4 N (fun q => M.sz ≤ q) ∧ z_core G N (fun q => z_cm E x bl ba tx q ∨ M.sz ≤ q) M.sz c')) := hop.mono (fun o N z => by obtain ⟨z1, z2⟩ := z; rw [hres] at z2; exact ⟨r, z2.1, rfl, z1, z2.2⟩)
    refine wa_astore_n [(2, _), (0, _), (1, _)] dX1_close_7 rfl (Nat.le_of_ble_eq_true rfl) rfl ?_
    refine wa_aload_n 1 dX1_close_8 rfl rfl ?_
    refine wa_aload_n 0 dX1_close_9 rfl rfl ?_
    refine wa_aload_n 0 dX1_close_10 rfl rfl ?_
    refine wa_iload_n 2 dX1_close_11 rfl rfl ?_
    refine wc_I (wr_V dX1_close_12 mX1_120 hop2 hg4 rfl rfl rfl (Nat.le_of_ble_eq_true rfl)) (fun r12 M12 h12 => ?_)
    obtain ⟨e5, hf5, hc5⟩ := h12
    subst e5
    have hfN : w_fr M M12 (fun _ => False) := z_frN hf4 hf5
    have hN := h.keepE (hfN.mono (fun _ _ z => z.elim))
    have hcN := h.commit h0 hc5
    have hgN := hN.2.1
    refine wc_I (wr_V dX1_close_15 mX1_87 (sp_come hN hcN) hgN rfl rfl rfl (Nat.le_of_ble_eq_true rfl)) (fun r15 M15 h15 => ?_)
    obtain ⟨e6, hs6, hf6⟩ := h15
    subst e6
    refine wa_iret FieldType.int dX1_close_18 rfl rfl (Nat.le_of_ble_eq_true rfl) (Nat.le_of_ble_eq_true rfl) ?_
    refine ⟨w_fr.trans (hfN.mono (fun _ _ z => z.elim)) hf6, ?_⟩
    exact ⟨rfl, hs6⟩
  | inr p =>
    obtain ⟨rs, dt⟩ := p
    have hop2 : w_S l G tX2_close _ _ _ (w_rX "RobotAisles$RefusedException" (fun q N => w_fr M4 N (fun q => M.sz ≤ q) ∧ N.get q = some (.inr (7, [.null, .null, .null, .null, .null, .int 0, .int rs, .int dt])))) := hop.mono (fun o N z => by obtain ⟨z1, z2⟩ := z; rw [hres] at z2; obtain ⟨q, z3, z4⟩ := z2; exact ⟨q, z3, z1, z4⟩)
    refine wa_astore_n [(2, _), (0, _), (1, _)] dX1_close_7 rfl (Nat.le_of_ble_eq_true rfl) rfl ?_
    refine wa_aload_n 1 dX1_close_8 rfl rfl ?_
    refine wa_aload_n 0 dX1_close_9 rfl rfl ?_
    refine wa_aload_n 0 dX1_close_10 rfl rfl ?_
    refine wa_iload_n 2 dX1_close_11 rfl rfl ?_
    refine wc_X (wr_V dX1_close_12 mX1_120 hop2 hg4 rfl rfl rfl (Nat.le_of_ble_eq_true rfl)) (fun q12 M12 h12 => ?_)
    obtain ⟨hf5, hq5⟩ := h12
    have hfN : w_fr M M12 (fun _ => False) := z_frN hf4 hf5
    have hN := h.keepE (hfN.mono (fun _ _ z => z.elim))
    have hgN := hN.2.1
    refine wx_catch [] [] _ rfl (fun z hz => by cases hz) rfl (by decide) q697 q717 19 rfl ?_
    refine wa_astore_n [(2, _), (0, _), (1, _)] dX1_close_19 rfl (Nat.le_of_ble_eq_true rfl) rfl ?_
    refine wa_aload_n 1 dX1_close_20 rfl rfl ?_
    refine wa_aload_n 0 dX1_close_21 rfl rfl ?_
    refine wc_A (wr_V dX1_close_22 mX1_91 (sp_keep hN hq5) hgN rfl rfl rfl (Nat.le_of_ble_eq_true rfl)) (fun r22 M22 h22 => ?_)
    obtain ⟨e6, hq6, hs6, hf6⟩ := h22
    refine wa_athrow dX1_close_25 hq6 rfl (wx_out (fun z hz => Or.inl (by rcases List.mem_singleton.mp hz with rfl; rfl)) (Nat.le_of_ble_eq_true rfl) (Nat.le_of_ble_eq_true rfl) ⟨w_fr.trans (hfN.mono (fun _ _ z => z.elim)) hf6, ?_⟩)
    exact ⟨⟨_, rfl⟩, _, _, _, _, hs6⟩
theorem sp_X1_open (hS : z_sys G M E x bl tx S) (hs : z_small (z_cur S)) {a : Int32} : w_S l G tX1_open (9, 38, 297) [.ref x, .int a] M (z_opQ G E x bl tx M S (z_openC (z_cur S) a)) := by
  obtain ⟨ba, ca, sv, bas, h⟩ := hS
  have hg := h.2.1
  obtain ⟨kd, rl, ol, sg, ra, oa, ras, oas, hL⟩ := h.2.2.1
  have hgc := hL.2.1
  refine w_start (by decide) (Nat.le_of_ble_eq_true rfl) (fun X => ?_)
  refine wa_locals [(0, _), (1, _)] [0, 1] rfl ?_
  refine wa_lo2 (fun h0 => ?_)
  refine wa_aload_n 0 dX1_open_0 rfl rfl ?_
  refine wa_getf dX1_open_1 gX1_14 hg rfl ?_
  refine wc_A (wr_V dX1_open_4 mX1_80 (sp_C_copy hL hs) hgc rfl rfl rfl (Nat.le_of_ble_eq_true rfl)) (fun r4 M4 h4 => ?_)
  obtain ⟨e4, ⟨rl', ol', sg', ra', oa', ras', oas', hL4, how⟩, hf4⟩ := h4
  subst e4
  have hg4 := hL4.2.1
  have hP : ∀ q, M.sz ≤ q → (fun q => z_cm E x bl ba tx q ∨ M.sz ≤ q) q := fun q z => Or.inr z
  have hsz0 := hf4.1
  have hop := sp_C_open (l := l) (s0 := M.sz) hL4 hs how  (x := a)
  cases hres : (z_openC (z_cur S) a) with
  | inl p =>
    obtain ⟨r, c'⟩ := p
    have hop2 : w_S l G tX2_open _ _ _ (w_rI (fun v N => v = r ∧ w_fr M4 N (fun q => M.sz ≤ q) ∧ z_core G N (fun q => z_cm E x bl ba tx q ∨ M.sz ≤ q) M.sz c')) := hop.mono (fun o N z => by obtain ⟨z1, z2⟩ := z; rw [hres] at z2; exact ⟨r, z2.1, rfl, z1, z2.2⟩)
    refine wa_astore_n [(2, _), (0, _), (1, _)] dX1_open_7 rfl (Nat.le_of_ble_eq_true rfl) rfl ?_
    refine wa_aload_n 1 dX1_open_8 rfl rfl ?_
    refine wa_aload_n 0 dX1_open_9 rfl rfl ?_
    refine wa_aload_n 0 dX1_open_10 rfl rfl ?_
    refine wa_iload_n 2 dX1_open_11 rfl rfl ?_
    refine wc_I (wr_V dX1_open_12 mX1_123 hop2 hg4 rfl rfl rfl (Nat.le_of_ble_eq_true rfl)) (fun r12 M12 h12 => ?_)
    obtain ⟨e5, hf5, hc5⟩ := h12
    subst e5
    have hfN : w_fr M M12 (fun _ => False) := z_frN hf4 hf5
    have hN := h.keepE (hfN.mono (fun _ _ z => z.elim))
    have hcN := h.commit h0 hc5
    have hgN := hN.2.1
    refine wc_I (wr_V dX1_open_15 mX1_87 (sp_come hN hcN) hgN rfl rfl rfl (Nat.le_of_ble_eq_true rfl)) (fun r15 M15 h15 => ?_)
    obtain ⟨e6, hs6, hf6⟩ := h15
    subst e6
    refine wa_iret FieldType.int dX1_open_18 rfl rfl (Nat.le_of_ble_eq_true rfl) (Nat.le_of_ble_eq_true rfl) ?_
    refine ⟨w_fr.trans (hfN.mono (fun _ _ z => z.elim)) hf6, ?_⟩
    exact ⟨rfl, hs6⟩
  | inr p =>
    obtain ⟨rs, dt⟩ := p
    have hop2 : w_S l G tX2_open _ _ _ (w_rX "RobotAisles$RefusedException" (fun q N => w_fr M4 N (fun q => M.sz ≤ q) ∧ N.get q = some (.inr (7, [.null, .null, .null, .null, .null, .int 0, .int rs, .int dt])))) := hop.mono (fun o N z => by obtain ⟨z1, z2⟩ := z; rw [hres] at z2; obtain ⟨q, z3, z4⟩ := z2; exact ⟨q, z3, z1, z4⟩)
    refine wa_astore_n [(2, _), (0, _), (1, _)] dX1_open_7 rfl (Nat.le_of_ble_eq_true rfl) rfl ?_
    refine wa_aload_n 1 dX1_open_8 rfl rfl ?_
    refine wa_aload_n 0 dX1_open_9 rfl rfl ?_
    refine wa_aload_n 0 dX1_open_10 rfl rfl ?_
    refine wa_iload_n 2 dX1_open_11 rfl rfl ?_
    refine wc_X (wr_V dX1_open_12 mX1_123 hop2 hg4 rfl rfl rfl (Nat.le_of_ble_eq_true rfl)) (fun q12 M12 h12 => ?_)
    obtain ⟨hf5, hq5⟩ := h12
    have hfN : w_fr M M12 (fun _ => False) := z_frN hf4 hf5
    have hN := h.keepE (hfN.mono (fun _ _ z => z.elim))
    have hgN := hN.2.1
    refine wx_catch [] [] _ rfl (fun z hz => by cases hz) rfl (by decide) q697 q717 19 rfl ?_
    refine wa_astore_n [(2, _), (0, _), (1, _)] dX1_open_19 rfl (Nat.le_of_ble_eq_true rfl) rfl ?_
    refine wa_aload_n 1 dX1_open_20 rfl rfl ?_
    refine wa_aload_n 0 dX1_open_21 rfl rfl ?_
    refine wc_A (wr_V dX1_open_22 mX1_91 (sp_keep hN hq5) hgN rfl rfl rfl (Nat.le_of_ble_eq_true rfl)) (fun r22 M22 h22 => ?_)
    obtain ⟨e6, hq6, hs6, hf6⟩ := h22
    refine wa_athrow dX1_open_25 hq6 rfl (wx_out (fun z hz => Or.inl (by rcases List.mem_singleton.mp hz with rfl; rfl)) (Nat.le_of_ble_eq_true rfl) (Nat.le_of_ble_eq_true rfl) ⟨w_fr.trans (hfN.mono (fun _ _ z => z.elim)) hf6, ?_⟩)
    exact ⟨⟨_, rfl⟩, _, _, _, _, hs6⟩
theorem sp_X1_set (hS : z_sys G M E x bl tx S) (hs : z_small (z_cur S)) {a b : Int32} : w_S l G tX1_set (9, 38, 297) [.ref x, .int a, .int b] M (z_opQ G E x bl tx M S (z_setC (z_cur S) a b)) := by
  obtain ⟨ba, ca, sv, bas, h⟩ := hS
  have hg := h.2.1
  obtain ⟨kd, rl, ol, sg, ra, oa, ras, oas, hL⟩ := h.2.2.1
  have hgc := hL.2.1
  refine w_start (by decide) (Nat.le_of_ble_eq_true rfl) (fun X => ?_)
  refine wa_locals [(0, _), (1, _), (2, _)] [0, 1, 2] rfl ?_
  refine wa_lo2 (fun h0 => ?_)
  refine wa_aload_n 0 dX1_set_0 rfl rfl ?_
  refine wa_getf dX1_set_1 gX1_14 hg rfl ?_
  refine wc_A (wr_V dX1_set_4 mX1_80 (sp_C_copy hL hs) hgc rfl rfl rfl (Nat.le_of_ble_eq_true rfl)) (fun r4 M4 h4 => ?_)
  obtain ⟨e4, ⟨rl', ol', sg', ra', oa', ras', oas', hL4, how⟩, hf4⟩ := h4
  subst e4
  have hg4 := hL4.2.1
  have hP : ∀ q, M.sz ≤ q → (fun q => z_cm E x bl ba tx q ∨ M.sz ≤ q) q := fun q z => Or.inr z
  have hsz0 := hf4.1
  have hop := sp_C_set (l := l) (s0 := M.sz) hL4 hs how  (x := a) (v := b)
  cases hres : (z_setC (z_cur S) a b) with
  | inl p =>
    obtain ⟨r, c'⟩ := p
    have hop2 : w_S l G tX2_set _ _ _ (w_rI (fun v N => v = r ∧ w_fr M4 N (fun q => M.sz ≤ q) ∧ z_core G N (fun q => z_cm E x bl ba tx q ∨ M.sz ≤ q) M.sz c')) := hop.mono (fun o N z => by obtain ⟨z1, z2⟩ := z; rw [hres] at z2; exact ⟨r, z2.1, rfl, z1, z2.2⟩)
    refine wa_astore_n [(3, _), (0, _), (1, _), (2, _)] dX1_set_7 rfl (Nat.le_of_ble_eq_true rfl) rfl ?_
    refine wa_aload_n 1 dX1_set_8 rfl rfl ?_
    refine wa_aload_n 0 dX1_set_9 rfl rfl ?_
    refine wa_aload_n 0 dX1_set_10 rfl rfl ?_
    refine wa_iload_n 2 dX1_set_11 rfl rfl ?_
    refine wa_iload_n 3 dX1_set_12 rfl rfl ?_
    refine wc_I (wr_V dX1_set_13 mX1_126 hop2 hg4 rfl rfl rfl (Nat.le_of_ble_eq_true rfl)) (fun r13 M13 h13 => ?_)
    obtain ⟨e5, hf5, hc5⟩ := h13
    subst e5
    have hfN : w_fr M M13 (fun _ => False) := z_frN hf4 hf5
    have hN := h.keepE (hfN.mono (fun _ _ z => z.elim))
    have hcN := h.commit h0 hc5
    have hgN := hN.2.1
    refine wc_I (wr_V dX1_set_16 mX1_87 (sp_come hN hcN) hgN rfl rfl rfl (Nat.le_of_ble_eq_true rfl)) (fun r16 M16 h16 => ?_)
    obtain ⟨e6, hs6, hf6⟩ := h16
    subst e6
    refine wa_iret FieldType.int dX1_set_19 rfl rfl (Nat.le_of_ble_eq_true rfl) (Nat.le_of_ble_eq_true rfl) ?_
    refine ⟨w_fr.trans (hfN.mono (fun _ _ z => z.elim)) hf6, ?_⟩
    exact ⟨rfl, hs6⟩
  | inr p =>
    obtain ⟨rs, dt⟩ := p
    have hop2 : w_S l G tX2_set _ _ _ (w_rX "RobotAisles$RefusedException" (fun q N => w_fr M4 N (fun q => M.sz ≤ q) ∧ N.get q = some (.inr (7, [.null, .null, .null, .null, .null, .int 0, .int rs, .int dt])))) := hop.mono (fun o N z => by obtain ⟨z1, z2⟩ := z; rw [hres] at z2; obtain ⟨q, z3, z4⟩ := z2; exact ⟨q, z3, z1, z4⟩)
    refine wa_astore_n [(3, _), (0, _), (1, _), (2, _)] dX1_set_7 rfl (Nat.le_of_ble_eq_true rfl) rfl ?_
    refine wa_aload_n 1 dX1_set_8 rfl rfl ?_
    refine wa_aload_n 0 dX1_set_9 rfl rfl ?_
    refine wa_aload_n 0 dX1_set_10 rfl rfl ?_
    refine wa_iload_n 2 dX1_set_11 rfl rfl ?_
    refine wa_iload_n 3 dX1_set_12 rfl rfl ?_
    refine wc_X (wr_V dX1_set_13 mX1_126 hop2 hg4 rfl rfl rfl (Nat.le_of_ble_eq_true rfl)) (fun q13 M13 h13 => ?_)
    obtain ⟨hf5, hq5⟩ := h13
    have hfN : w_fr M M13 (fun _ => False) := z_frN hf4 hf5
    have hN := h.keepE (hfN.mono (fun _ _ z => z.elim))
    have hgN := hN.2.1
    refine wx_catch [] [] _ rfl (fun z hz => by cases hz) rfl (by decide) q697 q717 20 rfl ?_
    refine wa_astore_n [(3, _), (0, _), (1, _), (2, _)] dX1_set_20 rfl (Nat.le_of_ble_eq_true rfl) rfl ?_
    refine wa_aload_n 1 dX1_set_21 rfl rfl ?_
    refine wa_aload_n 0 dX1_set_22 rfl rfl ?_
    refine wc_A (wr_V dX1_set_23 mX1_91 (sp_keep hN hq5) hgN rfl rfl rfl (Nat.le_of_ble_eq_true rfl)) (fun r23 M23 h23 => ?_)
    obtain ⟨e6, hq6, hs6, hf6⟩ := h23
    refine wa_athrow dX1_set_26 hq6 rfl (wx_out (fun z hz => Or.inl (by rcases List.mem_singleton.mp hz with rfl; rfl)) (Nat.le_of_ble_eq_true rfl) (Nat.le_of_ble_eq_true rfl) ⟨w_fr.trans (hfN.mono (fun _ _ z => z.elim)) hf6, ?_⟩)
    exact ⟨⟨_, rfl⟩, _, _, _, _, hs6⟩
theorem sp_X1_plan (hS : z_sys G M E x bl tx S) (hs : z_small (z_cur S)) (hH : z_sets (z_cur S) 2 = nI (z_hor (z_cur S))) (hH30 : z_hor (z_cur S) ≤ 30) {a b : Int32} : w_S l G tX1_plan (9, 43, 2380) [.ref x, .int a, .int b] M (z_opQ G E x bl tx M S (z_planC (z_cur S) a b)) := by
  obtain ⟨ba, ca, sv, bas, h⟩ := hS
  have hg := h.2.1
  obtain ⟨kd, rl, ol, sg, ra, oa, ras, oas, hL⟩ := h.2.2.1
  have hgc := hL.2.1
  refine w_start (by decide) (Nat.le_of_ble_eq_true rfl) (fun X => ?_)
  refine wa_locals [(0, _), (1, _), (2, _)] [0, 1, 2] rfl ?_
  refine wa_lo2 (fun h0 => ?_)
  refine wa_aload_n 0 dX1_plan_0 rfl rfl ?_
  refine wa_getf dX1_plan_1 gX1_14 hg rfl ?_
  refine wc_A (wr_V dX1_plan_4 mX1_80 (sp_C_copy hL hs) hgc rfl rfl rfl (Nat.le_of_ble_eq_true rfl)) (fun r4 M4 h4 => ?_)
  obtain ⟨e4, ⟨rl', ol', sg', ra', oa', ras', oas', hL4, how⟩, hf4⟩ := h4
  subst e4
  have hg4 := hL4.2.1
  have hP : ∀ q, M.sz ≤ q → (fun q => z_cm E x bl ba tx q ∨ M.sz ≤ q) q := fun q z => Or.inr z
  have hsz0 := hf4.1
  have hop := sp_C_plan (l := l) (s0 := M.sz) hL4 hs how hP hsz0 hH hH30 (x := a) (x2 := b)
  cases hres : (z_planC (z_cur S) a b) with
  | inl p =>
    obtain ⟨r, c'⟩ := p
    have hop2 : w_S l G tX2_plan _ _ _ (w_rI (fun v N => v = r ∧ w_fr M4 N (fun q => M.sz ≤ q) ∧ z_core G N (fun q => z_cm E x bl ba tx q ∨ M.sz ≤ q) M.sz c')) := hop.mono (fun o N z => by obtain ⟨z1, z2⟩ := z; rw [hres] at z2; exact ⟨r, z2.1, rfl, z1, z2.2⟩)
    refine wa_astore_n [(3, _), (0, _), (1, _), (2, _)] dX1_plan_7 rfl (Nat.le_of_ble_eq_true rfl) rfl ?_
    refine wa_aload_n 1 dX1_plan_8 rfl rfl ?_
    refine wa_aload_n 0 dX1_plan_9 rfl rfl ?_
    refine wa_aload_n 0 dX1_plan_10 rfl rfl ?_
    refine wa_iload_n 2 dX1_plan_11 rfl rfl ?_
    refine wa_iload_n 3 dX1_plan_12 rfl rfl ?_
    refine wc_I (wr_V dX1_plan_13 mX1_129 hop2 hg4 rfl rfl rfl (Nat.le_of_ble_eq_true rfl)) (fun r13 M13 h13 => ?_)
    obtain ⟨e5, hf5, hc5⟩ := h13
    subst e5
    have hfN : w_fr M M13 (fun _ => False) := z_frN hf4 hf5
    have hN := h.keepE (hfN.mono (fun _ _ z => z.elim))
    have hcN := h.commit h0 hc5
    have hgN := hN.2.1
    refine wc_I (wr_V dX1_plan_16 mX1_87 (sp_come hN hcN) hgN rfl rfl rfl (Nat.le_of_ble_eq_true rfl)) (fun r16 M16 h16 => ?_)
    obtain ⟨e6, hs6, hf6⟩ := h16
    subst e6
    refine wa_iret FieldType.int dX1_plan_19 rfl rfl (Nat.le_of_ble_eq_true rfl) (Nat.le_of_ble_eq_true rfl) ?_
    refine ⟨w_fr.trans (hfN.mono (fun _ _ z => z.elim)) hf6, ?_⟩
    exact ⟨rfl, hs6⟩
  | inr p =>
    obtain ⟨rs, dt⟩ := p
    have hop2 : w_S l G tX2_plan _ _ _ (w_rX "RobotAisles$RefusedException" (fun q N => w_fr M4 N (fun q => M.sz ≤ q) ∧ N.get q = some (.inr (7, [.null, .null, .null, .null, .null, .int 0, .int rs, .int dt])))) := hop.mono (fun o N z => by obtain ⟨z1, z2⟩ := z; rw [hres] at z2; obtain ⟨q, z3, z4⟩ := z2; exact ⟨q, z3, z1, z4⟩)
    refine wa_astore_n [(3, _), (0, _), (1, _), (2, _)] dX1_plan_7 rfl (Nat.le_of_ble_eq_true rfl) rfl ?_
    refine wa_aload_n 1 dX1_plan_8 rfl rfl ?_
    refine wa_aload_n 0 dX1_plan_9 rfl rfl ?_
    refine wa_aload_n 0 dX1_plan_10 rfl rfl ?_
    refine wa_iload_n 2 dX1_plan_11 rfl rfl ?_
    refine wa_iload_n 3 dX1_plan_12 rfl rfl ?_
    refine wc_X (wr_V dX1_plan_13 mX1_129 hop2 hg4 rfl rfl rfl (Nat.le_of_ble_eq_true rfl)) (fun q13 M13 h13 => ?_)
    obtain ⟨hf5, hq5⟩ := h13
    have hfN : w_fr M M13 (fun _ => False) := z_frN hf4 hf5
    have hN := h.keepE (hfN.mono (fun _ _ z => z.elim))
    have hgN := hN.2.1
    refine wx_catch [] [] _ rfl (fun z hz => by cases hz) rfl (by decide) q697 q717 20 rfl ?_
    refine wa_astore_n [(3, _), (0, _), (1, _), (2, _)] dX1_plan_20 rfl (Nat.le_of_ble_eq_true rfl) rfl ?_
    refine wa_aload_n 1 dX1_plan_21 rfl rfl ?_
    refine wa_aload_n 0 dX1_plan_22 rfl rfl ?_
    refine wc_A (wr_V dX1_plan_23 mX1_91 (sp_keep hN hq5) hgN rfl rfl rfl (Nat.le_of_ble_eq_true rfl)) (fun r23 M23 h23 => ?_)
    obtain ⟨e6, hq6, hs6, hf6⟩ := h23
    refine wa_athrow dX1_plan_26 hq6 rfl (wx_out (fun z hz => Or.inl (by rcases List.mem_singleton.mp hz with rfl; rfl)) (Nat.le_of_ble_eq_true rfl) (Nat.le_of_ble_eq_true rfl) ⟨w_fr.trans (hfN.mono (fun _ _ z => z.elim)) hf6, ?_⟩)
    exact ⟨⟨_, rfl⟩, _, _, _, _, hs6⟩
theorem sp_X1_cancel (hS : z_sys G M E x bl tx S) (hs : z_small (z_cur S)) {a : Int32} : w_S l G tX1_cancel (9, 38, 297) [.ref x, .int a] M (z_opQ G E x bl tx M S (z_cancelC (z_cur S) a)) := by
  obtain ⟨ba, ca, sv, bas, h⟩ := hS
  have hg := h.2.1
  obtain ⟨kd, rl, ol, sg, ra, oa, ras, oas, hL⟩ := h.2.2.1
  have hgc := hL.2.1
  refine w_start (by decide) (Nat.le_of_ble_eq_true rfl) (fun X => ?_)
  refine wa_locals [(0, _), (1, _)] [0, 1] rfl ?_
  refine wa_lo2 (fun h0 => ?_)
  refine wa_aload_n 0 dX1_cancel_0 rfl rfl ?_
  refine wa_getf dX1_cancel_1 gX1_14 hg rfl ?_
  refine wc_A (wr_V dX1_cancel_4 mX1_80 (sp_C_copy hL hs) hgc rfl rfl rfl (Nat.le_of_ble_eq_true rfl)) (fun r4 M4 h4 => ?_)
  obtain ⟨e4, ⟨rl', ol', sg', ra', oa', ras', oas', hL4, how⟩, hf4⟩ := h4
  subst e4
  have hg4 := hL4.2.1
  have hP : ∀ q, M.sz ≤ q → (fun q => z_cm E x bl ba tx q ∨ M.sz ≤ q) q := fun q z => Or.inr z
  have hsz0 := hf4.1
  have hop := sp_C_cancel (l := l) (s0 := M.sz) hL4 hs how  (x := a)
  cases hres : (z_cancelC (z_cur S) a) with
  | inl p =>
    obtain ⟨r, c'⟩ := p
    have hop2 : w_S l G tX2_cancel _ _ _ (w_rI (fun v N => v = r ∧ w_fr M4 N (fun q => M.sz ≤ q) ∧ z_core G N (fun q => z_cm E x bl ba tx q ∨ M.sz ≤ q) M.sz c')) := hop.mono (fun o N z => by obtain ⟨z1, z2⟩ := z; rw [hres] at z2; exact ⟨r, z2.1, rfl, z1, z2.2⟩)
    refine wa_astore_n [(2, _), (0, _), (1, _)] dX1_cancel_7 rfl (Nat.le_of_ble_eq_true rfl) rfl ?_
    refine wa_aload_n 1 dX1_cancel_8 rfl rfl ?_
    refine wa_aload_n 0 dX1_cancel_9 rfl rfl ?_
    refine wa_aload_n 0 dX1_cancel_10 rfl rfl ?_
    refine wa_iload_n 2 dX1_cancel_11 rfl rfl ?_
    refine wc_I (wr_V dX1_cancel_12 mX1_132 hop2 hg4 rfl rfl rfl (Nat.le_of_ble_eq_true rfl)) (fun r12 M12 h12 => ?_)
    obtain ⟨e5, hf5, hc5⟩ := h12
    subst e5
    have hfN : w_fr M M12 (fun _ => False) := z_frN hf4 hf5
    have hN := h.keepE (hfN.mono (fun _ _ z => z.elim))
    have hcN := h.commit h0 hc5
    have hgN := hN.2.1
    refine wc_I (wr_V dX1_cancel_15 mX1_87 (sp_come hN hcN) hgN rfl rfl rfl (Nat.le_of_ble_eq_true rfl)) (fun r15 M15 h15 => ?_)
    obtain ⟨e6, hs6, hf6⟩ := h15
    subst e6
    refine wa_iret FieldType.int dX1_cancel_18 rfl rfl (Nat.le_of_ble_eq_true rfl) (Nat.le_of_ble_eq_true rfl) ?_
    refine ⟨w_fr.trans (hfN.mono (fun _ _ z => z.elim)) hf6, ?_⟩
    exact ⟨rfl, hs6⟩
  | inr p =>
    obtain ⟨rs, dt⟩ := p
    have hop2 : w_S l G tX2_cancel _ _ _ (w_rX "RobotAisles$RefusedException" (fun q N => w_fr M4 N (fun q => M.sz ≤ q) ∧ N.get q = some (.inr (7, [.null, .null, .null, .null, .null, .int 0, .int rs, .int dt])))) := hop.mono (fun o N z => by obtain ⟨z1, z2⟩ := z; rw [hres] at z2; obtain ⟨q, z3, z4⟩ := z2; exact ⟨q, z3, z1, z4⟩)
    refine wa_astore_n [(2, _), (0, _), (1, _)] dX1_cancel_7 rfl (Nat.le_of_ble_eq_true rfl) rfl ?_
    refine wa_aload_n 1 dX1_cancel_8 rfl rfl ?_
    refine wa_aload_n 0 dX1_cancel_9 rfl rfl ?_
    refine wa_aload_n 0 dX1_cancel_10 rfl rfl ?_
    refine wa_iload_n 2 dX1_cancel_11 rfl rfl ?_
    refine wc_X (wr_V dX1_cancel_12 mX1_132 hop2 hg4 rfl rfl rfl (Nat.le_of_ble_eq_true rfl)) (fun q12 M12 h12 => ?_)
    obtain ⟨hf5, hq5⟩ := h12
    have hfN : w_fr M M12 (fun _ => False) := z_frN hf4 hf5
    have hN := h.keepE (hfN.mono (fun _ _ z => z.elim))
    have hgN := hN.2.1
    refine wx_catch [] [] _ rfl (fun z hz => by cases hz) rfl (by decide) q697 q717 19 rfl ?_
    refine wa_astore_n [(2, _), (0, _), (1, _)] dX1_cancel_19 rfl (Nat.le_of_ble_eq_true rfl) rfl ?_
    refine wa_aload_n 1 dX1_cancel_20 rfl rfl ?_
    refine wa_aload_n 0 dX1_cancel_21 rfl rfl ?_
    refine wc_A (wr_V dX1_cancel_22 mX1_91 (sp_keep hN hq5) hgN rfl rfl rfl (Nat.le_of_ble_eq_true rfl)) (fun r22 M22 h22 => ?_)
    obtain ⟨e6, hq6, hs6, hf6⟩ := h22
    refine wa_athrow dX1_cancel_25 hq6 rfl (wx_out (fun z hz => Or.inl (by rcases List.mem_singleton.mp hz with rfl; rfl)) (Nat.le_of_ble_eq_true rfl) (Nat.le_of_ble_eq_true rfl) ⟨w_fr.trans (hfN.mono (fun _ _ z => z.elim)) hf6, ?_⟩)
    exact ⟨⟨_, rfl⟩, _, _, _, _, hs6⟩
theorem sp_X1_pass (hS : z_sys G M E x bl tx S) (hs : z_small (z_cur S)) {a : Int32} : w_S l G tX1_pass (9, 38, 297) [.ref x, .int a] M (z_opQ G E x bl tx M S (z_passC (z_cur S) a)) := by
  obtain ⟨ba, ca, sv, bas, h⟩ := hS
  have hg := h.2.1
  obtain ⟨kd, rl, ol, sg, ra, oa, ras, oas, hL⟩ := h.2.2.1
  have hgc := hL.2.1
  refine w_start (by decide) (Nat.le_of_ble_eq_true rfl) (fun X => ?_)
  refine wa_locals [(0, _), (1, _)] [0, 1] rfl ?_
  refine wa_lo2 (fun h0 => ?_)
  refine wa_aload_n 0 dX1_pass_0 rfl rfl ?_
  refine wa_getf dX1_pass_1 gX1_14 hg rfl ?_
  refine wc_A (wr_V dX1_pass_4 mX1_80 (sp_C_copy hL hs) hgc rfl rfl rfl (Nat.le_of_ble_eq_true rfl)) (fun r4 M4 h4 => ?_)
  obtain ⟨e4, ⟨rl', ol', sg', ra', oa', ras', oas', hL4, how⟩, hf4⟩ := h4
  subst e4
  have hg4 := hL4.2.1
  have hP : ∀ q, M.sz ≤ q → (fun q => z_cm E x bl ba tx q ∨ M.sz ≤ q) q := fun q z => Or.inr z
  have hsz0 := hf4.1
  have hop := sp_C_pass (l := l) (s0 := M.sz) hL4 hs how  (x := a)
  cases hres : (z_passC (z_cur S) a) with
  | inl p =>
    obtain ⟨r, c'⟩ := p
    have hop2 : w_S l G tX2_pass _ _ _ (w_rI (fun v N => v = r ∧ w_fr M4 N (fun q => M.sz ≤ q) ∧ z_core G N (fun q => z_cm E x bl ba tx q ∨ M.sz ≤ q) M.sz c')) := hop.mono (fun o N z => by obtain ⟨z1, z2⟩ := z; rw [hres] at z2; exact ⟨r, z2.1, rfl, z1, z2.2⟩)
    refine wa_astore_n [(2, _), (0, _), (1, _)] dX1_pass_7 rfl (Nat.le_of_ble_eq_true rfl) rfl ?_
    refine wa_aload_n 1 dX1_pass_8 rfl rfl ?_
    refine wa_aload_n 0 dX1_pass_9 rfl rfl ?_
    refine wa_aload_n 0 dX1_pass_10 rfl rfl ?_
    refine wa_iload_n 2 dX1_pass_11 rfl rfl ?_
    refine wc_I (wr_V dX1_pass_12 mX1_135 hop2 hg4 rfl rfl rfl (Nat.le_of_ble_eq_true rfl)) (fun r12 M12 h12 => ?_)
    obtain ⟨e5, hf5, hc5⟩ := h12
    subst e5
    have hfN : w_fr M M12 (fun _ => False) := z_frN hf4 hf5
    have hN := h.keepE (hfN.mono (fun _ _ z => z.elim))
    have hcN := h.commit h0 hc5
    have hgN := hN.2.1
    refine wc_I (wr_V dX1_pass_15 mX1_87 (sp_come hN hcN) hgN rfl rfl rfl (Nat.le_of_ble_eq_true rfl)) (fun r15 M15 h15 => ?_)
    obtain ⟨e6, hs6, hf6⟩ := h15
    subst e6
    refine wa_iret FieldType.int dX1_pass_18 rfl rfl (Nat.le_of_ble_eq_true rfl) (Nat.le_of_ble_eq_true rfl) ?_
    refine ⟨w_fr.trans (hfN.mono (fun _ _ z => z.elim)) hf6, ?_⟩
    exact ⟨rfl, hs6⟩
  | inr p =>
    obtain ⟨rs, dt⟩ := p
    have hop2 : w_S l G tX2_pass _ _ _ (w_rX "RobotAisles$RefusedException" (fun q N => w_fr M4 N (fun q => M.sz ≤ q) ∧ N.get q = some (.inr (7, [.null, .null, .null, .null, .null, .int 0, .int rs, .int dt])))) := hop.mono (fun o N z => by obtain ⟨z1, z2⟩ := z; rw [hres] at z2; obtain ⟨q, z3, z4⟩ := z2; exact ⟨q, z3, z1, z4⟩)
    refine wa_astore_n [(2, _), (0, _), (1, _)] dX1_pass_7 rfl (Nat.le_of_ble_eq_true rfl) rfl ?_
    refine wa_aload_n 1 dX1_pass_8 rfl rfl ?_
    refine wa_aload_n 0 dX1_pass_9 rfl rfl ?_
    refine wa_aload_n 0 dX1_pass_10 rfl rfl ?_
    refine wa_iload_n 2 dX1_pass_11 rfl rfl ?_
    refine wc_X (wr_V dX1_pass_12 mX1_135 hop2 hg4 rfl rfl rfl (Nat.le_of_ble_eq_true rfl)) (fun q12 M12 h12 => ?_)
    obtain ⟨hf5, hq5⟩ := h12
    have hfN : w_fr M M12 (fun _ => False) := z_frN hf4 hf5
    have hN := h.keepE (hfN.mono (fun _ _ z => z.elim))
    have hgN := hN.2.1
    refine wx_catch [] [] _ rfl (fun z hz => by cases hz) rfl (by decide) q697 q717 19 rfl ?_
    refine wa_astore_n [(2, _), (0, _), (1, _)] dX1_pass_19 rfl (Nat.le_of_ble_eq_true rfl) rfl ?_
    refine wa_aload_n 1 dX1_pass_20 rfl rfl ?_
    refine wa_aload_n 0 dX1_pass_21 rfl rfl ?_
    refine wc_A (wr_V dX1_pass_22 mX1_91 (sp_keep hN hq5) hgN rfl rfl rfl (Nat.le_of_ble_eq_true rfl)) (fun r22 M22 h22 => ?_)
    obtain ⟨e6, hq6, hs6, hf6⟩ := h22
    refine wa_athrow dX1_pass_25 hq6 rfl (wx_out (fun z hz => Or.inl (by rcases List.mem_singleton.mp hz with rfl; rfl)) (Nat.le_of_ble_eq_true rfl) (Nat.le_of_ble_eq_true rfl) ⟨w_fr.trans (hfN.mono (fun _ _ z => z.elim)) hf6, ?_⟩)
    exact ⟨⟨_, rfl⟩, _, _, _, _, hs6⟩
end XO
