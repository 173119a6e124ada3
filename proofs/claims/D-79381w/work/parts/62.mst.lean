/-! ===== the Model's state ===== -/
set_option maxRecDepth 100000
/-- what is known of a core after at most b ticks -/
def z_good (b : Nat) (c : z_C) : Prop := z_small c ∧ (∃ j, j ≤ b ∧ z_now c = nI j) ∧ (∀ k, k < z_size c → 0 ≤ z_kinds c k ∧ z_kinds c k ≤ 3) ∧
  ((1 ≤ z_sets c 0 ∧ z_sets c 0 ≤ 20) ∧ (1 ≤ z_sets c 1 ∧ z_sets c 1 ≤ 3) ∧ 1 ≤ z_sets c 2 ∧ z_sets c 2 ≤ 30) ∧ z_apart c ∧ (∀ r ∈ z_robs c, ∀ t, z_free c (z_ahead r t) = true) ∧ (∀ k, k < 64 → z_bit (z_closed c) k = true → k < z_size c) ∧ z_held c
theorem z_good.mono {b b' : Nat} {c : z_C} (h : z_good b c) (hb : b ≤ b') : z_good b' c := by
  obtain ⟨h1, ⟨j, h2, h3⟩, h4⟩ := h
  exact ⟨h1, ⟨j, by omega, h3⟩, h4⟩
def z_mo (m : Nat) (is pm th re de len fl rr rc : Int32) : w_E := .inr (2, [.ref (m + 1), .ref (m + 2), .int is, .ref (m + 3), .int pm, .int th, .int re, .int de, .ref (m + 4), .ref (m + 5), .ref (m + 6), .ref (m + 7), .ref (m + 8), .ref (m + 9), .ref (m + 10), .ref (m + 11), .int len, .int fl, .int rr, .int rc])
/-- the Model's cells -/
def z_mE (m q : Nat) : Prop := m ≤ q ∧ q ≤ m + 11
/-- the rows that only one call uses -/
def z_scr (M : w_M) (m : Nat) : Prop := (∃ g : Nat → Int32, M.get (m + 4) = some (.inl (.int, 3, .inl g))) ∧ (∃ g : Nat → Int32, M.get (m + 5) = some (.inl (.boolean, 1488, .inl g))) ∧ (∃ g : Nat → Int32, M.get (m + 6) = some (.inl (.boolean, 1488, .inl g))) ∧
  (∃ g : Nat → Int32, M.get (m + 7) = some (.inl (.int, 30, .inl g))) ∧ (∃ g : Nat → Int32, M.get (m + 8) = some (.inl (.int, 48, .inl g))) ∧ (∃ g : Nat → Int32, M.get (m + 9) = some (.inl (.int, 48, .inl g))) ∧ ∃ g : Nat → Int32, M.get (m + 10) = some (.inl (.int, 2304, .inl g))
def z_rel (b : Nat) (S : z_S) (is : Int32) (f sv pf ip : Nat → Int32) : Prop :=
  (z_mr (z_cur S) f ∧ z_good b (z_cur S)) ∧ (z_past S).length ≤ 8 ∧ (∀ (i : Nat) (c : z_C), (z_past S)[i]? = some c → z_good b c ∧ z_mr c (fun j => pf (400 * i + j))) ∧
  (match z_sav S with
    | none => is = 0
    | some c => is = 1 ∧ z_good b c ∧ z_mr c sv) ∧
  (z_txt S).length ≤ 60 ∧ (∀ (i : Nat) (v : Int32), (z_txt S)[i]? = some v → ip i = v) ∧ 0 ≤ z_why S
def z_modL (b : Nat) (M : w_M) (m : Nat) (S : z_S) (th is rr rc : Int32) (f sv pf ip : Nat → Int32) : Prop :=
  M.get m = some (z_mo m is (nI (z_past S).length) th (z_why S) (z_det S) (nI (z_txt S).length) (z_flt S) rr rc) ∧
  M.get (m + 1) = some (.inl (.int, 400, .inl f)) ∧ M.get (m + 2) = some (.inl (.int, 400, .inl sv)) ∧ M.get (m + 3) = some (.inl (.int, 3200, .inl pf)) ∧ M.get (m + 11) = some (.inl (.char, 60, .inl ip)) ∧ z_scr M m ∧ z_rel b S is f sv pf ip
def z_mod (b : Nat) (M : w_M) (m : Nat) (S : z_S) (th : Int32) : Prop := ∃ is rr rc f sv pf ip, z_modL b M m S th is rr rc f sv pf ip
def z_curS (S : z_S) (c : z_C) : z_S := (c, z_past S, z_sav S, z_why S, z_det S, z_txt S, z_flt S)
section MZ
variable {b : Nat} {M N : w_M} {m : Nat} {S : z_S} {th is rr rc : Int32} {f sv pf ip : Nat → Int32} {l : Launch} {G : w_G} {c : z_C}
theorem z_scr.keep {W : Nat → Prop} (h : z_scr M m) (hf : w_fr M N W) (hw : ∀ q, m + 4 ≤ q → q ≤ m + 10 → ¬ W q) : z_scr N m := by
  obtain ⟨⟨g1, h1⟩, ⟨g2, h2⟩, ⟨g3, h3⟩, ⟨g4, h4⟩, ⟨g5, h5⟩, ⟨g6, h6⟩, ⟨g7, h7⟩⟩ := h
  exact ⟨⟨g1, hf.2 _ _ h1 (hw _ (by omega) (by omega))⟩, ⟨g2, hf.2 _ _ h2 (hw _ (by omega) (by omega))⟩, ⟨g3, hf.2 _ _ h3 (hw _ (by omega) (by omega))⟩, ⟨g4, hf.2 _ _ h4 (hw _ (by omega) (by omega))⟩, ⟨g5, hf.2 _ _ h5 (hw _ (by omega) (by omega))⟩, ⟨g6, hf.2 _ _ h6 (hw _ (by omega) (by omega))⟩, ⟨g7, hf.2 _ _ h7 (hw _ (by omega) (by omega))⟩⟩
theorem z_modL.mh (h : z_modL b M m S th is rr rc f sv pf ip) : z_mh M m f := ⟨_, h.1, h.2.1⟩
theorem z_modL.mr (h : z_modL b M m S th is rr rc f sv pf ip) : z_mr (z_cur S) f := h.2.2.2.2.2.2.1.1
theorem z_modL.gd (h : z_modL b M m S th is rr rc f sv pf ip) : z_good b (z_cur S) := h.2.2.2.2.2.2.1.2
theorem z_modL.md (h : z_modL b M m S th is rr rc f sv pf ip) : z_mod b M m S th := ⟨_, _, _, _, _, _, _, h⟩
theorem z_modL.keep {W : Nat → Prop} (h : z_modL b M m S th is rr rc f sv pf ip) (hf : w_fr M N W) (hw : ∀ q, z_mE m q → ¬ W q) : z_modL b N m S th is rr rc f sv pf ip := by
  obtain ⟨h1, h2, h3, h4, h5, h6, h7⟩ := h
  exact ⟨hf.2 _ _ h1 (hw _ ⟨by omega, by omega⟩), hf.2 _ _ h2 (hw _ ⟨by omega, by omega⟩), hf.2 _ _ h3 (hw _ ⟨by omega, by omega⟩), hf.2 _ _ h4 (hw _ ⟨by omega, by omega⟩), hf.2 _ _ h5 (hw _ ⟨by omega, by omega⟩), h6.keep hf (fun q z1 z2 => hw q ⟨by omega, by omega⟩), h7⟩
theorem z_mod.keep {W : Nat → Prop} (h : z_mod b M m S th) (hf : w_fr M N W) (hw : ∀ q, z_mE m q → ¬ W q) : z_mod b N m S th := by
  obtain ⟨is, rr, rc, f, sv, pf, ip, h⟩ := h
  exact (h.keep hf hw).md
/-- the object's own numbers written -/
theorem z_modL.top {S' : z_S} {is' th' rr' rc' : Int32} (h : z_modL b M m S th is rr rc f sv pf ip) (hr : z_rel b S' is' f sv pf ip) : z_modL b (M.set m (z_mo m is' (nI (z_past S').length) th' (z_why S') (z_det S') (nI (z_txt S').length) (z_flt S') rr' rc')) m S' th' is' rr' rc' f sv pf ip := by
  obtain ⟨h1, h2, h3, h4, h5, h6, h7⟩ := h
  exact ⟨w_set_self h1, w_sne h2 (by omega), w_sne h3 (by omega), w_sne h4 (by omega), w_sne h5 (by omega), h6.keep w_fr_me (fun q z1 z2 z3 => by omega), hr⟩
theorem z_modL.thr (h : z_modL b M m S th is rr rc f sv pf ip) (th' : Int32) : z_modL b (M.set m (z_mo m is (nI (z_past S).length) th' (z_why S) (z_det S) (nI (z_txt S).length) (z_flt S) rr rc)) m S th' is rr rc f sv pf ip := h.top h.2.2.2.2.2.2
theorem z_modL.scr (h : z_modL b M m S th is rr rc f sv pf ip) (hf : w_fr M N (fun q => m + 4 ≤ q ∧ q ≤ m + 10)) (hs : z_scr N m) : z_modL b N m S th is rr rc f sv pf ip := by
  obtain ⟨h1, h2, h3, h4, h5, h6, h7⟩ := h
  exact ⟨hf.2 _ _ h1 (fun z => by omega), hf.2 _ _ h2 (fun z => by omega), hf.2 _ _ h3 (fun z => by omega), hf.2 _ _ h4 (fun z => by omega), hf.2 _ _ h5 (fun z => by omega), hs, h7⟩
/-- the row written -/
theorem z_modL.row {f' : Nat → Int32} (h : z_modL b M m S th is rr rc f sv pf ip) (hf : w_fr M N (fun q => q = m + 1)) (hg : N.get (m + 1) = some (.inl (.int, 400, .inl f'))) (hr : z_mr c f') (hc : z_good b c) : z_modL b N m (z_curS S c) th is rr rc f' sv pf ip := by
  obtain ⟨h1, h2, h3, h4, h5, h6, ⟨h7, h8⟩⟩ := h
  exact ⟨hf.2 _ _ h1 (fun z => by omega), hg, hf.2 _ _ h3 (fun z => by omega), hf.2 _ _ h4 (fun z => by omega), hf.2 _ _ h5 (fun z => by omega), h6.keep hf (fun q z1 z2 z3 => by omega), ⟨⟨hr, hc⟩, h8⟩⟩
theorem z_modL.mono {b' : Nat} (h : z_modL b M m S th is rr rc f sv pf ip) (hb : b ≤ b') : z_modL b' M m S th is rr rc f sv pf ip := by
  obtain ⟨h1, h2, h3, h4, h5, h6, ⟨⟨h7, h8⟩, h9, h10, h11, h12⟩⟩ := h
  refine ⟨h1, h2, h3, h4, h5, h6, ⟨h7, h8.mono hb⟩, h9, fun i c e => ⟨(h10 i c e).1.mono hb, (h10 i c e).2⟩, ?_, h12⟩
  cases hs : z_sav S with
  | none => rw [hs] at h11; exact h11
  | some c =>
    rw [hs] at h11
    exact ⟨h11.1, h11.2.1.mono hb, h11.2.2⟩
theorem z_mod.mono {b' : Nat} (h : z_mod b M m S th) (hb : b ≤ b') : z_mod b' M m S th := by
  obtain ⟨is, rr, rc, f, sv, pf, ip, h⟩ := h
  exact (h.mono hb).md
theorem z_frE {M N : w_M} {m : Nat} {W : Nat → Prop} (h : w_fr M N W) (hw : ∀ q, W q → z_mE m q) : w_fr M N (z_mE m) := h.mono (fun q _ z => hw q z)
theorem z_mEm : z_mE m m := ⟨by omega, by omega⟩
theorem z_mEs : z_mE m (m + 1) := ⟨by omega, by omega⟩
/-- what a question's answer is, and what a change's -/
def z_mA (b : Nat) (M : w_M) (m : Nat) (S : z_S) (a : Int32 ⊕ Nat) : w_O → w_M → Prop := w_rI (fun r N => w_fr M N (z_mE m) ∧ match a with
  | .inl v => r = v ∧ z_mod b N m S 0
  | .inr k => z_mod b N m S (nI k))
def z_mO (b : Nat) (M : w_M) (m : Nat) (S : z_S) (res : z_res) : w_O → w_M → Prop := w_rI (fun r N => w_fr M N (z_mE m) ∧ match res with
  | .inl (v, c') => r = v ∧ z_mod b N m (z_come S c') 0
  | .inr (w, d) => z_mod b N m (z_keep S w d) 1)
theorem sp_mthrown (h : z_mod b M m S th) : w_S l G tX3_thrown (1, 0, 0) [.ref m] M (w_is (.inl (some (.int th))) M) := by
  obtain ⟨is, rr, rc, f, sv, pf, ip, h⟩ := h
  have hm := h.1
  refine w_start (by decide) (Nat.le_of_ble_eq_true rfl) (fun X => ?_)
  refine wa_locals [(0, _)] [0] rfl ?_
  refine wa_aload_n 0 dX3_thrown_0 rfl rfl ?_
  refine wa_getf dX3_thrown_1 gX3_49 hm rfl ?_
  refine wa_iret FieldType.int dX3_thrown_4 rfl rfl (Nat.le_of_ble_eq_true rfl) (Nat.le_of_ble_eq_true rfl) ?_
  exact ⟨rfl, rfl⟩
theorem sp_mrefuse (h : z_modL b M m S th is rr rc f sv pf ip) {w d : Int32} (hw : 0 ≤ w) : w_S l G tX3_refuse (1, 0, 0) [.ref m, .int w, .int d] M (w_rI (fun r N => r = 0 ∧ w_fr M N (fun q => q = m) ∧ z_modL b N m (z_keep S w d) 1 is rr rc f sv pf ip)) := by
  have hm := h.1
  refine w_start (by decide) (Nat.le_of_ble_eq_true rfl) (fun X => ?_)
  refine wa_locals [(0, _), (1, _), (2, _)] [0, 1, 2] rfl ?_
  refine wa_aload_n 0 dX3_refuse_0 rfl rfl ?_
  refine wa_iconst (1) dX3_refuse_1 (by decide) ?_
  refine wa_putf [_, _, _, _, _, _, _, _, _, _, _, _, _, _, _, _, _, _, _, _] dX3_refuse_2 pX3_49 hm (Nat.le_of_ble_eq_true rfl) rfl rfl rfl ?_
  refine wa_aload_n 0 dX3_refuse_5 rfl rfl ?_
  refine wa_iload_n 1 dX3_refuse_6 rfl rfl ?_
  refine wa_putf [_, _, _, _, _, _, _, _, _, _, _, _, _, _, _, _, _, _, _, _] dX3_refuse_7 pX3_61 (w_set_self hm) (Nat.le_of_ble_eq_true rfl) rfl rfl rfl ?_
  refine wa_aload_n 0 dX3_refuse_10 rfl rfl ?_
  refine wa_iload_n 2 dX3_refuse_11 rfl rfl ?_
  refine wa_putf [_, _, _, _, _, _, _, _, _, _, _, _, _, _, _, _, _, _, _, _] dX3_refuse_12 pX3_64 (w_set_self (w_set_self hm)) (Nat.le_of_ble_eq_true rfl) rfl rfl rfl ?_
  refine wa_iconst (0) dX3_refuse_15 (by decide) ?_
  refine wa_iret FieldType.int dX3_refuse_16 rfl rfl (Nat.le_of_ble_eq_true rfl) (Nat.le_of_ble_eq_true rfl) ?_
  refine ⟨_, rfl, rfl, w_fr_me.me.me, ?_⟩
  have hr := h.2.2.2.2.2.2
  have h1 := h.thr 1
  have h2 := h1.top (S' := z_keep S w (z_det S)) (is' := is) (th' := 1) (rr' := rr) (rc' := rc) ⟨hr.1, hr.2.1, hr.2.2.1, hr.2.2.2.1, hr.2.2.2.2.1, hr.2.2.2.2.2.1, hw⟩
  exact h2.top (S' := z_keep S w d) (is' := is) (th' := 1) (rr' := rr) (rc' := rc) ⟨hr.1, hr.2.1, hr.2.2.1, hr.2.2.2.1, hr.2.2.2.2.1, hr.2.2.2.2.2.1, hw⟩
theorem z_relC {S : z_S} {is : Int32} {f sv pf ip : Nat → Int32} (h : z_rel b S is f sv pf ip) (c : z_C) {ps : List z_C} {pf' : Nat → Int32} (hl : ps.length ≤ 8) (hp : ∀ (i : Nat) (c : z_C), ps[i]? = some c → z_good b c ∧ z_mr c (fun j => pf' (400 * i + j))) : z_rel b (z_cur S, ps, z_sav S, z_why S, z_det S, z_txt S, z_flt S) is f sv pf' ip := ⟨h.1, hl, hp, h.2.2.2⟩
theorem z_mr_eq {c : z_C} {f g : Nat → Int32} (h : z_mr c f) (hs : z_small c) (e : ∀ j, j < 400 → g j = f j) : z_mr c g := by
  obtain ⟨⟨h1, h2, h3, h4, h5⟩, h6, h7, h8, h9, h10⟩ := h
  have hsz := hs.size
  have hR6 : (z_robs c).length ≤ 6 := hs.2.2.2.2.1
  have hO10 : (z_ords c).length ≤ 10 := hs.2.2.2.2.2.1
  refine ⟨⟨by rw [e _ (by omega)]; exact h1, by rw [e _ (by omega)]; exact h2, by rw [e _ (by omega)]; exact h3, by rw [e _ (by omega)]; exact h4, by rw [e _ (by omega)]; exact h5⟩, fun k hk => by rw [e _ (by omega)]; exact h6 k hk, fun k hk => by rw [e _ (by omega)]; exact h7 k hk, fun k hk => by rw [e _ (by omega)]; exact h8 k hk, fun i r hi => ?_, fun i o hi => ?_⟩
  · obtain ⟨q1, q2, q3, q4, q5, q6, q7⟩ := h9 i r hi
    have hl := (List.getElem?_eq_some_iff.mp hi).1
    have h30 := (hs.2.2.2.2.2.2.1 r (List.mem_of_getElem? hi)).2.2.1
    exact ⟨by rw [e _ (by omega)]; exact q1, by rw [e _ (by omega)]; exact q2, by rw [e _ (by omega)]; exact q3, by rw [e _ (by omega)]; exact q4, fun z => by rw [e _ (by omega)]; exact q5 z, by rw [e _ (by omega)]; exact q6, fun j q hj => by have := (List.getElem?_eq_some_iff.mp hj).1; rw [e _ (by omega)]; exact q7 j q hj⟩
  · obtain ⟨q1, q2, q3, q4, q5, q6⟩ := h10 i o hi
    have hl := (List.getElem?_eq_some_iff.mp hi).1
    have h3 := (hs.2.2.2.2.2.2.2 o (List.mem_of_getElem? hi)).2.1
    exact ⟨by rw [e _ (by omega)]; exact q1, by rw [e _ (by omega)]; exact q2, by rw [e _ (by omega)]; exact q3, by rw [e _ (by omega)]; exact q4, by rw [e _ (by omega)]; exact q5, fun j q hj => by have := (List.getElem?_eq_some_iff.mp hj).1; rw [e _ (by omega)]; exact q6 j q hj⟩
theorem sp_mchange (h : z_modL b M m S th is rr rc f sv pf ip) : w_S l G tX3_change (1, 0, 0) [.ref m] M (w_rV (fun N => w_fr M N (fun q => q = m ∨ q = m + 3) ∧ ∃ pf', z_modL b N m (z_come S (z_cur S)) th is rr rc f sv pf' ip)) := by
  obtain ⟨hm, hf, hsv, hpf, hip, hscr, hR⟩ := id h
  have h8 := hR.2.1
  have hR3 := hR.2.2.1
  have hm1 : (m + 1) ≠ m := by omega
  have hm3 : (m + 3) ≠ m := by omega
  have hmm3 : m ≠ m + 3 := by omega
  have h13 : m + 1 ≠ m + 3 := by omega
  have eM : ∀ k : Nat, (400 : Int32) * nI k = nI (400 * k) := fun k => pk_mul 400 k
  by_cases hp : (z_past S).length = 8
  · have ec : z_come S (z_cur S) = (z_cur S, (z_past S).tail ++ [z_cur S], z_sav S, z_why S, z_det S, z_txt S, z_flt S) := by unfold z_come; rw [if_pos hp]
    rw [ec]
    have h7 : (z_past S).tail.length = 7 := by rw [List.length_tail]; omega
    have hL : ((z_past S).tail ++ [z_cur S]).length = 8 := by rw [List.length_append, h7]; rfl
    rw [hp] at hm
    refine w_start (by decide) (Nat.le_of_ble_eq_true rfl) (fun X => ?_)
    refine wa_locals [(0, _)] [0] rfl ?_
    refine wa_aload_n 0 dX3_change_0 rfl rfl ?_
    refine wa_getf dX3_change_1 gX3_52 hm rfl ?_
    refine wa_bipush (8) dX3_change_4 (by decide) ?_
    refine wa_icmp_ne 37 dX3_change_6 rfl (fun c6 => absurd rfl c6) (fun c6 => ?_)
    refine wa_aload_n 0 dX3_change_9 rfl rfl ?_
    refine wa_getf dX3_change_10 gX3_16 hm rfl ?_
    refine wa_sipush (400) dX3_change_13 (by decide) ?_
    refine wa_aload_n 0 dX3_change_16 rfl rfl ?_
    refine wa_getf dX3_change_17 gX3_16 hm rfl ?_
    refine wa_iconst (0) dX3_change_20 (by decide) ?_
    refine wa_sipush (2800) dX3_change_21 (by decide) ?_
    refine wa_copyi 400 0 2800 dX3_change_24 q2037 hpf hpf rfl rfl rfl (by decide) (by decide) (by decide) (by decide) rfl (Nat.le_of_ble_eq_true rfl) ?_
    refine wa_aload_n 0 dX3_change_27 rfl rfl ?_
    refine wa_dup dX3_change_28 rfl ?_
    refine wa_getf dX3_change_29 gX3_52 (w_sne hm hmm3) rfl ?_
    refine wa_iconst (1) dX3_change_32 (by decide) ?_
    refine wa_isub dX3_change_33 ?_
    refine wa_putf [_, _, _, _, _, _, _, _, _, _, _, _, _, _, _, _, _, _, _, _] dX3_change_34 pX3_52 (w_sne hm hmm3) (Nat.le_of_ble_eq_true rfl) rfl rfl rfl ?_
    rw [show nI 8 - 1 = nI 7 by decide]
    refine wa_aload_n 0 dX3_change_37 rfl rfl ?_
    refine wa_getf dX3_change_38 gX3_9 (w_set_self (w_sne hm hmm3)) rfl ?_
    refine wa_iconst (0) dX3_change_41 (by decide) ?_
    refine wa_aload_n 0 dX3_change_42 rfl rfl ?_
    refine wa_getf dX3_change_43 gX3_16 (w_set_self (w_sne hm hmm3)) rfl ?_
    refine wa_sipush (400) dX3_change_46 (by decide) ?_
    refine wa_aload_n 0 dX3_change_49 rfl rfl ?_
    refine wa_getf dX3_change_50 gX3_52 (w_set_self (w_sne hm hmm3)) rfl ?_
    refine wa_imul dX3_change_53 ?_
    refine wa_sipush (400) dX3_change_54 (by decide) ?_
    rw [show (400 : Int32) * nI 7 = nI 2800 by decide]
    refine wa_copyi 0 2800 400 dX3_change_57 q2037 (w_sne (w_sne hf h13) hm1) (w_sne (w_set_self hpf) hm3) rfl (by rfl) rfl (by decide) (by decide) (by decide) (by decide) rfl (Nat.le_of_ble_eq_true rfl) ?_
    refine wa_aload_n 0 dX3_change_60 rfl rfl ?_
    refine wa_dup dX3_change_61 rfl ?_
    refine wa_getf dX3_change_62 gX3_52 (w_sne (w_set_self (w_sne hm hmm3)) hmm3) rfl ?_
    refine wa_iconst (1) dX3_change_65 (by decide) ?_
    refine wa_iadd dX3_change_66 ?_
    rw [show nI 7 + 1 = nI 8 by decide]
    refine wa_putf [_, _, _, _, _, _, _, _, _, _, _, _, _, _, _, _, _, _, _, _] dX3_change_67 pX3_52 (w_sne (w_set_self (w_sne hm hmm3)) hmm3) (Nat.le_of_ble_eq_true rfl) rfl rfl rfl ?_
    refine wa_vret dX3_change_70 rfl (Nat.le_of_ble_eq_true rfl) (Nat.le_of_ble_eq_true rfl) ?_
    refine ⟨rfl, ?_, va_cpy f (va_cpy pf pf 400 0 2800) 0 2800 400, ?_⟩
    · exact (((w_fr.rf.set (Or.inr rfl)).set (Or.inl rfl)).set (Or.inr rfl)).set (Or.inl rfl)
    · refine ⟨?_, w_sne (w_sne (w_sne (w_sne hf h13) hm1) h13) hm1, w_sne (w_sne (w_sne (w_sne hsv (by omega)) (by omega)) (by omega)) (by omega), w_sne (w_set_self (w_sne (w_set_self hpf) hm3)) hm3, w_sne (w_sne (w_sne (w_sne hip (by omega)) (by omega)) (by omega)) (by omega), ?_, ?_⟩
      · rw [show (z_past (z_cur S, (z_past S).tail ++ [z_cur S], z_sav S, z_why S, z_det S, z_txt S, z_flt S)).length = 8 from hL]
        exact w_set_self (w_sne (w_set_self (w_sne hm hmm3)) hmm3)
      · exact hscr.keep (W := fun q => q = m ∨ q = m + 3) ((((w_fr.rf.set (Or.inr rfl)).set (Or.inl rfl)).set (Or.inr rfl)).set (Or.inl rfl)) (fun q z1 z2 z3 => by omega)
      · refine z_relC hR (z_cur S) (by omega) (fun i c hi => ?_)
        have hil := (List.getElem?_eq_some_iff.mp hi).1
        rw [hL] at hil
        by_cases hi7 : i < 7
        · rw [List.getElem?_append_left (by omega), List.getElem?_tail] at hi
          obtain ⟨q1, q2⟩ := hR3 (i + 1) c hi
          refine ⟨q1, z_mr_eq q2 q1.1 (fun j hj => ?_)⟩
          show va_cpy f (va_cpy pf pf 400 0 2800) 0 2800 400 (400 * i + j) = pf (400 * (i + 1) + j)
          unfold va_cpy
          rw [if_neg (by omega), if_pos (by omega)]
          congr 1
          omega
        · rw [List.getElem?_append_right (by omega), h7, show i - 7 = 0 by omega] at hi
          cases hi
          refine ⟨hR.1.2, z_mr_eq hR.1.1 hR.1.2.1 (fun j hj => ?_)⟩
          show va_cpy f (va_cpy pf pf 400 0 2800) 0 2800 400 (400 * i + j) = f j
          unfold va_cpy
          rw [if_pos (by omega)]
          congr 1
          omega
  · have ec : z_come S (z_cur S) = (z_cur S, z_past S ++ [z_cur S], z_sav S, z_why S, z_det S, z_txt S, z_flt S) := by unfold z_come; rw [if_neg hp]
    rw [ec]
    have hL : (z_past S ++ [z_cur S]).length = (z_past S).length + 1 := by rw [List.length_append]; rfl
    refine w_start (by decide) (Nat.le_of_ble_eq_true rfl) (fun X => ?_)
    refine wa_locals [(0, _)] [0] rfl ?_
    refine wa_aload_n 0 dX3_change_0 rfl rfl ?_
    refine wa_getf dX3_change_1 gX3_52 hm rfl ?_
    refine wa_bipush (8) dX3_change_4 (by decide) ?_
    refine wa_icmp_ne 37 dX3_change_6 rfl (fun c6 => ?_) (fun c6 => absurd ((nI_eq (b := 8) (by omega) (by decide)).mp c6) hp)
    refine wa_aload_n 0 dX3_change_37 rfl rfl ?_
    refine wa_getf dX3_change_38 gX3_9 hm rfl ?_
    refine wa_iconst (0) dX3_change_41 (by decide) ?_
    refine wa_aload_n 0 dX3_change_42 rfl rfl ?_
    refine wa_getf dX3_change_43 gX3_16 hm rfl ?_
    refine wa_sipush (400) dX3_change_46 (by decide) ?_
    refine wa_aload_n 0 dX3_change_49 rfl rfl ?_
    refine wa_getf dX3_change_50 gX3_52 hm rfl ?_
    refine wa_imul dX3_change_53 ?_
    refine wa_sipush (400) dX3_change_54 (by decide) ?_
    rw [eM]
    refine wa_copyi 0 (400 * (z_past S).length) 400 dX3_change_57 q2037 hf hpf rfl rfl rfl (by decide) (by omega) (by decide) (by decide) rfl (Nat.le_of_ble_eq_true rfl) ?_
    refine wa_aload_n 0 dX3_change_60 rfl rfl ?_
    refine wa_dup dX3_change_61 rfl ?_
    refine wa_getf dX3_change_62 gX3_52 (w_sne hm hmm3) rfl ?_
    refine wa_iconst (1) dX3_change_65 (by decide) ?_
    refine wa_iadd dX3_change_66 ?_
    rw [show nI (z_past S).length + 1 = nI ((z_past S).length + 1) from nI_1 _]
    refine wa_putf [_, _, _, _, _, _, _, _, _, _, _, _, _, _, _, _, _, _, _, _] dX3_change_67 pX3_52 (w_sne hm hmm3) (Nat.le_of_ble_eq_true rfl) rfl rfl rfl ?_
    refine wa_vret dX3_change_70 rfl (Nat.le_of_ble_eq_true rfl) (Nat.le_of_ble_eq_true rfl) ?_
    refine ⟨rfl, ?_, va_cpy f pf 0 (400 * (z_past S).length) 400, ?_⟩
    · exact (w_fr.rf.set (Or.inr rfl)).set (Or.inl rfl)
    · refine ⟨?_, w_sne (w_sne hf h13) hm1, w_sne (w_sne hsv (by omega)) (by omega), w_sne (w_set_self hpf) hm3, w_sne (w_sne hip (by omega)) (by omega), ?_, ?_⟩
      · rw [show (z_past (z_cur S, z_past S ++ [z_cur S], z_sav S, z_why S, z_det S, z_txt S, z_flt S)).length = (z_past S).length + 1 from hL]
        exact w_set_self (w_sne hm hmm3)
      · exact hscr.keep (W := fun q => q = m ∨ q = m + 3) ((w_fr.rf.set (Or.inr rfl)).set (Or.inl rfl)) (fun q z1 z2 z3 => by omega)
      · refine z_relC hR (z_cur S) (by omega) (fun i c hi => ?_)
        have hil := (List.getElem?_eq_some_iff.mp hi).1
        rw [hL] at hil
        by_cases hi7 : i < (z_past S).length
        · rw [List.getElem?_append_left hi7] at hi
          obtain ⟨q1, q2⟩ := hR3 i c hi
          refine ⟨q1, z_mr_eq q2 q1.1 (fun j hj => ?_)⟩
          show va_cpy f pf 0 (400 * (z_past S).length) 400 (400 * i + j) = pf (400 * i + j)
          unfold va_cpy
          rw [if_neg (by omega)]
        · have e : i = (z_past S).length := by omega
          subst e
          rw [List.getElem?_append_right (Nat.le_refl _), Nat.sub_self] at hi
          cases hi
          refine ⟨hR.1.2, z_mr_eq hR.1.1 hR.1.2.1 (fun j hj => ?_)⟩
          show va_cpy f pf 0 (400 * (z_past S).length) 400 (400 * (z_past S).length + j) = f j
          unfold va_cpy
          rw [if_pos (by omega)]
          congr 1
          omega
end MZ
