/-! ===== what the core's changes do, in plain words ===== -/
set_option maxRecDepth 100000
/-- an answer and the changed core, or a reason and a detail -/
abbrev z_res : Type := (Int32 × z_C) ⊕ (Int32 × Int32)
def z_hasR (r : z_R) (h : Option Nat) : z_R := (z_cell r, z_batt r, h, z_steps r, z_plan r, z_cost r)
def z_stO (o : z_O) (p s : Nat) (d : Int32) : z_O := (z_due o, z_lines o, p, s, d)
def z_addC (c : z_C) (x b : Int32) : z_res := match z_idx x (z_size c) with
  | none => .inr (1, 0)
  | some j => if 0 ≤ b ∧ b ≤ 99 then if (z_robs c).length = 6 then .inr (3, 0) else if z_free c j = true then match z_robotEver c j (-1) with
      | some k => .inr (5, nI k)
      | none => .inl (nI (z_robs c).length, z_setR c (z_robs c ++ [(j, b, none, 0, [], 0)]))
    else .inr (4, nI j) else .inr (2, 0)
def z_takeOffC (c : z_C) (x : Int32) : z_res := match z_idx x (z_robs c).length with
  | none => .inr (1, 0)
  | some k => match (z_robs c)[k]? with
    | none => .inr (1, 0)
    | some r => match z_has r with
      | some o => .inr (7, nI o)
      | none => .inl (nI ((z_robs c).length - 1), z_setR c ((z_robs c).eraseIdx k))
def z_idxs (n : Nat) : List Int32 → Option (List Nat)
  | [] => some []
  | x :: xs => match z_idx x n with
    | none => none
    | some j => match z_idxs n xs with
      | none => none
      | some js => some (j :: js)
def z_orderC (c : z_C) (due : Int32) (ls : List Int32) : z_res := match z_idxs (z_size c) ls with
  | none => .inr (1, 0)
  | some js => if 0 ≤ due ∧ due ≤ 999 then if (z_ords c).length = 10 then .inr (3, 0) else match js.find? (fun j => decide (z_kinds c j ≠ 0)) with
      | some j => .inr (12, nI j)
      | none => .inl (nI (z_ords c).length, z_setO c (z_ords c ++ [(due, js, 0, 0, -1)]))
    else .inr (2, 0)
def z_assignC (c : z_C) (x y : Int32) : z_res := match z_idx x (z_robs c).length with
  | none => .inr (1, 0)
  | some k => match z_idx y (z_ords c).length with
    | none => .inr (1, 0)
    | some i => match (z_robs c)[k]? with
      | none => .inr (1, 0)
      | some r => match (z_ords c)[i]? with
        | none => .inr (1, 0)
        | some o => match z_has r with
          | some h => .inr (7, nI h)
          | none => if z_state o = 0 then .inl (nI ((z_lines o).length - z_picked o), z_setO (z_setR c ((z_robs c).set k (z_hasR r (some i)))) ((z_ords c).set i (z_stO o (z_picked o) 1 (z_del o)))) else .inr (8, nI (z_state o))
def z_releaseC (c : z_C) (x : Int32) : z_res := match z_idx x (z_robs c).length with
  | none => .inr (1, 0)
  | some k => match (z_robs c)[k]? with
    | none => .inr (1, 0)
    | some r => match z_has r with
      | none => .inr (7, -1)
      | some i => match (z_ords c)[i]? with
        | none => .inr (1, 0)
        | some o => .inl (nI i, z_setO (z_setR c ((z_robs c).set k (z_hasR r none))) ((z_ords c).set i (z_stO o 0 0 (z_del o))))
/-- a cell's bit in the word of the closed cells -/
def z_one (k : Nat) : Int64 := (1 : Int64) <<< ((nI k).toInt64 &&& 63)
def z_shr (x : Int64) (k : Int32) : Int64 := (x.toUInt64 >>> (k.toInt64.toUInt64 &&& Int64.toUInt64 63)).toInt64
/-- Long.bitCount, as it is computed -/
def z_pop1 (w : Int64) : Int64 := w - (z_shr w 1 &&& 6148914691236517205)
def z_pop2 (w : Int64) : Int64 := (w &&& 3689348814741910323) + (z_shr w 2 &&& 3689348814741910323)
def z_pop4 (w : Int64) : Int64 := (w + z_shr w 4) &&& 1085102592571150095
def z_popS (k : Int32) (w : Int64) : Int64 := w + z_shr w k
def z_pop (w : Int64) : Int32 := (z_popS 32 (z_popS 16 (z_popS 8 (z_pop4 (z_pop2 (z_pop1 w)))))).toInt32 &&& 127
def z_closeC (c : z_C) (x : Int32) : z_res := match z_idx x (z_size c) with
  | none => .inr (1, 0)
  | some j => if z_bit (z_closed c) j = true then .inr (13, 0) else if z_kinds c j = 1 then .inr (4, nI j) else match z_robotEver c j (-1) with
    | some k => .inr (5, nI k)
    | none => .inl (z_pop (z_closed c ||| z_one j), z_setW c (z_closed c ||| z_one j))
def z_openC (c : z_C) (x : Int32) : z_res := match z_idx x (z_size c) with
  | none => .inr (1, 0)
  | some j => if z_bit (z_closed c) j = true then .inl (z_pop (z_closed c &&& (z_one j ^^^ -1)), z_setW c (z_closed c &&& (z_one j ^^^ -1))) else .inr (13, 0)
/-- the greatest value of a setting -/
def z_most (w : Nat) : Int32 := if w = 0 then 20 else if w = 1 then 3 else 30
def z_setC (c : z_C) (x v : Int32) : z_res := match z_idx x 3 with
  | none => .inr (2, 0)
  | some w => if 1 ≤ v ∧ v ≤ z_most w then .inl (z_sets c w, z_setS c (fun k => if k = w then v else z_sets c k)) else .inr (2, 0)
def z_cancelC (c : z_C) (x : Int32) : z_res := match z_idx x (z_robs c).length with
  | none => .inr (1, 0)
  | some k => match (z_robs c)[k]? with
    | none => .inr (1, 0)
    | some r => if z_plan r = [] then .inr (14, 0) else match z_robotEver c (z_cell r) (nI k) with
      | some i => .inr (5, nI i)
      | none => .inl (nI (z_plan r).length, z_setR c ((z_robs c).set k (z_drop r)))
theorem z_y {b : Prop} [Decidable b] (h : ¬ (if b then (1 : Int32) else 0) = 0) : b := by
  by_cases q : b
  · exact q
  · rw [if_neg q] at h; exact absurd rfl h
theorem z_n {b : Prop} [Decidable b] (h : (if b then (1 : Int32) else 0) = 0) : ¬ b := by
  intro q
  rw [if_pos q] at h
  exact absurd h (by decide)
theorem z_yes {x : Int32} {n : Nat} (hn : n < 2 ^ 31) (h : ¬ (if (z_idx x n).isSome then (1 : Int32) else 0) = 0) : ∃ k, z_idx x n = some k ∧ k < n ∧ nI k = x := by
  have h1 := z_y h
  obtain ⟨k, hk⟩ := Option.isSome_iff_exists.mp h1
  exact ⟨k, hk, z_idx_lt hn hk, (z_idx_eq hn hk).symm⟩
theorem z_not {x : Int32} {n : Nat} (h : (if (z_idx x n).isSome then (1 : Int32) else 0) = 0) : z_idx x n = none := by
  have h1 := z_n h
  cases hq : z_idx x n with
  | none => rfl
  | some k => rw [hq] at h1; exact absurd rfl h1
/-- what a change answers, and the memory behind it: what lies below s0 is as it was -/
def z_post (G : w_G) (P : Nat → Prop) (s0 a : Nat) (M : w_M) (res : z_res) : w_O → w_M → Prop := fun o M' => w_fr M M' (fun q => s0 ≤ q) ∧ match res with
  | .inl (r, c') => o = .inl (some (.int r)) ∧ z_core G M' P a c'
  | .inr (rs, dt) => ∃ q, o = .inr ("RobotAisles$RefusedException", q) ∧ M'.get q = some (.inr (7, [.null, .null, .null, .null, .null, .int 0, .int rs, .int dt]))
theorem z_postN {G : w_G} {P : Nat → Prop} {s0 a : Nat} {M : w_M} {res : z_res} {rs dt : Int32} (h : res = .inr (rs, dt)) : z_post G P s0 a M res (.inr ("RobotAisles$RefusedException", M.sz)) (M.push (.inr (7, [.null, .null, .null, .null, .null, .int 0, .int rs, .int dt]))) := by
  rw [h]
  exact ⟨w_fr.rf.push, _, rfl, w_push_self⟩
theorem z_postY {G : w_G} {P : Nat → Prop} {s0 a : Nat} {M M' : w_M} {res : z_res} {r : Int32} {c' : z_C} (h : res = .inl (r, c')) (hf : w_fr M M' (fun q => s0 ≤ q)) (hc : z_core G M' P a c') {r' : Int32} (hr : r' = r) : z_post G P s0 a M res (.inl (some (.int r'))) M' := by
  rw [h, hr]
  exact ⟨hf, rfl, hc⟩
/-- the parts of a core that are its own lie from s0 on -/
def z_own (G : w_G) (s0 a rl ol sg ra oa : Nat) (ras oas : List Nat) : Prop := s0 ≤ a ∧ s0 ≤ rl ∧ s0 ≤ ol ∧ s0 ≤ sg ∧ (ra = w_ad G 0 ∨ s0 ≤ ra) ∧ (oa = w_ad G 0 ∨ s0 ≤ oa) ∧ (∀ x ∈ ras, s0 ≤ x) ∧ (∀ x ∈ oas, s0 ≤ x)
theorem z_frL {G : w_G} {M M' : w_M} {s0 a arr : Nat} (h : w_fr M M' (fun q => q = a ∨ q = arr)) (ha : s0 ≤ a) (hr : arr = w_ad G 0 ∨ s0 ≤ arr) (hd : ∀ e, M.get (w_ad G 0) ≠ some e) : w_fr M M' (fun q => s0 ≤ q) := by
  refine ⟨h.1, fun q e hq hw => h.2 q e hq ?_⟩
  rintro (rfl | rfl)
  · exact hw ha
  · rcases hr with rfl | hr
    · exact hd _ hq
    · exact hw hr
theorem z_fr1 {M M' : w_M} {s0 x : Nat} (h : w_fr M M' (fun q => q = x)) (hx : s0 ≤ x) : w_fr M M' (fun q => s0 ≤ q) := h.mono (fun q _ e => by rw [e]; exact hx)
theorem z_idxL {c : z_C} (hs : z_small c) : (z_robs c).length < 2 ^ 31 ∧ (z_ords c).length < 2 ^ 31 ∧ z_size c < 2 ^ 31 := by
  have h1 := hs.2.2.2.2.1
  have h2 := hs.2.2.2.2.2.1
  have h3 := hs.size
  omega
theorem z_yN {b : Prop} [Decidable b] (h : ¬ (if b then (0 : Int32) else 1) = 0) : ¬ b := fun q => h (if_pos q)
theorem z_nN {b : Prop} [Decidable b] (h : (if b then (0 : Int32) else 1) = 0) : b := by
  by_cases q : b
  · exact q
  · rw [if_neg q] at h; exact absurd h (by decide)
theorem z_coreL.setsEq {G : w_G} {M : w_M} {P : Nat → Prop} {a kd rl ol sg ra oa : Nat} {ras oas : List Nat} {c : z_C} {f g : Nat → Int32} (h : z_coreL G M P a kd rl ol sg ra oa ras oas (z_setS c f)) (e : ∀ k, k < 3 → f k = g k) : z_coreL G M P a kd rl ol sg ra oa ras oas (z_setS c g) := by
  obtain ⟨h1, h2, h3, ⟨f', h4, h5⟩, h6⟩ := h
  exact ⟨h1, h2, h3, ⟨f', h4, fun k hk => (h5 k hk).trans (e k hk)⟩, h6⟩
theorem z_robP.setHas {M : w_M} {P : Nat → Prop} {x : Nat} {r : z_R} {pv : Option Nat} (h : z_robP M P x r pv) (hn : Option Nat) {dn : Int32} (hob : M.get x = some (.inr (5, [.int (nI (z_cell r)), .int (z_batt r), .int (z_enc (z_has r)), .int (z_steps r), va_rf pv, .int dn, .int (z_cost r)]))) : z_robP (M.set x (.inr (5, [.int (nI (z_cell r)), .int (z_batt r), .int (z_enc hn), .int (z_steps r), va_rf pv, .int dn, .int (z_cost r)]))) P x (z_hasR r hn) pv := by
  obtain ⟨dn', h1, h2, h3⟩ := h
  have e := hob.symm.trans h2
  simp only [Option.some.injEq, Sum.inr.injEq, Prod.mk.injEq, List.cons.injEq, Value.int.injEq, true_and, and_true] at e
  subst e
  refine ⟨dn, h1, w_set_self hob, ?_⟩
  cases pv with
  | none => exact h3
  | some p =>
    obtain ⟨h4, m, d, f, h5, h6⟩ := h3
    exact ⟨h4, m, d, f, by rw [w_set_ne (w_neA hob h5).symm]; exact h5, h6⟩
theorem z_ord.setSt {M : w_M} {P : Nat → Prop} {x n la : Nat} {o : z_O} (h : z_ord M P x n o) (p s : Nat) (d : Int32) (hob : M.get x = some (.inr (6, [.int (nI n), .int (z_due o), .ref la, .int (nI (z_picked o)), .int (nI (z_state o)), .int (z_del o)]))) : z_ord (M.set x (.inr (6, [.int (nI n), .int (z_due o), .ref la, .int (nI p), .int (nI s), .int d]))) P x n (z_stO o p s d) := by
  obtain ⟨la', h1, h2, h3, f, h4, h5⟩ := h
  have e := hob.symm.trans h3
  simp only [Option.some.injEq, Sum.inr.injEq, Prod.mk.injEq, List.cons.injEq, Value.ref.injEq, true_and, and_true] at e
  subst e
  exact ⟨la, h1, h2, w_set_self hob, f, by rw [w_set_ne (w_neA hob h4).symm]; exact h4, h5⟩
theorem z_idxs_no {n : Nat} {x : Int32} (hx : z_idx x n = none) : ∀ (ls : List Int32), x ∈ ls → z_idxs n ls = none := by
  intro ls
  induction ls with
  | nil => intro h; cases h
  | cons y ys ih =>
    intro h
    rw [z_idxs]
    cases hy : z_idx y n with
    | none => rfl
    | some j =>
      rcases List.mem_cons.mp h with rfl | h
      · rw [hx] at hy; cases hy
      · simp only [ih h]
theorem z_idxs_yes {n : Nat} (hn : n < 2 ^ 31) : ∀ (ls : List Int32), (∀ x ∈ ls, ∃ k, z_idx x n = some k) → ∃ js, z_idxs n ls = some js ∧ js.length = ls.length ∧ (∀ j ∈ js, j < n) ∧ ls = js.map nI := by
  intro ls
  induction ls with
  | nil => intro _; exact ⟨[], rfl, rfl, fun _ h => (by cases h), rfl⟩
  | cons y ys ih =>
    intro h
    obtain ⟨k, hk⟩ := h y (List.mem_cons_self ..)
    obtain ⟨js, h1, h2, h3, h4⟩ := ih (fun x hx => h x (List.mem_cons_of_mem _ hx))
    refine ⟨k :: js, by simp only [z_idxs, hk, h1], by simp [h2], ?_, by rw [List.map_cons, ← h4, ← z_idx_eq hn hk]⟩
    intro j hj
    rcases List.mem_cons.mp hj with rfl | hj
    · exact z_idx_lt hn hk
    · exact h3 j hj
theorem z_find_drop {p : Nat → Bool} {js : List Nat} {k j : Nat} (hk : js[k]? = some j) (hj : p j = false) (e : (js.drop k).find? p = js.find? p) : (js.drop (k + 1)).find? p = js.find? p := by
  obtain ⟨h1, h2⟩ := List.getElem?_eq_some_iff.mp hk
  rw [← e, List.drop_eq_getElem_cons h1, List.find?_cons_of_neg (by rw [h2, hj]; decide)]
theorem z_find_hit {p : Nat → Bool} {js : List Nat} {k j : Nat} (hk : js[k]? = some j) (hj : p j = true) (e : (js.drop k).find? p = js.find? p) : js.find? p = some j := by
  obtain ⟨h1, h2⟩ := List.getElem?_eq_some_iff.mp hk
  rw [← e, List.drop_eq_getElem_cons h1, List.find?_cons_of_pos (by rw [h2, hj]), h2]
theorem z_find_end {p : Nat → Bool} {js : List Nat} {k : Nat} (hk : js.length ≤ k) (e : (js.drop k).find? p = js.find? p) : js.find? p = none := by
  rw [← e, List.drop_eq_nil_of_le hk]; rfl
def z_battR (r : z_R) (b : Int32) : z_R := (z_cell r, b, z_has r, z_steps r, z_plan r, z_cost r)
/-- a robot at a tick -/
def z_goC (c : z_C) (r : z_R) : z_R := if z_plan r = [] then (if z_kinds c (z_cell r) = 2 then z_battR r (if z_batt r + z_sets c 0 < 99 then z_batt r + z_sets c 0 else 99) else r) else z_goOn r
/-- a robot whose plan has come to its end -/
def z_arriveC (c : z_C) (k : Nat) : z_C × Int32 := match (z_robs c)[k]? with
  | none => (c, 0)
  | some r => match z_has r with
    | none => (c, 0)
    | some i => match (z_ords c)[i]? with
      | none => (c, 0)
      | some o => if z_picked o < (z_lines o).length then (z_setO c ((z_ords c).set i (z_stO o (z_picked o + if (z_lines o)[z_picked o]? = some (z_cell r) then 1 else 0) (z_state o) (z_del o))), 0)
        else if z_kinds c (z_cell r) = 3 then (z_setR (z_setO c ((z_ords c).set i (z_stO o (z_picked o) 2 (z_now c)))) ((z_robs c).set k (z_hasR r none)), 1) else (c, 0)
theorem w_sne {M : w_M} {a b : Nat} {e e0 : w_E} (h : M.get b = some e0) (hn : b ≠ a) : (M.set a e).get b = some e0 := (w_set_ne hn).trans h
theorem z_planGo (r : z_R) : z_plan (z_goOn r) = (z_plan r).tail := by
  cases h : z_plan r with
  | nil => unfold z_goOn; rw [h]; exact h
  | cons q p => unfold z_goOn; rw [h]; rfl
/-- the robots when the first k have been moved -/
def z_goTo (c : z_C) (k : Nat) : List z_R := ((z_robs c).take k).map (z_goC c) ++ (z_robs c).drop k
theorem z_goTo_0 (c : z_C) : z_goTo c 0 = z_robs c := by simp [z_goTo]
theorem z_goTo_end {c : z_C} {k : Nat} (h : (z_robs c).length ≤ k) : z_goTo c k = (z_robs c).map (z_goC c) := by
  unfold z_goTo
  rw [List.take_of_length_le h, List.drop_eq_nil_of_le h, List.append_nil]
theorem z_goTo_len (c : z_C) (k : Nat) : (z_goTo c k).length = (z_robs c).length := by
  simp only [z_goTo, List.length_append, List.length_map, List.length_take, List.length_drop]
  omega
theorem z_goTo_at {c : z_C} {k : Nat} {r : z_R} (h : (z_robs c)[k]? = some r) : (z_goTo c k)[k]? = some r := by
  have hk := (List.getElem?_eq_some_iff.mp h).1
  unfold z_goTo
  rw [List.getElem?_append_right (by simp; omega), List.getElem?_drop]
  simp only [List.length_map, List.length_take]
  rw [show k + (k - min k (z_robs c).length) = k by omega]
  exact h
theorem z_goTo_set {c : z_C} {k : Nat} {r : z_R} (h : (z_robs c)[k]? = some r) : (z_goTo c k).set k (z_goC c r) = z_goTo c (k + 1) := by
  obtain ⟨hk, e⟩ := List.getElem?_eq_some_iff.mp h
  unfold z_goTo
  rw [List.drop_eq_getElem_cons hk, List.set_append_right _ _ (by simp; omega), List.take_succ_eq_append_getElem hk]
  simp only [List.length_map, List.length_take, List.map_append, List.map_cons, List.map_nil, e]
  rw [show k - min k (z_robs c).length = 0 by omega]
  simp
/-- whether the k-th robot's plan ends with this tick -/
def z_ended (c : z_C) (k : Nat) : Bool := match (z_robs c)[k]? with
  | none => false
  | some r => decide ((z_plan r).length = 1)
def z_ends (e : Nat → Bool) : Nat → Nat → z_C × Int32 → z_C × Int32
  | 0, _, s => s
  | n + 1, k, s => z_ends e n (k + 1) (if e k = true then ((z_arriveC s.1 k).1, s.2 + (z_arriveC s.1 k).2) else s)
/-- the tick begun: all robots moved or charged -/
def z_tick1 (c : z_C) : z_C := z_setR (z_setN c (z_now c + 1)) ((z_robs c).map (z_goC c))
def z_tickC (c : z_C) : z_C × Int32 := z_ends (z_ended c) (z_robs c).length 0 (z_tick1 c, 0)
def z_ticks : Nat → z_C → Int32 → z_C × Int32
  | 0, c, d => (c, d)
  | n + 1, c, d => z_ticks n (z_tickC c).1 (d + (z_tickC c).2)
def z_passC (c : z_C) (x : Int32) : z_res := if 1 ≤ x ∧ x ≤ 99 then .inl ((z_ticks x.toNatClampNeg c 0).2, (z_ticks x.toNatClampNeg c 0).1) else .inr (2, 0)
theorem z_small_rob {c : z_C} (h : z_small c) {rs : List z_R} (hl : rs.length = (z_robs c).length) (hr : ∀ r ∈ rs, z_cell r < z_size c ∧ (∀ q ∈ z_plan r, q < z_size c) ∧ (z_plan r).length ≤ 30 ∧ ∀ k, z_has r = some k → k < (z_ords c).length) : z_small (z_setR c rs) := ⟨h.1, h.2.1, h.2.2.1, h.2.2.2.1, by rw [show z_robs (z_setR c rs) = rs from rfl, hl]; exact h.2.2.2.2.1, h.2.2.2.2.2.1, hr, h.2.2.2.2.2.2.2⟩
theorem z_small_ord {c : z_C} (h : z_small c) {os : List z_O} (hl : os.length = (z_ords c).length) (ho : ∀ o ∈ os, z_picked o ≤ (z_lines o).length ∧ (z_lines o).length ≤ 3 ∧ 0 < (z_lines o).length ∧ (∀ q ∈ z_lines o, q < z_size c) ∧ z_state o ≤ 2) : z_small (z_setO c os) := ⟨h.1, h.2.1, h.2.2.1, h.2.2.2.1, h.2.2.2.2.1, by rw [show z_ords (z_setO c os) = os from rfl, hl]; exact h.2.2.2.2.2.1, fun r hr => ⟨(h.2.2.2.2.2.2.1 r hr).1, (h.2.2.2.2.2.2.1 r hr).2.1, (h.2.2.2.2.2.2.1 r hr).2.2.1, fun k hk => by rw [show z_ords (z_setO c os) = os from rfl, hl]; exact (h.2.2.2.2.2.2.1 r hr).2.2.2 k hk⟩, ho⟩
theorem z_small_go {c : z_C} (h : z_small c) : z_small (z_tick1 c) := by
  have h1 : z_small (z_setN c (z_now c + 1)) := h
  refine z_small_rob h1 (by rw [List.length_map]; rfl) (fun r hr => ?_)
  obtain ⟨r0, hr0, rfl⟩ := List.mem_map.mp hr
  obtain ⟨e1, e2, e3, e4⟩ := h.2.2.2.2.2.2.1 r0 hr0
  unfold z_goC
  split
  · split
    · exact ⟨e1, e2, e3, e4⟩
    · exact ⟨e1, e2, e3, e4⟩
  · rename_i hp
    have ep := z_planGo r0
    refine ⟨?_, fun q hq => e2 q (List.mem_of_mem_tail (ep ▸ hq)), by rw [ep, List.length_tail]; omega, ?_⟩
    · cases hq : z_plan r0 with
      | nil => exact absurd hq hp
      | cons q p => unfold z_goOn; rw [hq]; exact e2 q (by rw [hq]; exact List.mem_cons_self ..)
    · cases hq : z_plan r0 with
      | nil => exact absurd hq hp
      | cons q p => unfold z_goOn; rw [hq]; exact e4
theorem z_mem_set {α : Type} {xs : List α} {k : Nat} {x y : α} (h : y ∈ xs.set k x) : y = x ∨ y ∈ xs := (List.mem_or_eq_of_mem_set h).symm
theorem z_small_arr {c : z_C} (h : z_small c) (k : Nat) : z_small (z_arriveC c k).1 := by
  unfold z_arriveC
  cases hr : (z_robs c)[k]? with
  | none => exact h
  | some r =>
    simp only
    cases hi : z_has r with
    | none => exact h
    | some i =>
      simp only
      cases ho : (z_ords c)[i]? with
      | none => exact h
      | some o =>
        simp only
        obtain ⟨e1, e2, e3, e4, e5⟩ := h.2.2.2.2.2.2.2 o (List.mem_of_getElem? ho)
        split
        · rename_i hlt
          refine z_small_ord h List.length_set (fun o' ho' => ?_)
          rcases z_mem_set ho' with rfl | ho'
          · exact ⟨by show z_picked o + _ ≤ (z_lines o).length; split <;> omega, e2, e3, e4, e5⟩
          · exact h.2.2.2.2.2.2.2 o' ho'
        · split
          · refine z_small_rob (c := z_setO c _) (z_small_ord h List.length_set (fun o' ho' => ?_)) List.length_set (fun r' hr' => ?_)
            · rcases z_mem_set ho' with rfl | ho'
              · exact ⟨e1, e2, e3, e4, Nat.le_refl _⟩
              · exact h.2.2.2.2.2.2.2 o' ho'
            · obtain ⟨f1, f2, f3, f4⟩ := h.2.2.2.2.2.2.1 r (List.mem_of_getElem? hr)
              rcases z_mem_set hr' with rfl | hr'
              · exact ⟨f1, f2, f3, fun _ q => by cases q⟩
              · obtain ⟨f1, f2, f3, f4⟩ := h.2.2.2.2.2.2.1 r' hr'
                exact ⟨f1, f2, f3, fun j hj => by show j < ((z_ords c).set i _).length; rw [List.length_set]; exact f4 j hj⟩
          · exact h
theorem z_arr_len (c : z_C) (k : Nat) : (z_robs (z_arriveC c k).1).length = (z_robs c).length := by
  unfold z_arriveC
  cases hr : (z_robs c)[k]? with
  | none => rfl
  | some r =>
    simp only
    cases hi : z_has r with
    | none => rfl
    | some i =>
      simp only
      cases ho : (z_ords c)[i]? with
      | none => rfl
      | some o =>
        simp only
        split
        · rfl
        · split
          · exact List.length_set
          · rfl
theorem z_small_ends (e : Nat → Bool) : ∀ (n k : Nat) (s : z_C × Int32), z_small s.1 → z_small (z_ends e n k s).1 := by
  intro n
  induction n with
  | zero => intro k s h; exact h
  | succ n ih =>
    intro k s h
    refine ih (k + 1) _ ?_
    split
    · exact z_small_arr h k
    · exact h
theorem z_small_tick {c : z_C} (h : z_small c) : z_small (z_tickC c).1 := z_small_ends _ _ _ _ (z_small_go h)
theorem z_small_ticks : ∀ (n : Nat) (c : z_C) (d : Int32), z_small c → z_small (z_ticks n c d).1 := by
  intro n
  induction n with
  | zero => intro c d h; exact h
  | succ n ih => intro c d h; exact ih _ _ (z_small_tick h)
