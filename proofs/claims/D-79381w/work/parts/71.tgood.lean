/-! ===== ticks keep the core's bounds ===== -/
set_option maxRecDepth 100000
theorem z_goC_nil {c : z_C} {r : z_R} (h : z_plan r = []) : z_goC c r = if z_kinds c (z_cell r) = 2 then z_battR r (if z_batt r + z_sets c 0 < 99 then z_batt r + z_sets c 0 else 99) else r := by
  unfold z_goC; rw [if_pos h]
theorem z_goC_cons {c : z_C} {r : z_R} {q : Nat} {p : List Nat} (h : z_plan r = q :: p) : z_goC c r = (q, if q = z_cell r then z_batt r else z_batt r - z_cost r, z_has r, if q = z_cell r then z_steps r else z_steps r + 1, p, z_cost r) := by
  unfold z_goC z_goOn; rw [if_neg (by rw [h]; exact fun z => by cases z), h]
theorem z_goC_has (c : z_C) (r : z_R) : z_has (z_goC c r) = z_has r := by
  cases h : z_plan r with
  | nil => rw [z_goC_nil h]; split <;> rfl
  | cons q p => rw [z_goC_cons h]; rfl
theorem z_goC_ahead (c : z_C) (r : z_R) (t : Nat) : z_ahead (z_goC c r) t = z_ahead r (t + 1) := by
  cases h : z_plan r with
  | nil =>
    rw [z_goC_nil h, z_ahead_nil h]
    split
    · exact z_ahead_nil (r := z_battR r _) h t
    · exact z_ahead_nil h t
  | cons q p =>
    rw [z_goC_cons h]
    unfold z_ahead
    rw [h, if_neg (show ¬ t + 1 = 0 by omega)]
    show (if t = 0 then q else p.getD (min t p.length - 1) q) = (q :: p).getD (min (t + 1) (p.length + 1) - 1) (z_cell r)
    rw [show min (t + 1) (p.length + 1) - 1 = min t p.length by omega]
    by_cases h0 : t = 0
    · subst h0
      rw [if_pos rfl, Nat.zero_min]
      rfl
    · rw [if_neg h0]
      cases p with
      | nil => simp
      | cons y ys =>
        have e : min t (y :: ys).length = min t (y :: ys).length - 1 + 1 := by simp only [List.length_cons]; omega
        have hl : min t (y :: ys).length - 1 < (y :: ys).length := by simp only [List.length_cons]; omega
        rw [e, List.getD_eq_getElem?_getD, List.getD_eq_getElem?_getD, List.getElem?_cons_succ, Nat.add_sub_cancel, List.getElem?_eq_getElem hl]
        rfl
theorem z_map_at {rs : List z_R} {g : z_R → z_R} {i : Nat} {r : z_R} (h : (rs.map g)[i]? = some r) : ∃ x, rs[i]? = some x ∧ g x = r := by
  rw [List.getElem?_map] at h
  cases hx : rs[i]? with
  | none => rw [hx] at h; cases h
  | some x => rw [hx] at h; exact ⟨x, rfl, Option.some.inj h⟩
theorem z_with_map {rs : List z_R} {g : z_R → z_R} (hg : ∀ r, z_has (g r) = z_has r) (i : Nat) : z_withFrom 0 (rs.map g) i = z_withFrom 0 rs i := by
  refine z_least_eq (z_withFrom_least _ i) (z_withFrom_least _ i) (fun j => ?_)
  constructor
  · rintro ⟨x, hx, hh⟩
    obtain ⟨y, hy, rfl⟩ := z_map_at hx
    exact ⟨y, hy, by rw [← hg]; exact hh⟩
  · rintro ⟨x, hx, hh⟩
    exact ⟨g x, by rw [List.getElem?_map, hx]; rfl, by rw [hg]; exact hh⟩
theorem z_good.tick1 {b : Nat} {c : z_C} (h : z_good b c) : z_good (b + 1) (z_tick1 c) := by
  have hsm := z_small_go h.1
  obtain ⟨h1, ⟨j, h2, h3⟩, h4, h5, h6, h7, h8, h9⟩ := h
  refine ⟨hsm, ⟨j + 1, by omega, ?_⟩, h4, h5, ?_, ?_, h8, ?_, ?_⟩
  · show z_now c + 1 = nI (j + 1)
    rw [h3]
    exact nI_1 j
  · intro i i' t r r' g1 g2 g3
    obtain ⟨x, hx, rfl⟩ := z_map_at g1
    obtain ⟨x', hx', rfl⟩ := z_map_at g2
    rw [z_goC_ahead, z_goC_ahead] at g3
    exact h6 i i' (t + 1) x x' hx hx' g3
  · intro r hr t
    obtain ⟨x, hx, rfl⟩ := List.mem_map.mp hr
    rw [z_goC_ahead]
    exact h7 x hx (t + 1)
  · intro i i' o r r' g1 g2 g3 g4
    obtain ⟨x, hx, rfl⟩ := z_map_at g1
    obtain ⟨x', hx', rfl⟩ := z_map_at g2
    rw [z_goC_has] at g3 g4
    exact h9.1 i i' o x x' hx hx' g3 g4
  · intro i o hi
    rw [show z_with (z_tick1 c) i = z_with c i from z_with_map (z_goC_has c) i]
    exact h9.2 i o hi
/-- orders changed in what is picked alone -/
theorem z_good.pick {b : Nat} {c : z_C} (h : z_good b c) {i p : Nat} {o : z_O} (hi : (z_ords c)[i]? = some o) (hp : p ≤ (z_lines o).length) (hs0 : z_state o ≠ 0) : z_good b (z_setO c ((z_ords c).set i (z_stO o p (z_state o) (z_del o)))) := by
  have hs := h.1
  obtain ⟨u1, u2⟩ := h.2.2.2.2.2.2.2
  refine z_good_RO (rs := z_robs c) h hs.2.2.2.2.1 (by rw [List.length_set]; exact hs.2.2.2.2.2.1) (fun r hr => ?_) (fun x hx => ?_) h.2.2.2.2.1 h.2.2.2.2.2.1 ⟨u1, fun y x hx => ?_⟩
  · rw [List.length_set]
    exact hs.2.2.2.2.2.2.1 r hr
  · rcases List.mem_or_eq_of_mem_set hx with hx | rfl
    · exact hs.2.2.2.2.2.2.2 x hx
    · obtain ⟨-, a2, a3, a4, a5⟩ := hs.2.2.2.2.2.2.2 o (List.mem_of_getElem? hi)
      exact ⟨hp, a2, a3, a4, a5⟩
  · rcases z_set_at (show ((z_ords c).set i (z_stO o p (z_state o) (z_del o)))[y]? = some x from hx) with ⟨e1, rfl, -⟩ | ⟨-, g⟩
    · subst e1
      have := u2 y o hi
      exact ⟨this.1, this.2.1, this.2.2.1, this.2.2.2.1, fun z => absurd z hs0⟩
    · exact u2 y x g
theorem z_good.arrive {b : Nat} {c : z_C} (h : z_good b c) (hb : b < 2 ^ 31) (k : Nat) : z_good b (z_arriveC c k).1 := by
  have hs := h.1
  obtain ⟨j, hj, hn⟩ := h.2.1
  unfold z_arriveC
  cases hr : (z_robs c)[k]? with
  | none => exact h
  | some r =>
    dsimp only
    cases ho : z_has r with
    | none => exact h
    | some i =>
      dsimp only
      cases hi : (z_ords c)[i]? with
      | none => exact h
      | some o =>
        dsimp only
        have hst : z_state o = 1 := ((h.2.2.2.2.2.2.2.2 i o hi).1).mpr (by rw [z_with_is h.2.2.2.2.2.2.2 hr ho]; exact fun z => by cases z)
        split
        · rename_i hlt
          exact h.pick hi (by split <;> omega) (by omega)
        · rename_i hlt
          split
          · exact h.release hr hi ho (Or.inr rfl) ⟨fun _ => by rw [hn]; exact nI_pos' (by omega), fun z => absurd rfl z⟩ (hs.2.2.2.2.2.2.2 o (List.mem_of_getElem? hi)).1 (fun z => absurd z (by decide))
          · exact h
theorem z_arrive_len (c : z_C) (k : Nat) : (z_robs (z_arriveC c k).1).length = (z_robs c).length := by
  unfold z_arriveC
  cases hr : (z_robs c)[k]? with
  | none => rfl
  | some r =>
    dsimp only
    cases ho : z_has r with
    | none => rfl
    | some i =>
      dsimp only
      cases hi : (z_ords c)[i]? with
      | none => rfl
      | some o =>
        dsimp only
        split
        · rfl
        · split
          · exact List.length_set
          · rfl
theorem z_good.ends {b : Nat} (hb : b < 2 ^ 31) (e : Nat → Bool) : ∀ (n k : Nat) (s : z_C × Int32), z_good b s.1 → z_good b (z_ends e n k s).1 := by
  intro n
  induction n with
  | zero => intro k s h; exact h
  | succ n ih =>
    intro k s h
    rw [z_ends]
    refine ih (k + 1) _ ?_
    split
    · exact h.arrive hb k
    · exact h
theorem z_good.tick {b : Nat} {c : z_C} (h : z_good b c) (hb : b + 1 < 2 ^ 31) : z_good (b + 1) (z_tickC c).1 := z_good.ends hb _ _ _ _ h.tick1
theorem z_good.ticks : ∀ (n b : Nat) (c : z_C) (d : Int32), z_good b c → b + n < 2 ^ 31 → z_good (b + n) (z_ticks n c d).1 := by
  intro n
  induction n with
  | zero => intro b c d h _; exact h
  | succ n ih =>
    intro b c d h hb
    rw [z_ticks, show b + (n + 1) = b + 1 + n by omega]
    exact ih (b + 1) _ _ (h.tick (by omega)) (by omega)
/-! a set of robots as an int -/
def z_mask (e : Nat → Bool) : Nat → Nat
  | 0 => 0
  | n + 1 => z_mask e n + if e n = true then 2 ^ n else 0
theorem z_mask_lt (e : Nat → Bool) : ∀ n, z_mask e n < 2 ^ n := by
  intro n
  induction n with
  | zero => exact Nat.one_pos
  | succ n ih =>
    rw [z_mask, Nat.pow_succ]
    split <;> omega
theorem z_mask_or : ∀ n : Fin 6, ∀ x : Fin 64, x.val < 2 ^ n.val → nI x.val ||| ((1 : Int32) <<< (nI n.val &&& 31)) = nI (x.val + 2 ^ n.val) := by decide +kernel
theorem z_mask_add (e : Nat → Bool) {n : Nat} (hn : n < 6) : nI (z_mask e n) ||| (if e n = true then (1 : Int32) <<< (nI n &&& 31) else 0) = nI (z_mask e (n + 1)) := by
  rw [z_mask]
  have h1 := z_mask_lt e n
  have h2 : 2 ^ n < 2 ^ 6 := Nat.pow_lt_pow_right (by decide) hn
  by_cases h : e n = true
  · rw [if_pos h, if_pos h]
    exact z_mask_or ⟨n, hn⟩ ⟨z_mask e n, by omega⟩ h1
  · rw [if_neg h, if_neg h, Nat.add_zero]
    exact Int32.or_zero
theorem z_mask_bit : ∀ x : Fin 64, ∀ r : Fin 6, (((nI x.val >>> (nI r.val &&& 31)) &&& 1) = 1 ↔ x.val / 2 ^ r.val % 2 = 1) := by decide +kernel
theorem z_mask_get (e : Nat → Bool) (r : Nat) : ∀ n, r < n → (z_mask e n / 2 ^ r % 2 = 1 ↔ e r = true) := by
  intro n
  induction n with
  | zero => intro h; omega
  | succ n ih =>
    intro h
    rw [z_mask]
    have h1 := z_mask_lt e n
    by_cases hn : r = n
    · subst hn
      by_cases he : e r = true
      · rw [if_pos he, Nat.add_div_right _ (Nat.two_pow_pos r), Nat.div_eq_of_lt h1]
        simp [he]
      · rw [if_neg he, Nat.add_zero, Nat.div_eq_of_lt h1]
        simp [he]
    · have hlt : r < n := by omega
      rw [← ih hlt]
      split
      · have e2 : 2 ^ n = 2 ^ r * (2 * 2 ^ (n - r - 1)) := by rw [← Nat.mul_assoc, ← Nat.pow_succ, ← Nat.pow_add]; congr 1; omega
        rw [e2, Nat.add_mul_div_left _ _ (Nat.two_pow_pos r), Nat.add_mul_mod_self_left]
      · rw [Nat.add_zero]
theorem z_mask_is (e : Nat → Bool) {r n : Nat} (hn : n ≤ 6) (hr : r < n) : ((nI (z_mask e n) >>> (nI r &&& 31)) &&& 1) = 1 ↔ e r = true := by
  have h1 := z_mask_lt e n
  have h2 : 2 ^ n ≤ 2 ^ 6 := Nat.pow_le_pow_right (by decide) hn
  rw [z_mask_bit ⟨z_mask e n, by omega⟩ ⟨r, by omega⟩]
  exact z_mask_get e r n hr
