/-! ===== plans in plain words ===== -/
set_option maxRecDepth 100000
/-- 0, or one more than the last of the first n robots, but k, that is in the cell q in t ticks -/
def z_lastN (c : z_C) (k t q : Nat) : Nat → Nat
  | 0 => 0
  | i + 1 => if i ≠ k ∧ (z_robs c)[i]?.map (fun r => z_ahead r t) = some q then i + 1 else z_lastN c k t q i
def z_last (c : z_C) (k t q : Nat) : Nat := z_lastN c k t q (z_robs c).length
theorem z_lastN_le (c : z_C) (k t q : Nat) : ∀ n, z_lastN c k t q n ≤ n := by
  intro n
  induction n with
  | zero => exact Nat.le_refl _
  | succ n ih =>
    rw [z_lastN]
    split
    · exact Nat.le_refl _
    · omega
theorem z_last_le (c : z_C) (k t q : Nat) : z_last c k t q ≤ (z_robs c).length := z_lastN_le c k t q _
/-- whether the robot can be in p at the tick t and in q at the next -/
def z_may (c : z_C) (k t p q : Nat) : Bool := decide (z_last c k (t + 1) q = 0) && (decide (z_last c k t q = 0) || decide (p = q) || !decide (z_last c k (t + 1) p = z_last c k t q))
def z_stay (c : z_C) (k g t : Nat) : Bool := (List.range 31).all (fun u => decide (u ≤ t) || decide (z_last c k u g = 0)) && decide (z_last c k 30 g = 0)
def z_by (c : z_C) (p w : Nat) : Option Nat := if w = 4 then some p else z_nb c p w
def z_isEnd (c : z_C) (k g t p : Nat) : Bool := !decide (p = g) && (z_may c k t p g && z_stay c k g (t + 1))
def z_isBeside (c : z_C) (p q : Nat) : Bool := (List.range 4).any (fun w => decide (z_nb c p w = some q))
/-- whether the robot can be in q at the tick t, by the way w from p -/
def z_step (c : z_C) (k t p q w : Nat) : Bool := decide (z_by c p w = some q) && z_may c k t p q
def z_reach (c : z_C) (k s : Nat) : Nat → Nat → Bool
  | 0, q => decide (q = s)
  | t + 1, q => (List.range (z_size c)).any (fun p => z_reach c k s t p && (List.range 5).any (fun w => z_step c k t p q w))
/-- whether a plan can end behind the tick t -/
def z_endAt (c : z_C) (k g t p w : Nat) : Bool := decide (z_by c p w = some g) && z_isEnd c k g t p
def z_hasEnd (c : z_C) (k s g t : Nat) : Bool := (List.range (z_size c)).any (fun p => z_reach c k s t p && (List.range 5).any (fun w => z_endAt c k g t p w))
/-- the first tick from t on, of n, behind which a plan can end -/
def z_first (c : z_C) (k s g : Nat) : Nat → Nat → Option Nat
  | 0, _ => none
  | n + 1, t => if z_hasEnd c k s g t = true then some t else z_first c k s g n (t + 1)
theorem z_first_at {c : z_C} {k s g : Nat} : ∀ (n t u : Nat), z_first c k s g n t = some u → t ≤ u ∧ u < t + n ∧ z_hasEnd c k s g u = true ∧ ∀ v, t ≤ v → v < u → z_hasEnd c k s g v = false := by
  intro n
  induction n with
  | zero => intro t u h; cases h
  | succ n ih =>
    intro t u h
    rw [z_first] at h
    split at h
    · rename_i he
      cases h
      exact ⟨Nat.le_refl _, by omega, he, fun v h1 h2 => by omega⟩
    · rename_i he
      obtain ⟨h1, h2, h3, h4⟩ := ih (t + 1) u h
      refine ⟨by omega, by omega, h3, fun v h5 h6 => ?_⟩
      by_cases hv : v = t
      · subst hv; exact Bool.eq_false_iff.mpr he
      · exact h4 v (by omega) h6
/-- the first way to one of some cells -/
def z_nextW (c : z_C) (k t p : Nat) (good : Nat → Bool) : Nat → Nat → Option Nat
  | 0, _ => none
  | n + 1, w => match z_by c p w with
    | none => z_nextW c k t p good n (w + 1)
    | some q => if good q = true ∧ z_may c k t p q = true then some q else z_nextW c k t p good n (w + 1)
def z_next (c : z_C) (k t p : Nat) (good : Nat → Bool) : Option Nat := z_nextW c k t p good 5 0
/-- the cells from which a plan of T ticks can be ended, d ticks ahead of its end -/
def z_gd (c : z_C) (k s g T : Nat) : Nat → Nat → Bool
  | 0, q => decide (q = g)
  | 1, q => z_reach c k s (T - 1) q && (z_isBeside c q g && z_isEnd c k g (T - 1) q)
  | d + 2, q => z_reach c k s (T - (d + 2)) q && (z_next c k (T - (d + 2)) q (z_gd c k s g T (d + 1))).isSome
/-- the plan's cells from the tick t on, n of them -/
def z_trail (c : z_C) (k s g T : Nat) : Nat → Nat → Nat → List Nat
  | 0, _, _ => []
  | n + 1, t, p => match z_next c k t p (z_gd c k s g T (T - (t + 1))) with
    | none => []
    | some q => q :: z_trail c k s g T n (t + 1) q
theorem z_by_lt {c : z_C} (hs : z_small c) {p q w : Nat} (hp : p < z_size c) (h : z_by c p w = some q) : q < z_size c := by
  unfold z_by at h
  split at h
  · cases h; exact hp
  · unfold z_nb at h
    split at h
    · cases h
    · rename_i t ht
      split at h
      · cases h
        obtain ⟨h1, h2, h3, h4, -⟩ := hs
        have hd := Nat.div_add_mod p (z_cols c)
        have hm := Nat.mod_lt p h3
        have hr : p / z_cols c < z_rows c := Nat.div_lt_of_lt_mul (by rw [Nat.mul_comm]; exact hp)
        have key : ∀ r m, r < z_rows c → m < z_cols c → z_cols c * r + m < z_size c := fun r m h5 h6 => by
          have : z_cols c * (r + 1) ≤ z_cols c * z_rows c := Nat.mul_le_mul_left _ h5
          rw [Nat.mul_succ] at this
          unfold z_size
          rw [Nat.mul_comm (z_rows c)]
          omega
        unfold z_beside at ht
        split at ht
        · split at ht <;> cases ht
          omega
        · split at ht <;> cases ht
          have := key (p / z_cols c) (p % z_cols c + 1) hr (by omega)
          omega
        · split at ht <;> cases ht
          have := key (p / z_cols c + 1) (p % z_cols c) (by omega) hm
          rw [Nat.mul_succ] at this
          omega
        · split at ht <;> cases ht
          omega
      · cases h
theorem z_nextW_some {c : z_C} {k t p : Nat} {good : Nat → Bool} : ∀ (n w q : Nat), z_nextW c k t p good n w = some q → good q = true ∧ z_may c k t p q = true ∧ ∃ v, w ≤ v ∧ v < w + n ∧ z_by c p v = some q := by
  intro n
  induction n with
  | zero => intro w q h; cases h
  | succ n ih =>
    intro w q h
    rw [z_nextW] at h
    split at h
    · obtain ⟨h1, h2, v, h3, h4, h5⟩ := ih _ _ h
      exact ⟨h1, h2, v, by omega, by omega, h5⟩
    · rename_i x hx
      split at h
      · rename_i hg
        cases h
        exact ⟨hg.1, hg.2, w, Nat.le_refl _, by omega, hx⟩
      · obtain ⟨h1, h2, v, h3, h4, h5⟩ := ih _ _ h
        exact ⟨h1, h2, v, by omega, by omega, h5⟩
theorem z_nextW_is {c : z_C} {k t p : Nat} {good : Nat → Bool} {q : Nat} (hg : good q = true) (hm : z_may c k t p q = true) : ∀ (n w v : Nat), w ≤ v → v < w + n → z_by c p v = some q → ∃ x, z_nextW c k t p good n w = some x := by
  intro n
  induction n with
  | zero => intro w v h1 h2; omega
  | succ n ih =>
    intro w v h1 h2 h3
    rw [z_nextW]
    by_cases hv : v = w
    · subst hv
      rw [h3]
      simp only [hg, hm]
      exact ⟨q, by simp⟩
    · obtain ⟨x, hx⟩ := ih (w + 1) v (by omega) (by omega) h3
      split
      · exact ⟨x, hx⟩
      · split
        · exact ⟨_, rfl⟩
        · exact ⟨x, hx⟩
/-- the first layer behind the start that is reached is made of good cells: the plan can be walked -/
theorem z_gd_start {c : z_C} {k s g T : Nat} (hT : 0 < T) (he : z_hasEnd c k s g (T - 1) = true) : z_gd c k s g T T s = true := by
  have key : ∀ d, d < T → ∃ p, p < z_size c ∧ z_reach c k s (T - (d + 1)) p = true ∧ z_gd c k s g T (d + 1) p = true := by
    intro d
    induction d with
    | zero =>
      intro _
      unfold z_hasEnd at he
      obtain ⟨p, hp, h1⟩ := List.any_eq_true.mp he
      rw [Bool.and_eq_true] at h1
      obtain ⟨h1, h2⟩ := h1
      obtain ⟨w, hw, h3⟩ := List.any_eq_true.mp h2
      unfold z_endAt at h3
      rw [Bool.and_eq_true, decide_eq_true_eq] at h3
      obtain ⟨h3, h4⟩ := h3
      have hne : ¬ p = g := by
        unfold z_isEnd at h4
        rw [Bool.and_eq_true] at h4
        simpa using h4.1
      have hw4 : ¬ w = 4 := fun e => by
        unfold z_by at h3
        rw [if_pos e] at h3
        exact hne (Option.some.inj h3)
      have hw5 := List.mem_range.mp hw
      refine ⟨p, List.mem_range.mp hp, h1, ?_⟩
      show (z_reach c k s (T - 1) p && (z_isBeside c p g && z_isEnd c k g (T - 1) p)) = true
      rw [show z_reach c k s (T - 1) p = true from h1, show z_isEnd c k g (T - 1) p = true from h4]
      have : z_isBeside c p g = true := by
        unfold z_isBeside
        refine List.any_eq_true.mpr ⟨w, List.mem_range.mpr (by omega), ?_⟩
        unfold z_by at h3
        rw [if_neg hw4] at h3
        exact decide_eq_true h3
      rw [this]
      rfl
    | succ d ih =>
      intro hd
      obtain ⟨p, hp, h1, h2⟩ := ih (by omega)
      rw [show T - (d + 1) = (T - (d + 2)) + 1 by omega] at h1
      rw [z_reach] at h1
      obtain ⟨p', hp', h3⟩ := List.any_eq_true.mp h1
      rw [Bool.and_eq_true] at h3
      obtain ⟨h3, h4⟩ := h3
      obtain ⟨w, hw, h5⟩ := List.any_eq_true.mp h4
      unfold z_step at h5
      rw [Bool.and_eq_true, decide_eq_true_eq] at h5
      have hw5 := List.mem_range.mp hw
      obtain ⟨x, hx⟩ := z_nextW_is (good := z_gd c k s g T (d + 1)) h2 h5.2 5 0 w (Nat.zero_le _) (by omega) h5.1
      refine ⟨p', List.mem_range.mp hp', h3, ?_⟩
      show (z_reach c k s (T - (d + 2)) p' && (z_next c k (T - (d + 2)) p' (z_gd c k s g T (d + 1))).isSome) = true
      rw [show z_reach c k s (T - (d + 2)) p' = true from h3, z_next, hx]
      rfl
  obtain ⟨p, hp, h1, h2⟩ := key (T - 1) (by omega)
  rw [show T - (T - 1 + 1) = 0 by omega] at h1
  have e : p = s := by simpa [z_reach] using h1
  rw [show T - 1 + 1 = T by omega, e] at h2
  exact h2
/-- from a good cell there is a next good one -/
theorem z_gd_next {c : z_C} {k s g T t p : Nat} (ht : t < T) (h : z_gd c k s g T (T - t) p = true) : ∃ q, z_next c k t p (z_gd c k s g T (T - (t + 1))) = some q ∧ z_gd c k s g T (T - (t + 1)) q = true := by
  have fin : ∀ x, z_next c k t p (z_gd c k s g T (T - (t + 1))) = some x → ∃ q, z_next c k t p (z_gd c k s g T (T - (t + 1))) = some q ∧ z_gd c k s g T (T - (t + 1)) q = true := fun x hx => ⟨x, hx, (z_nextW_some _ _ _ hx).1⟩
  by_cases h1 : T - t = 1
  · rw [h1] at h
    have e : T - (t + 1) = 0 := by omega
    have e2 : T - 1 = t := by omega
    have h : (z_reach c k s (T - 1) p && (z_isBeside c p g && z_isEnd c k g (T - 1) p)) = true := h
    rw [Bool.and_eq_true, Bool.and_eq_true, e2] at h
    obtain ⟨-, h3, h4⟩ := h
    obtain ⟨w, hw, h5⟩ := List.any_eq_true.mp h3
    have hw4 := List.mem_range.mp hw
    rw [decide_eq_true_eq] at h5
    unfold z_isEnd at h4
    rw [Bool.and_eq_true, Bool.and_eq_true] at h4
    obtain ⟨x, hx⟩ := z_nextW_is (c := c) (k := k) (t := t) (p := p) (good := z_gd c k s g T (T - (t + 1))) (q := g) (by rw [e]; exact decide_eq_true rfl) h4.2.1 5 0 w (Nat.zero_le _) (by omega) (by unfold z_by; rw [if_neg (by omega)]; exact h5)
    exact fin x hx
  · obtain ⟨d, hd⟩ : ∃ d, T - t = d + 2 := ⟨T - t - 2, by omega⟩
    rw [hd] at h
    have h : (z_reach c k s (T - (d + 2)) p && (z_next c k (T - (d + 2)) p (z_gd c k s g T (d + 1))).isSome) = true := h
    rw [Bool.and_eq_true] at h
    obtain ⟨x, hx⟩ := Option.isSome_iff_exists.mp h.2
    rw [show T - (d + 2) = t by omega] at hx
    exact fin x (by rw [show T - (t + 1) = d + 1 by omega]; exact hx)
