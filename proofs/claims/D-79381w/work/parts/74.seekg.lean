/-! ===== plans laid back from the goal; what a plan keeps ===== -/
set_option maxRecDepth 100000
/-- whether one of the first n ways from p leads on, behind the tick t, to a good cell -/
def z_goA (c : z_C) (k : Nat) (good : Nat → Bool) (t p : Nat) : Nat → Bool
  | 0 => false
  | n + 1 => z_goA c k good t p n || match z_bes c p n with
    | none => false
    | some q => good q && z_mgo c k p q t
/-- from which cells a plan of T ticks can still be ended, d ticks ahead of its end -/
def z_go (c : z_C) (k g T : Nat) : Nat → Nat → Bool
  | 0, q => decide (q = g)
  | d + 1, q => z_goA c k (z_go c k g T d) (T - (d + 1)) q 5 && (decide (d ≠ 0) || decide (q ≠ g))
section SG
variable {c : z_C} {k s g T : Nat}
theorem z_goA_iff {good : Nat → Bool} {t p : Nat} : ∀ n, z_goA c k good t p n = true ↔ ∃ w q, w < n ∧ z_bes c p w = some q ∧ good q = true ∧ z_mgo c k p q t = true := by
  intro n
  induction n with
  | zero => simp [z_goA]
  | succ n ih =>
    rw [z_goA, Bool.or_eq_true, ih]
    constructor
    · rintro (⟨w, q, h1, h2⟩ | h)
      · exact ⟨w, q, by omega, h2⟩
      · cases hb : z_bes c p n with
        | none => rw [hb] at h; cases h
        | some q =>
          rw [hb, Bool.and_eq_true] at h
          exact ⟨n, q, Nat.lt_succ_self n, hb, h⟩
    · rintro ⟨w, q, h1, h2, h3⟩
      by_cases e : w = n
      · subst e
        refine Or.inr ?_
        rw [h2, Bool.and_eq_true]
        exact h3
      · exact Or.inl ⟨w, q, by omega, h2, h3⟩
theorem z_hasEnd_stay {t : Nat} (h : z_hasEnd c k s g t = true) : z_stay c k g (t + 1) = true := by
  unfold z_hasEnd z_endAt z_isEnd at h
  obtain ⟨p, hp, h1⟩ := List.any_eq_true.mp h
  rw [Bool.and_eq_true] at h1
  obtain ⟨w, hw, h2⟩ := List.any_eq_true.mp h1.2
  rw [Bool.and_eq_true, Bool.and_eq_true, Bool.and_eq_true] at h2
  exact h2.2.2.2
theorem z_stay_all (hs : z_small c) {t i u : Nat} {r : z_R} (h : z_stay c k g t = true) (hr : (z_robs c)[i]? = some r) (hi : i ≠ k) (hu : t < u) : z_ahead r u ≠ g := by
  unfold z_stay at h
  rw [Bool.and_eq_true, List.all_eq_true, decide_eq_true_eq] at h
  obtain ⟨h1, h2⟩ := h
  by_cases hu3 : u ≤ 30
  · have h3 := h1 u (List.mem_range.mpr (by omega))
    rw [Bool.or_eq_true, decide_eq_true_eq, decide_eq_true_eq] at h3
    exact z_last_0.mp (h3.elim (fun z => absurd z (by omega)) id) i r hi hr
  · have hp := (hs.2.2.2.2.2.2.1 r (List.mem_of_getElem? hr)).2.2.1
    rw [z_ahead_30 hp (show 30 ≤ u by omega)]
    exact z_last_0.mp h2 i r hi hr
theorem z_go_gd (hs : z_small c) (ha : z_apart c) (hf : z_free c s = true) (hss : s < z_size c) (hT : 0 < T) (he : z_hasEnd c k s g (T - 1) = true) : ∀ d, d ≤ T → ∀ q, z_reach c k s (T - d) q = true → z_go c k g T d q = z_gd c k s g T d q := by
  intro d
  induction d with
  | zero => intro _ q _; rfl
  | succ d ih =>
    intro hd q hq
    have hfq := z_reach_free hf _ q hq
    have hqs := z_reach_lt hs hss _ q hq
    rw [Bool.eq_iff_iff, z_go, Bool.and_eq_true, z_goA_iff]
    cases d with
    | zero =>
      have hst := z_hasEnd_stay he
      have hq' : z_reach c k s (T - 1) q = true := hq
      show _ ↔ (z_reach c k s (T - 1) q && (z_isBeside c q g && z_isEnd c k g (T - 1) q)) = true
      unfold z_isBeside z_isEnd
      rw [hq', hst]
      simp only [Bool.true_and, Bool.and_true, Bool.and_eq_true, Bool.not_eq_true', decide_eq_false_iff_not, ne_eq, not_true_eq_false, decide_false, Bool.false_or, decide_eq_true_eq, decide_not]
      constructor
      · rintro ⟨⟨w, x, hw, h1, h2, h3⟩, h4⟩
        have h2 : x = g := of_decide_eq_true h2
        subst h2
        rw [z_mgo_iff ha, Bool.and_eq_true] at h3
        have hw4 : w ≠ 4 := fun e => by subst e; unfold z_bes at h1; rw [if_pos rfl] at h1; exact h4 (Option.some.inj h1)
        refine ⟨List.any_eq_true.mpr ⟨w, List.mem_range.mpr (by omega), ?_⟩, h4, h3.2⟩
        rw [decide_eq_true_eq, z_bes_nb c q (by omega), h1]
        exact if_pos h3.1
      · rintro ⟨h1, h2, h3⟩
        obtain ⟨w, hw, h4⟩ := List.any_eq_true.mp h1
        have hw := List.mem_range.mp hw
        rw [decide_eq_true_eq] at h4
        have h5 := (z_by_iff (c := c) (p := q) (q := g) (w := w) (by omega) hfq).mp (by unfold z_by; rw [if_neg (by omega)]; exact h4)
        exact ⟨⟨w, g, by omega, h5.1, decide_eq_true rfl, by rw [z_mgo_iff ha, h5.2, h3]; rfl⟩, h2⟩
    | succ d =>
      have e1 : T - (d + 1 + 1) + 1 = T - (d + 1) := by omega
      show _ ↔ (z_reach c k s (T - (d + 2)) q && (z_next c k (T - (d + 2)) q (z_gd c k s g T (d + 1))).isSome) = true
      rw [show z_reach c k s (T - (d + 2)) q = true from hq, Bool.true_and]
      constructor
      · rintro ⟨⟨w, x, hw, h1, h2, h3⟩, -⟩
        have h3' := h3
        rw [z_mgo_iff ha, Bool.and_eq_true] at h3
        have hby := (z_by_iff hw hfq).mpr ⟨h1, h3.1⟩
        have hrx : z_reach c k s (T - (d + 1)) x = true := by
          rw [← e1]
          exact z_reach_next hqs hq hw ((z_step_iff ha hw hfq).mpr ⟨h1, h3'⟩)
        rw [ih (by omega) x hrx] at h2
        obtain ⟨y, hy⟩ := z_nextW_is (good := z_gd c k s g T (d + 1)) h2 h3.2 5 0 w (Nat.zero_le _) (by omega) hby
        exact Option.isSome_iff_exists.mpr ⟨y, hy⟩
      · intro h
        obtain ⟨y, hy⟩ := Option.isSome_iff_exists.mp h
        obtain ⟨h1, h2, w, -, hw, h3⟩ := z_nextW_some _ _ _ hy
        have hw : w < 5 := by omega
        obtain ⟨h4, h5⟩ := (z_by_iff hw hfq).mp h3
        have h6 : z_mgo c k q y (T - (d + 2)) = true := by rw [z_mgo_iff ha, h5, h2]; rfl
        have hrx : z_reach c k s (T - (d + 1)) y = true := by
          rw [← e1]
          exact z_reach_next hqs hq hw ((z_step_iff ha hw hfq).mpr ⟨h4, h6⟩)
        exact ⟨⟨w, y, hw, h4, by rw [ih (by omega) y hrx]; exact h1, h6⟩, by simp⟩
/-- the cells of a plan -/
theorem z_trail_at (ha : z_apart c) (hs : z_small c) (hf : z_free c s = true) (hss : s < z_size c) : ∀ (n t p : Nat), t + n = T → z_reach c k s t p = true → z_gd c k s g T (T - t) p = true → ∀ (j q : Nat), (z_trail c k s g T n t p)[j]? = some q →
    (∃ p', z_may c k (t + j) p' q = true) ∧ z_reach c k s (t + j + 1) q = true ∧ z_gd c k s g T (T - (t + j + 1)) q = true := by
  intro n
  induction n with
  | zero => intro t p _ _ _ j q h; cases h
  | succ n ih =>
    intro t p hn hr hg j q h
    obtain ⟨x, hx, hgx⟩ := z_gd_next (by omega) hg
    obtain ⟨-, hm, w, -, hw, hby⟩ := z_nextW_some _ _ _ hx
    have hfp := z_reach_free hf t p hr
    have hrx : z_reach c k s (t + 1) x = true := z_reach_next (z_reach_lt hs hss t p hr) hr (show w < 5 by omega) (by unfold z_step; rw [hby, hm, decide_eq_true rfl]; rfl)
    rw [z_trail, hx] at h
    cases j with
    | zero =>
      have e : x = q := Option.some.inj h
      subst e
      exact ⟨⟨p, hm⟩, hrx, hgx⟩
    | succ j =>
      have h : (z_trail c k s g T n (t + 1) x)[j]? = some q := h
      have := ih (t + 1) x (by omega) hrx hgx j q h
      rw [show t + 1 + j = t + (j + 1) by omega] at this
      exact this
end SG
theorem z_good.plan {b : Nat} {c : z_C} (h : z_good b c) {k g H u : Nat} {r : z_R} {w : Int32} (hk : (z_robs c)[k]? = some r) (hH : H ≤ 30) (hu : z_first c k (z_cell r) g H 0 = some u) : z_good b (z_setR c ((z_robs c).set k (z_planR r (z_trail c k (z_cell r) g (u + 1) (u + 1) 0 (z_cell r)) w))) := by
  have hs := h.1
  have ha := h.2.2.2.2.1
  have hrm := List.mem_of_getElem? hk
  have hss := (hs.2.2.2.2.2.2.1 r hrm).1
  have hf : z_free c (z_cell r) = true := h.2.2.2.2.2.1 r hrm 0
  obtain ⟨-, huH, he, -⟩ := z_first_at _ _ _ hu
  have hg0 := z_gd_start (c := c) (k := k) (s := z_cell r) (g := g) (T := u + 1) (by omega) he
  have hr0 : z_reach c k (z_cell r) 0 (z_cell r) = true := decide_eq_true rfl
  have hlen := z_trail_len (c := c) (k := k) (s := z_cell r) (g := g) (T := u + 1) (u + 1) 0 (z_cell r) (by omega) hg0
  have hat := z_trail_at (g := g) ha hs hf hss (T := u + 1) (u + 1) 0 (z_cell r) (by omega) hr0 hg0
  have hst := z_hasEnd_stay he
  have key : ∀ t, z_ahead (z_planR r (z_trail c k (z_cell r) g (u + 1) (u + 1) 0 (z_cell r)) w) t = if t = 0 then z_cell r else (z_trail c k (z_cell r) g (u + 1) (u + 1) 0 (z_cell r)).getD (min t (u + 1) - 1) (z_cell r) := by
    intro t
    unfold z_ahead
    show (if t = 0 then z_cell r else (z_trail c k (z_cell r) g (u + 1) (u + 1) 0 (z_cell r)).getD (min t (z_trail c k (z_cell r) g (u + 1) (u + 1) 0 (z_cell r)).length - 1) (z_cell r)) = _
    rw [hlen]
  have key2 : ∀ t, t ≠ 0 → ∃ q, (z_trail c k (z_cell r) g (u + 1) (u + 1) 0 (z_cell r))[min t (u + 1) - 1]? = some q ∧ z_ahead (z_planR r (z_trail c k (z_cell r) g (u + 1) (u + 1) 0 (z_cell r)) w) t = q := by
    intro t ht
    have hl : min t (u + 1) - 1 < (z_trail c k (z_cell r) g (u + 1) (u + 1) 0 (z_cell r)).length := by rw [hlen]; omega
    refine ⟨_, List.getElem?_eq_getElem hl, ?_⟩
    rw [key, if_neg ht, List.getD_eq_getElem?_getD, List.getElem?_eq_getElem hl]
    rfl
  refine h.path hk rfl hss (fun q hq => z_trail_lt hs _ _ _ hss q hq) (by show (z_trail c k (z_cell r) g (u + 1) (u + 1) 0 (z_cell r)).length ≤ 30; omega) (fun t => ?_) (fun i t x hi hx => ?_)
  · by_cases ht : t = 0
    · rw [key, if_pos ht]; exact hf
    · obtain ⟨q, h1, h2⟩ := key2 t ht
      rw [h2]
      exact z_reach_free hf _ q (hat _ q h1).2.1
  · by_cases ht : t = 0
    · rw [key, if_pos ht, ht]
      intro e
      exact hi (ha i k 0 x r hx hk e)
    · obtain ⟨q, h1, h2⟩ := key2 t ht
      rw [h2]
      obtain ⟨⟨p', h3⟩, h4, h5⟩ := hat _ q h1
      by_cases htu : t ≤ u + 1
      · unfold z_may at h3
        rw [Bool.and_eq_true, decide_eq_true_eq] at h3
        have := z_last_0.mp h3.1 i x hi hx
        rw [show 0 + (min t (u + 1) - 1) + 1 = t by omega] at this
        exact this
      · rw [show u + 1 - (0 + (min t (u + 1) - 1) + 1) = 0 by omega] at h5
        have e : q = g := of_decide_eq_true h5
        rw [e]
        exact z_stay_all hs hst hx hi (by omega)
