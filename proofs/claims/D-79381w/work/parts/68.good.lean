/-! ===== what changes keep: the row of numbers, the core's bounds ===== -/
set_option maxRecDepth 100000
theorem z_mrR.to {f g : Nat → Int32} {a a' : Nat} {r : z_R} (h : z_mrR f a r) (hp : (z_plan r).length ≤ 30) (e : ∀ j, j < 36 → g (a' + j) = f (a + j)) : z_mrR g a' r := by
  obtain ⟨q1, q2, q3, q4, q5, q6, q7⟩ := h
  refine ⟨(e 0 (by decide)).trans q1, (e 1 (by decide)).trans q2, (e 2 (by decide)).trans q3, (e 3 (by decide)).trans q4, fun z => (e 4 (by decide)).trans (q5 z), (e 5 (by decide)).trans q6, fun j q hj => ?_⟩
  have hl := (List.getElem?_eq_some_iff.mp hj).1
  have h1 := e (6 + j) (by omega)
  have h2 := q7 j q hj
  rw [Nat.add_assoc] at h2 ⊢
  exact h1.trans h2
theorem z_mrO.to {f g : Nat → Int32} {a a' : Nat} {w : Option Nat} {o : z_O} (h : z_mrO f a w o) (hp : (z_lines o).length ≤ 3) (e : ∀ j, j < 8 → g (a' + j) = f (a + j)) : z_mrO g a' w o := by
  obtain ⟨q1, q2, q3, q4, q5, q6⟩ := h
  refine ⟨(e 0 (by decide)).trans q1, (e 1 (by decide)).trans q2, (e 2 (by decide)).trans q3, (e 3 (by decide)).trans q4, (e 4 (by decide)).trans q5, fun j q hj => ?_⟩
  have hl := (List.getElem?_eq_some_iff.mp hj).1
  have h1 := e (5 + j) (by omega)
  have h2 := q6 j q hj
  rw [Nat.add_assoc] at h2 ⊢
  exact h1.trans h2
theorem z_mr_RO {c : z_C} {f f' : Nat → Int32} {rs : List z_R} {os : List z_O} (h : z_mr c f) (hs : z_small c) (e : ∀ j, j < 104 → j ≠ 3 → j ≠ 4 → f' j = f j) (h3 : f' 3 = nI rs.length) (h4 : f' 4 = nI os.length)
    (hR : ∀ (i : Nat) (r : z_R), rs[i]? = some r → z_mrR f' (104 + 36 * i) r) (hO : ∀ (i : Nat) (o : z_O), os[i]? = some o → z_mrO f' (320 + 8 * i) (z_withFrom 0 rs i) o) : z_mr (z_setO (z_setR c rs) os) f' := by
  have hsz := hs.size
  obtain ⟨⟨a1, a2, a3, a4, a5⟩, a6, a7, a8, -⟩ := h
  exact ⟨⟨(e 0 (by decide) (by decide) (by decide)).trans a1, (e 1 (by decide) (by decide) (by decide)).trans a2, (e 2 (by decide) (by decide) (by decide)).trans a3, h3, h4⟩, fun k hk => (e _ (by omega) (by omega) (by omega)).trans (a6 k hk), fun k hk => by
    have hk : k < z_size c := hk
    exact (e _ (by omega) (by omega) (by omega)).trans (a7 k hk), fun k hk => by
    have hk : k < z_size c := hk
    exact (e _ (by omega) (by omega) (by omega)).trans (a8 k hk), hR, hO⟩
theorem z_withFrom_least (rs : List z_R) (i : Nat) : z_least (fun j => ∃ r, rs[j]? = some r ∧ z_has r = some i) (z_withFrom 0 rs i) := by
  have key : ∀ (rs : List z_R) (k : Nat), z_least (fun j => k ≤ j ∧ ∃ r, rs[j - k]? = some r ∧ z_has r = some i) (z_withFrom k rs i) := by
    intro rs
    induction rs with
    | nil => intro k j z; obtain ⟨-, r, h, -⟩ := z; cases h
    | cons r rs ih =>
      intro k
      rw [z_withFrom]
      split
      · rename_i h
        exact ⟨⟨Nat.le_refl _, r, by simp, h⟩, fun j hj z => by omega⟩
      · rename_i h
        refine z_least_congr (ih (k + 1)) (fun j => ?_)
        constructor
        · rintro ⟨h1, r', h2, h3⟩
          refine ⟨by omega, r', ?_, h3⟩
          rw [show j - k = (j - (k + 1)) + 1 by omega, List.getElem?_cons_succ]
          exact h2
        · rintro ⟨h1, r', h2, h3⟩
          by_cases e : j = k
          · subst e
            rw [Nat.sub_self, List.getElem?_cons_zero] at h2
            cases h2
            exact absurd h3 h
          · refine ⟨by omega, r', ?_, h3⟩
            rw [show j - k = (j - (k + 1)) + 1 by omega, List.getElem?_cons_succ] at h2
            exact h2
  exact z_least_congr (key rs 0) (fun j => by simp)
theorem z_set_at {α : Type} {xs : List α} {k i : Nat} {y z : α} (h : (xs.set k y)[i]? = some z) : (i = k ∧ z = y ∧ k < xs.length) ∨ (i ≠ k ∧ xs[i]? = some z) := by
  by_cases e : i = k
  · subst e
    have hl := (List.getElem?_eq_some_iff.mp h).1
    rw [List.length_set] at hl
    rw [List.getElem?_set_self hl] at h
    exact Or.inl ⟨rfl, (Option.some.inj h).symm, hl⟩
  · rw [List.getElem?_set_ne (Ne.symm e)] at h
    exact Or.inr ⟨e, h⟩
/-- what has been said of the robots' orders when one robot's order is changed -/
theorem z_with_set {rs : List z_R} {k y : Nat} {r r' : z_R} (hk : rs[k]? = some r) (h1 : z_has r ≠ some y) (h2 : z_has r' ≠ some y) : z_withFrom 0 (rs.set k r') y = z_withFrom 0 rs y := by
  refine z_least_eq (z_withFrom_least _ y) (z_withFrom_least _ y) (fun j => ?_)
  constructor
  · rintro ⟨x, hx, hh⟩
    rcases z_set_at hx with ⟨rfl, rfl, -⟩ | ⟨-, hx⟩
    · exact absurd hh h2
    · exact ⟨x, hx, hh⟩
  · rintro ⟨x, hx, hh⟩
    have e : j ≠ k := fun z => by subst z; rw [hk] at hx; cases hx; exact h1 hh
    exact ⟨x, by rw [List.getElem?_set_ne (Ne.symm e)]; exact hx, hh⟩
theorem z_with_same {rs : List z_R} {k y : Nat} {r r' : z_R} (hk : rs[k]? = some r) (h : z_has r' = z_has r) : z_withFrom 0 (rs.set k r') y = z_withFrom 0 rs y := by
  have hl := (List.getElem?_eq_some_iff.mp hk).1
  refine z_least_eq (z_withFrom_least _ y) (z_withFrom_least _ y) (fun j => ?_)
  constructor
  · rintro ⟨x, hx, hh⟩
    rcases z_set_at hx with ⟨rfl, rfl, -⟩ | ⟨-, hx⟩
    · exact ⟨r, hk, by rw [← h]; exact hh⟩
    · exact ⟨x, hx, hh⟩
  · rintro ⟨x, hx, hh⟩
    by_cases e : j = k
    · subst e
      rw [hk] at hx
      cases hx
      exact ⟨r', by rw [List.getElem?_set_self hl], by rw [h]; exact hh⟩
    · exact ⟨x, by rw [List.getElem?_set_ne (Ne.symm e)]; exact hx, hh⟩
theorem z_with_take {rs : List z_R} {k y : Nat} {r r' : z_R} (hk : rs[k]? = some r) (h1 : z_withFrom 0 rs y = none) (h2 : z_has r' = some y) : z_withFrom 0 (rs.set k r') y = some k := by
  have hl := (List.getElem?_eq_some_iff.mp hk).1
  refine z_least_eq (q := fun j => j = k) (z_withFrom_least _ y) ⟨rfl, fun i hi z => by omega⟩ (fun j => ?_)
  constructor
  · rintro ⟨x, hx, hh⟩
    rcases z_set_at hx with ⟨rfl, -, -⟩ | ⟨-, hx⟩
    · rfl
    · exact absurd hh ((z_withFrom_none rs 0 y).mp h1 x (List.mem_of_getElem? hx))
  · rintro rfl
    exact ⟨r', by rw [List.getElem?_set_self hl], h2⟩
theorem z_with_drop {rs : List z_R} {k y : Nat} {r r' : z_R} (hu : ∀ (i j : Nat) (r r' : z_R), rs[i]? = some r → rs[j]? = some r' → z_has r = some y → z_has r' = some y → i = j) (hk : rs[k]? = some r) (h1 : z_has r = some y) (h2 : z_has r' ≠ some y) : z_withFrom 0 (rs.set k r') y = none := by
  refine (z_withFrom_none _ 0 y).mpr (fun x hx hh => ?_)
  obtain ⟨j, hj⟩ := List.mem_iff_getElem?.mp hx
  rcases z_set_at hj with ⟨rfl, rfl, -⟩ | ⟨hn, hj⟩
  · exact h2 hh
  · exact hn (hu _ _ _ _ hj hk hh h1)
theorem z_with_erase {rs : List z_R} {k y : Nat} {r : z_R} (hk : rs[k]? = some r) (h : z_has r = none) : z_withFrom 0 (rs.eraseIdx k) y = (z_withFrom 0 rs y).map (fun j => if k < j then j - 1 else j) := by
  have hw := z_withFrom_least rs y
  refine z_least_eq (q := fun j => ∃ r, (rs.eraseIdx k)[j]? = some r ∧ z_has r = some y) (z_withFrom_least _ y) ?_ (fun j => Iff.rfl)
  cases e : z_withFrom 0 rs y with
  | none =>
    rw [e] at hw
    rintro i ⟨x, hx, hh⟩
    have := List.mem_of_mem_eraseIdx (List.mem_of_getElem? hx)
    exact (z_withFrom_none rs 0 y).mp e x this hh
  | some j =>
    rw [e] at hw
    obtain ⟨⟨x, hx, hh⟩, hmin⟩ := hw
    have hjk : j ≠ k := fun z => by subst z; rw [hk] at hx; cases hx; rw [h] at hh; cases hh
    refine ⟨⟨x, ?_, hh⟩, ?_⟩
    · show (rs.eraseIdx k)[if k < j then j - 1 else j]? = some x
      by_cases hl : k < j
      · rw [if_pos hl, List.getElem?_eraseIdx, if_neg (by omega), show j - 1 + 1 = j by omega]
        exact hx
      · rw [if_neg hl, List.getElem?_eraseIdx, if_pos (by omega)]
        exact hx
    · rintro i hi ⟨x', hx', hh'⟩
      have hi : i < if k < j then j - 1 else j := hi
      rw [List.getElem?_eraseIdx] at hx'
      split at hx'
      · exact hmin i (by split at hi <;> omega) ⟨x', hx', hh'⟩
      · exact hmin (i + 1) (by split at hi <;> omega) ⟨x', hx', hh'⟩
theorem z_with_app {rs : List z_R} {y : Nat} {r : z_R} (h : z_has r ≠ some y) : z_withFrom 0 (rs ++ [r]) y = z_withFrom 0 rs y := by
  refine z_least_eq (z_withFrom_least _ y) (z_withFrom_least _ y) (fun j => ?_)
  constructor
  · rintro ⟨x, hx, hh⟩
    by_cases e : j < rs.length
    · rw [List.getElem?_append_left e] at hx
      exact ⟨x, hx, hh⟩
    · rw [List.getElem?_append_right (by omega)] at hx
      have := List.mem_of_getElem? hx
      rw [List.mem_singleton] at this
      subst this
      exact absurd hh h
  · rintro ⟨x, hx, hh⟩
    exact ⟨x, by rw [List.getElem?_append_left (List.getElem?_eq_some_iff.mp hx).1]; exact hx, hh⟩
/-- the robots and the orders changed -/
theorem z_good_RO {b : Nat} {c : z_C} {rs : List z_R} {os : List z_O} (h : z_good b c) (hl : rs.length ≤ 6) (hlo : os.length ≤ 10)
    (hR : ∀ r ∈ rs, z_cell r < z_size c ∧ (∀ q ∈ z_plan r, q < z_size c) ∧ (z_plan r).length ≤ 30 ∧ ∀ k, z_has r = some k → k < os.length)
    (hO : ∀ o ∈ os, z_picked o ≤ (z_lines o).length ∧ (z_lines o).length ≤ 3 ∧ 0 < (z_lines o).length ∧ (∀ q ∈ z_lines o, q < z_size c) ∧ z_state o ≤ 2)
    (ha : z_apart (z_setO (z_setR c rs) os)) (hf : ∀ r ∈ rs, ∀ t, z_free c (z_ahead r t) = true) (hh : z_held (z_setO (z_setR c rs) os)) : z_good b (z_setO (z_setR c rs) os) := by
  obtain ⟨⟨s1, s2, s3, s4, -⟩, h2, h3, h4, -, -, h7, -⟩ := h
  exact ⟨⟨s1, s2, s3, s4, hl, hlo, hR, hO⟩, h2, h3, h4, ha, hf, h7, hh⟩
theorem z_app_at {α : Type} {xs : List α} {i : Nat} {y z : α} (h : (xs ++ [y])[i]? = some z) : (i = xs.length ∧ z = y) ∨ (i < xs.length ∧ xs[i]? = some z) := by
  by_cases e : i < xs.length
  · rw [List.getElem?_append_left e] at h
    exact Or.inr ⟨e, h⟩
  · rw [List.getElem?_append_right (by omega)] at h
    have hl := (List.getElem?_eq_some_iff.mp h).1
    simp only [List.length_cons, List.length_nil] at hl
    rw [show i - xs.length = 0 by omega] at h
    exact Or.inl ⟨by omega, (Option.some.inj h).symm⟩
theorem z_ahead_nil {r : z_R} (h : z_plan r = []) (t : Nat) : z_ahead r t = z_cell r := by
  unfold z_ahead
  split
  · rfl
  · rw [h]; rfl
section GD
variable {b : Nat} {c : z_C}
theorem z_good.add (h : z_good b c) {j : Nat} {x : Int32} (hl : (z_robs c).length < 6) (hj : j < z_size c) (hf : z_free c j = true) (he : z_robotEver c j (-1) = none) : z_good b (z_setR c (z_robs c ++ [(j, x, none, 0, [], 0)])) := by
  have hs := h.1
  have hne : ∀ i : Nat, i < 2 ^ 31 → nI i ≠ -1 := fun i hi q => by have := nI_pos hi; rw [q] at this; exact this (by decide)
  refine z_good_RO (rs := z_robs c ++ [(j, x, none, 0, [], 0)]) (os := z_ords c) h (by rw [List.length_append]; exact hl) hs.2.2.2.2.2.1 (fun r hr => ?_) hs.2.2.2.2.2.2.2 ?_ (fun r hr t => ?_) ?_
  · rcases List.mem_append.mp hr with hr | hr
    · exact hs.2.2.2.2.2.2.1 r hr
    · rw [List.mem_singleton.mp hr]
      exact ⟨hj, fun q hq => (by cases hq), show (0 : Nat) ≤ 30 by decide, fun k hk => (by cases hk)⟩
  · intro i i' t r r' h1 h2 h3
    have h1 : (z_robs c ++ [(j, x, none, 0, [], 0)])[i]? = some r := h1
    have h2 : (z_robs c ++ [(j, x, none, 0, [], 0)])[i']? = some r' := h2
    rcases z_app_at h1 with ⟨e1, r1⟩ | ⟨e1, r1⟩ <;> rcases z_app_at h2 with ⟨e2, r2⟩ | ⟨e2, r2⟩
    · omega
    · subst r1
      rw [z_ahead_nil (r := (j, x, none, 0, [], 0)) rfl] at h3
      exact absurd h3.symm (z_ever_none hs he r2 (hne _ (by omega)))
    · subst r2
      rw [z_ahead_nil (r := (j, x, none, 0, [], 0)) rfl t] at h3
      exact absurd h3 (z_ever_none hs he r1 (hne _ (by omega)))
    · exact h.2.2.2.2.1 i i' t r r' r1 r2 h3
  · rcases List.mem_append.mp hr with hr | hr
    · exact h.2.2.2.2.2.1 r hr t
    · rw [List.mem_singleton.mp hr, z_ahead_nil rfl]
      exact hf
  · obtain ⟨u1, u2⟩ := h.2.2.2.2.2.2.2
    refine ⟨fun i i' o r r' h1 h2 h3 h4 => ?_, fun i o hi => ?_⟩
    · have h1 : (z_robs c ++ [(j, x, none, 0, [], 0)])[i]? = some r := h1
      have h2 : (z_robs c ++ [(j, x, none, 0, [], 0)])[i']? = some r' := h2
      rcases z_app_at h1 with ⟨e1, r1⟩ | ⟨e1, r1⟩
      · subst r1; cases h3
      · rcases z_app_at h2 with ⟨e2, r2⟩ | ⟨e2, r2⟩
        · subst r2; cases h4
        · exact u1 i i' o r r' r1 r2 h3 h4
    · have := u2 i o hi
      rw [show z_with (z_setO (z_setR c (z_robs c ++ [(j, x, none, 0, [], 0)])) (z_ords c)) i = z_with c i from z_with_app (fun z => by cases z)]
      exact this
theorem z_erase_at {α : Type} {xs : List α} {k i : Nat} {y : α} (h : (xs.eraseIdx k)[i]? = some y) : xs[if i < k then i else i + 1]? = some y := by
  rw [List.getElem?_eraseIdx] at h
  split at h
  · rename_i e; rw [if_pos e]; exact h
  · rename_i e; rw [if_neg e]; exact h
theorem z_good.takeOff (h : z_good b c) {k : Nat} {r0 : z_R} (hk : (z_robs c)[k]? = some r0) (hh : z_has r0 = none) : z_good b (z_setR c ((z_robs c).eraseIdx k)) := by
  have hs := h.1
  have hinj : ∀ i i' : Nat, (if i < k then i else i + 1) = (if i' < k then i' else i' + 1) → i = i' := fun i i' e => by
    split at e <;> split at e <;> omega
  refine z_good_RO (rs := (z_robs c).eraseIdx k) (os := z_ords c) h (Nat.le_trans (List.length_eraseIdx_le _ _) hs.2.2.2.2.1) hs.2.2.2.2.2.1 (fun r hr => hs.2.2.2.2.2.2.1 r (List.mem_of_mem_eraseIdx hr)) hs.2.2.2.2.2.2.2 ?_ (fun r hr t => h.2.2.2.2.2.1 r (List.mem_of_mem_eraseIdx hr) t) ?_
  · intro i i' t r r' h1 h2 h3
    exact hinj _ _ (h.2.2.2.2.1 _ _ t r r' (z_erase_at h1) (z_erase_at h2) h3)
  · obtain ⟨u1, u2⟩ := h.2.2.2.2.2.2.2
    refine ⟨fun i i' o r r' h1 h2 h3 h4 => hinj _ _ (u1 _ _ o r r' (z_erase_at h1) (z_erase_at h2) h3 h4), fun i o hi => ?_⟩
    have := u2 i o hi
    rw [show z_with (z_setO (z_setR c ((z_robs c).eraseIdx k)) (z_ords c)) i = (z_with c i).map (fun j => if k < j then j - 1 else j) from z_with_erase hk hh]
    refine ⟨?_, this.2⟩
    rw [this.1]
    cases z_with c i <;> simp
theorem z_good.order (h : z_good b c) {due : Int32} {js : List Nat} (hl : (z_ords c).length < 10) (h1 : 0 < js.length) (h3 : js.length ≤ 3) (hj : ∀ j ∈ js, j < z_size c) : z_good b (z_setO c (z_ords c ++ [(due, js, 0, 0, -1)])) := by
  have hs := h.1
  refine z_good_RO (rs := z_robs c) h hs.2.2.2.2.1 (by rw [List.length_append]; exact hl) (fun r hr => ?_) (fun o ho => ?_) h.2.2.2.2.1 h.2.2.2.2.2.1 ?_
  · obtain ⟨a1, a2, a3, a4⟩ := hs.2.2.2.2.2.2.1 r hr
    exact ⟨a1, a2, a3, fun k e => by rw [List.length_append]; exact Nat.lt_of_lt_of_le (a4 k e) (Nat.le_add_right _ _)⟩
  · rcases List.mem_append.mp ho with ho | ho
    · exact hs.2.2.2.2.2.2.2 o ho
    · rw [List.mem_singleton.mp ho]
      exact ⟨Nat.zero_le _, h3, h1, hj, show (0 : Nat) ≤ 2 by decide⟩
  · obtain ⟨u1, u2⟩ := h.2.2.2.2.2.2.2
    refine ⟨u1, fun i o hi => ?_⟩
    rcases z_app_at (show (z_ords c ++ [(due, js, 0, 0, -1)])[i]? = some o from hi) with ⟨e1, e2⟩ | ⟨-, e2⟩
    · subst e2
      have hn : z_with (z_setO (z_setR c (z_robs c)) (z_ords c ++ [(due, js, 0, 0, -1)])) i = none := z_with_none.mpr (fun r hr e => by
        have := (hs.2.2.2.2.2.2.1 r hr).2.2.2 i e
        omega)
      rw [hn]
      exact ⟨⟨fun z => absurd (show (0 : Nat) = 1 from z) (by decide), fun z => absurd rfl z⟩, fun z => absurd (show (0 : Nat) = 2 from z) (by decide), fun _ => rfl, show (0 : Nat) ≤ 2 by decide, fun _ => rfl⟩
    · exact u2 i o e2
theorem z_apart_set {c : z_C} {os : List z_O} {k : Nat} {r r' : z_R} (h : z_apart c) (hk : (z_robs c)[k]? = some r) (e : ∀ t, z_ahead r' t = z_ahead r t) : z_apart (z_setO (z_setR c ((z_robs c).set k r')) os) := by
  intro i j t x x' h1 h2 h3
  have h1 : ((z_robs c).set k r')[i]? = some x := h1
  have h2 : ((z_robs c).set k r')[j]? = some x' := h2
  rcases z_set_at h1 with ⟨e1, rfl, -⟩ | ⟨e1, g1⟩ <;> rcases z_set_at h2 with ⟨e2, rfl, -⟩ | ⟨e2, g2⟩
  · omega
  · rw [e t] at h3
    exact e1.trans (h k j t r x' hk g2 h3)
  · rw [e t] at h3
    exact (h i k t x r g1 hk h3).trans e2.symm
  · exact h i j t x x' g1 g2 h3
theorem z_good.assign (h : z_good b c) {k i : Nat} {r : z_R} {o : z_O} (hk : (z_robs c)[k]? = some r) (hi : (z_ords c)[i]? = some o) (hr : z_has r = none) (ho : z_state o = 0) : z_good b (z_setO (z_setR c ((z_robs c).set k (z_hasR r (some i)))) ((z_ords c).set i (z_stO o (z_picked o) 1 (z_del o)))) := by
  have hs := h.1
  have hil := (List.getElem?_eq_some_iff.mp hi).1
  obtain ⟨u1, u2⟩ := h.2.2.2.2.2.2.2
  have hwi : z_with c i = none := Classical.byContradiction fun z => by have := (u2 i o hi).1.mpr z; omega
  have hno := z_with_none.mp hwi
  refine z_good_RO h (by rw [List.length_set]; exact hs.2.2.2.2.1) (by rw [List.length_set]; exact hs.2.2.2.2.2.1) (fun x hx => ?_) (fun x hx => ?_) (z_apart_set h.2.2.2.2.1 hk (fun t => rfl)) (fun x hx t => ?_) ?_
  · rw [List.length_set]
    rcases List.mem_or_eq_of_mem_set hx with hx | rfl
    · exact hs.2.2.2.2.2.2.1 x hx
    · obtain ⟨a1, a2, a3, a4⟩ := hs.2.2.2.2.2.2.1 r (List.mem_of_getElem? hk)
      exact ⟨a1, a2, a3, fun y e => by cases e; exact hil⟩
  · rcases List.mem_or_eq_of_mem_set hx with hx | rfl
    · exact hs.2.2.2.2.2.2.2 x hx
    · obtain ⟨a1, a2, a3, a4, -⟩ := hs.2.2.2.2.2.2.2 o (List.mem_of_getElem? hi)
      exact ⟨a1, a2, a3, a4, show 1 ≤ 2 by decide⟩
  · rcases List.mem_or_eq_of_mem_set hx with hx | rfl
    · exact h.2.2.2.2.2.1 x hx t
    · exact h.2.2.2.2.2.1 r (List.mem_of_getElem? hk) t
  · refine ⟨fun i1 i2 y x x' h1 h2 h3 h4 => ?_, fun i1 x hx => ?_⟩
    · rcases z_set_at (show ((z_robs c).set k (z_hasR r (some i)))[i1]? = some x from h1) with ⟨e1, rfl, -⟩ | ⟨e1, g1⟩ <;> rcases z_set_at (show ((z_robs c).set k (z_hasR r (some i)))[i2]? = some x' from h2) with ⟨e2, rfl, -⟩ | ⟨e2, g2⟩
      · omega
      · have e : i = y := Option.some.inj h3
        subst e
        exact absurd h4 (hno x' (List.mem_of_getElem? g2))
      · have e : i = y := Option.some.inj h4
        subst e
        exact absurd h3 (hno x (List.mem_of_getElem? g1))
      · exact u1 i1 i2 y x x' g1 g2 h3 h4
    · rcases z_set_at (show ((z_ords c).set i (z_stO o (z_picked o) 1 (z_del o)))[i1]? = some x from hx) with ⟨e1, rfl, -⟩ | ⟨e1, g1⟩
      · subst e1
        rw [show z_with (z_setO (z_setR c ((z_robs c).set k (z_hasR r (some i1)))) ((z_ords c).set i1 (z_stO o (z_picked o) 1 (z_del o)))) i1 = some k from z_with_take hk hwi rfl]
        exact ⟨⟨fun _ z => (by cases z), fun _ => rfl⟩, fun z => absurd (show (1 : Nat) = 2 from z) (by decide), fun _ => (u2 i1 o hi).2.2.1 (by omega), show (1 : Nat) ≤ 2 by decide, fun z => absurd (show (1 : Nat) = 0 from z) (by decide)⟩
      · rw [show z_with (z_setO (z_setR c ((z_robs c).set k (z_hasR r (some i)))) ((z_ords c).set i (z_stO o (z_picked o) 1 (z_del o)))) i1 = z_with c i1 from z_with_set hk (by rw [hr]; exact fun z => by cases z) (fun z => e1 (Option.some.inj z).symm)]
        exact u2 i1 x g1
theorem z_good.release (h : z_good b c) {k i p : Nat} {d : Int32} {r : z_R} {o : z_O} {st : Nat} (hk : (z_robs c)[k]? = some r) (hi : (z_ords c)[i]? = some o) (hr : z_has r = some i) (hst : st = 0 ∨ st = 2) (hd : (st = 2 → 0 ≤ d) ∧ (st ≠ 2 → d = -1)) (hp : p ≤ (z_lines o).length) (hp0 : st = 0 → p = 0) : z_good b (z_setO (z_setR c ((z_robs c).set k (z_hasR r none))) ((z_ords c).set i (z_stO o p st d))) := by
  have hs := h.1
  have hil := (List.getElem?_eq_some_iff.mp hi).1
  obtain ⟨u1, u2⟩ := h.2.2.2.2.2.2.2
  refine z_good_RO h (by rw [List.length_set]; exact hs.2.2.2.2.1) (by rw [List.length_set]; exact hs.2.2.2.2.2.1) (fun x hx => ?_) (fun x hx => ?_) (z_apart_set h.2.2.2.2.1 hk (fun t => rfl)) (fun x hx t => ?_) ?_
  · rw [List.length_set]
    rcases List.mem_or_eq_of_mem_set hx with hx | rfl
    · exact hs.2.2.2.2.2.2.1 x hx
    · obtain ⟨a1, a2, a3, a4⟩ := hs.2.2.2.2.2.2.1 r (List.mem_of_getElem? hk)
      exact ⟨a1, a2, a3, fun y e => by cases e⟩
  · rcases List.mem_or_eq_of_mem_set hx with hx | rfl
    · exact hs.2.2.2.2.2.2.2 x hx
    · obtain ⟨a1, a2, a3, a4, -⟩ := hs.2.2.2.2.2.2.2 o (List.mem_of_getElem? hi)
      exact ⟨hp, a2, a3, a4, by show st ≤ 2; omega⟩
  · rcases List.mem_or_eq_of_mem_set hx with hx | rfl
    · exact h.2.2.2.2.2.1 x hx t
    · exact h.2.2.2.2.2.1 r (List.mem_of_getElem? hk) t
  · refine ⟨fun i1 i2 y x x' h1 h2 h3 h4 => ?_, fun i1 x hx => ?_⟩
    · rcases z_set_at (show ((z_robs c).set k (z_hasR r none))[i1]? = some x from h1) with ⟨e1, rfl, -⟩ | ⟨e1, g1⟩ <;> rcases z_set_at (show ((z_robs c).set k (z_hasR r none))[i2]? = some x' from h2) with ⟨e2, rfl, -⟩ | ⟨e2, g2⟩
      · omega
      · cases h3
      · cases h4
      · exact u1 i1 i2 y x x' g1 g2 h3 h4
    · rcases z_set_at (show ((z_ords c).set i (z_stO o p st d))[i1]? = some x from hx) with ⟨e1, rfl, -⟩ | ⟨e1, g1⟩
      · subst e1
        rw [show z_with (z_setO (z_setR c ((z_robs c).set k (z_hasR r none))) ((z_ords c).set i1 (z_stO o p st d))) i1 = none from z_with_drop (fun i j r r' g1 g2 g3 g4 => u1 i j i1 r r' g1 g2 g3 g4) hk hr (fun z => by cases z)]
        exact ⟨⟨fun z => absurd (show st = 1 from z) (by omega), fun z => absurd rfl z⟩, hd.1, hd.2, show st ≤ 2 by omega, hp0⟩
      · rw [show z_with (z_setO (z_setR c ((z_robs c).set k (z_hasR r none))) ((z_ords c).set i (z_stO o p st d))) i1 = z_with c i1 from z_with_set hk (by rw [hr]; exact fun z => e1 (Option.some.inj z).symm) (fun z => by cases z)]
        exact u2 i1 x g1
/-- one robot's path changed -/
theorem z_good.path (h : z_good b c) {k : Nat} {r r' : z_R} (hk : (z_robs c)[k]? = some r) (hh : z_has r' = z_has r) (hc : z_cell r' < z_size c) (hp : ∀ q ∈ z_plan r', q < z_size c) (hl : (z_plan r').length ≤ 30) (hf : ∀ t, z_free c (z_ahead r' t) = true)
    (ha : ∀ (i t : Nat) (x : z_R), i ≠ k → (z_robs c)[i]? = some x → z_ahead x t ≠ z_ahead r' t) : z_good b (z_setR c ((z_robs c).set k r')) := by
  have hs := h.1
  obtain ⟨u1, u2⟩ := h.2.2.2.2.2.2.2
  refine z_good_RO (rs := (z_robs c).set k r') (os := z_ords c) h (by rw [List.length_set]; exact hs.2.2.2.2.1) hs.2.2.2.2.2.1 (fun x hx => ?_) hs.2.2.2.2.2.2.2 ?_ (fun x hx t => ?_) ?_
  · rcases List.mem_or_eq_of_mem_set hx with hx | rfl
    · exact hs.2.2.2.2.2.2.1 x hx
    · exact ⟨hc, hp, hl, fun y e => (hs.2.2.2.2.2.2.1 r (List.mem_of_getElem? hk)).2.2.2 y (by rw [← hh]; exact e)⟩
  · intro i j t x x' h1 h2 h3
    rcases z_set_at (show ((z_robs c).set k r')[i]? = some x from h1) with ⟨e1, ex, -⟩ | ⟨e1, g1⟩ <;> rcases z_set_at (show ((z_robs c).set k r')[j]? = some x' from h2) with ⟨e2, ex2, -⟩ | ⟨e2, g2⟩
    · omega
    · exact absurd h3.symm (by rw [ex]; exact ha j t x' e2 g2)
    · exact absurd h3 (by rw [ex2]; exact ha i t x e1 g1)
    · exact h.2.2.2.2.1 i j t x x' g1 g2 h3
  · rcases List.mem_or_eq_of_mem_set hx with hx | rfl
    · exact h.2.2.2.2.2.1 x hx t
    · exact hf t
  · refine ⟨fun i1 i2 y x x' h1 h2 h3 h4 => ?_, fun i1 x hx => ?_⟩
    · rcases z_set_at (show ((z_robs c).set k r')[i1]? = some x from h1) with ⟨e1, ex, -⟩ | ⟨e1, g1⟩ <;> rcases z_set_at (show ((z_robs c).set k r')[i2]? = some x' from h2) with ⟨e2, ex2, -⟩ | ⟨e2, g2⟩
      · omega
      · exact e1.trans (u1 k i2 y r x' hk g2 (by rw [← hh, ← ex]; exact h3) h4)
      · exact (u1 i1 k y x r g1 hk h3 (by rw [← hh, ← ex2]; exact h4)).trans e2.symm
      · exact u1 i1 i2 y x x' g1 g2 h3 h4
    · rw [show z_with (z_setO (z_setR c ((z_robs c).set k r')) (z_ords c)) i1 = z_with c i1 from z_with_same hk hh]
      exact u2 i1 x hx
theorem z_good.cancel (h : z_good b c) {k : Nat} {r : z_R} (hk : (z_robs c)[k]? = some r) (he : z_robotEver c (z_cell r) (nI k) = none) : z_good b (z_setR c ((z_robs c).set k (z_drop r))) := by
  have hs := h.1
  have hkl := (List.getElem?_eq_some_iff.mp hk).1
  have h6 := hs.2.2.2.2.1
  refine h.path hk rfl (hs.2.2.2.2.2.2.1 r (List.mem_of_getElem? hk)).1 (fun q hq => by cases hq) (Nat.zero_le _) (fun t => ?_) (fun i t x hi hx => ?_)
  · rw [z_ahead_nil rfl]
    exact h.2.2.2.2.2.1 r (List.mem_of_getElem? hk) 0
  · rw [z_ahead_nil (r := z_drop r) rfl t]
    have hil := (List.getElem?_eq_some_iff.mp hx).1
    exact z_ever_none hs he hx (fun e => hi ((nI_eq (by omega) (by omega)).mp e))
theorem z_good.set (h : z_good b c) {g : Nat → Int32} (hg : (1 ≤ g 0 ∧ g 0 ≤ 20) ∧ (1 ≤ g 1 ∧ g 1 ≤ 3) ∧ 1 ≤ g 2 ∧ g 2 ≤ 30) : z_good b (z_setS c g) := by
  obtain ⟨h1, h2, h3, -, h5⟩ := h
  exact ⟨h1, h2, h3, hg, h5⟩
theorem z_good.word (h : z_good b c) {w : Int64} (hf : ∀ r ∈ z_robs c, ∀ t, z_bit w (z_ahead r t) = false) (hw : ∀ k, k < 64 → z_bit w k = true → k < z_size c) : z_good b (z_setW c w) := by
  obtain ⟨h1, h2, h3, h4, h5, h6, h7, h8⟩ := h
  refine ⟨h1, h2, h3, h4, h5, fun r hr t => ?_, hw, h8⟩
  have := h6 r hr t
  unfold z_free at this ⊢
  rw [Bool.and_eq_true] at this ⊢
  refine ⟨this.1, ?_⟩
  show (!z_bit w (z_ahead r t)) = true
  rw [hf r hr t]
  rfl
end GD
theorem z_mr_W {c : z_C} {f f' : Nat → Int32} {w : Int64} (h : z_mr c f) (hs : z_small c) (e : ∀ j, (j < 56 ∨ 104 ≤ j) → f' j = f j) (hw : ∀ k, k < z_size c → f' (56 + k) = if z_bit w k = true then 1 else 0) : z_mr (z_setW c w) f' := by
  have hsz := hs.size
  obtain ⟨⟨a1, a2, a3, a4, a5⟩, a6, a7, a8, a9, a10⟩ := h
  exact ⟨⟨(e 0 (by decide)).trans a1, (e 1 (by decide)).trans a2, (e 2 (by decide)).trans a3, (e 3 (by decide)).trans a4, (e 4 (by decide)).trans a5⟩, fun k hk => (e _ (by omega)).trans (a6 k hk), fun k hk => by
    have hk : k < z_size c := hk
    exact (e _ (by omega)).trans (a7 k hk), hw, fun i r hi => (a9 i r hi).to (hs.2.2.2.2.2.2.1 r (List.mem_of_getElem? hi)).2.2.1 (fun j hj => e _ (by omega)), fun i o hi => (a10 i o hi).to (hs.2.2.2.2.2.2.2 o (List.mem_of_getElem? hi)).2.1 (fun j hj => e _ (by omega))⟩
theorem z_mr_S {c : z_C} {f f' g : Nat → Int32} (h : z_mr c f) (hs : z_small c) (e : ∀ j, (j < 5 ∨ 8 ≤ j) → f' j = f j) (hw : ∀ k, k < 3 → f' (5 + k) = g k) : z_mr (z_setS c g) f' := by
  have hsz := hs.size
  obtain ⟨⟨a1, a2, a3, a4, a5⟩, a6, a7, a8, a9, a10⟩ := h
  exact ⟨⟨(e 0 (by decide)).trans a1, (e 1 (by decide)).trans a2, (e 2 (by decide)).trans a3, (e 3 (by decide)).trans a4, (e 4 (by decide)).trans a5⟩, hw, fun k hk => (e _ (by omega)).trans (a7 k hk), fun k hk => (e _ (by omega)).trans (a8 k hk), fun i r hi => (a9 i r hi).to (hs.2.2.2.2.2.2.1 r (List.mem_of_getElem? hi)).2.2.1 (fun j hj => e _ (by omega)), fun i o hi => (a10 i o hi).to (hs.2.2.2.2.2.2.2 o (List.mem_of_getElem? hi)).2.1 (fun j hj => e _ (by omega))⟩
/-- the robots alone changed -/
theorem z_mr_R {c : z_C} {f f' : Nat → Int32} {rs : List z_R} (h : z_mr c f) (hs : z_small c) (e : ∀ j, j < 104 ∨ 320 ≤ j → j ≠ 3 → f' j = f j) (h3 : f' 3 = nI rs.length)
    (hR : ∀ (i : Nat) (r : z_R), rs[i]? = some r → z_mrR f' (104 + 36 * i) r) (hW : ∀ i, i < (z_ords c).length → z_withFrom 0 rs i = z_with c i) : z_mr (z_setR c rs) f' := by
  refine z_mr_RO (os := z_ords c) h hs (fun j h1 h2 h3 => e j (Or.inl h1) h2) h3 ((e 4 (by decide) (by decide)).trans h.1.2.2.2.2) hR (fun i o hi => ?_)
  rw [hW i (List.getElem?_eq_some_iff.mp hi).1]
  exact (h.ord hi).to (hs.2.2.2.2.2.2.2 o (List.mem_of_getElem? hi)).2.1 (fun j hj => e _ (by omega) (by omega))
