/-! ===== the lowest robot that is ever in a cell: both ways to seek it agree ===== -/
set_option maxRecDepth 100000
/-- o is the least number with p -/
def z_least (p : Nat → Prop) (o : Option Nat) : Prop := match o with
  | none => ∀ i, ¬ p i
  | some k => p k ∧ ∀ i, i < k → ¬ p i
theorem z_least_eq {p q : Nat → Prop} {o o' : Option Nat} (h : z_least p o) (h' : z_least q o') (e : ∀ i, p i ↔ q i) : o = o' := by
  cases o with
  | none =>
    cases o' with
    | none => rfl
    | some k => exact absurd ((e k).mpr h'.1) (h k)
  | some k =>
    cases o' with
    | none => exact absurd ((e k).mp h.1) (h' k)
    | some j =>
      congr 1
      rcases Nat.lt_trichotomy k j with z | z | z
      · exact absurd ((e k).mp h.1) (h'.2 k z)
      · exact z
      · exact absurd ((e j).mpr h'.1) (h.2 j z)
theorem z_least_low {p q : Nat → Prop} {o o' : Option Nat} (h : z_least p o) (h' : z_least q o') : z_least (fun i => p i ∨ q i) (z_low o o') := by
  cases o with
  | none =>
    cases o' with
    | none => exact fun i z => z.elim (h i) (h' i)
    | some k => exact ⟨Or.inr h'.1, fun i hi z => z.elim (h i) (h'.2 i hi)⟩
  | some k =>
    cases o' with
    | none => exact ⟨Or.inl h.1, fun i hi z => z.elim (h.2 i hi) (h' i)⟩
    | some j =>
      show z_least _ (if k < j then some k else some j)
      split
      · exact ⟨Or.inl h.1, fun i hi z => z.elim (h.2 i hi) (h'.2 i (by omega))⟩
      · exact ⟨Or.inr h'.1, fun i hi z => z.elim (h.2 i (by omega)) (h'.2 i hi)⟩
theorem z_least_congr {p q : Nat → Prop} {o : Option Nat} (h : z_least p o) (e : ∀ i, p i ↔ q i) : z_least q o := by
  cases o with
  | none => exact fun i z => h i ((e i).mpr z)
  | some k => exact ⟨(e k).mp h.1, fun i hi z => h.2 i hi ((e i).mpr z)⟩
theorem z_atFrom_least {cl t : Nat} {but : Int32} : ∀ (rs : List z_R) (k : Nat), z_least (fun i => k ≤ i ∧ ∃ r, rs[i - k]? = some r ∧ nI i ≠ but ∧ z_ahead r t = cl) (z_atFrom k rs cl t but) := by
  intro rs
  induction rs with
  | nil => intro k i z; obtain ⟨-, r, h, -⟩ := z; cases h
  | cons r rs ih =>
    intro k
    rw [z_atFrom]
    split
    · rename_i h
      exact ⟨⟨Nat.le_refl _, r, by simp, h⟩, fun i hi z => by omega⟩
    · rename_i h
      refine z_least_congr (ih (k + 1)) (fun i => ?_)
      constructor
      · rintro ⟨h1, r', h2, h3⟩
        refine ⟨by omega, r', ?_, h3⟩
        rw [show i - k = (i - (k + 1)) + 1 by omega, List.getElem?_cons_succ]
        exact h2
      · rintro ⟨h1, r', h2, h3⟩
        by_cases e : i = k
        · subst e
          rw [Nat.sub_self, List.getElem?_cons_zero] at h2
          cases h2
          exact absurd h3 h
        · refine ⟨by omega, r', ?_, h3⟩
          rw [show i - k = (i - (k + 1)) + 1 by omega, List.getElem?_cons_succ] at h2
          exact h2
theorem z_robotAt_least (c : z_C) (cl t : Nat) (but : Int32) : z_least (fun i => ∃ r, (z_robs c)[i]? = some r ∧ nI i ≠ but ∧ z_ahead r t = cl) (z_robotAt c cl t but) :=
  z_least_congr (z_atFrom_least (z_robs c) 0) (fun i => by simp)
theorem z_everFrom_least (c : z_C) (cl : Nat) (but : Int32) : ∀ (t : Nat) (F : Nat → Prop) (o : Option Nat), z_least F o → z_least (fun i => (∃ u, u ≤ t ∧ ∃ r, (z_robs c)[i]? = some r ∧ nI i ≠ but ∧ z_ahead r u = cl) ∨ F i) (z_everFrom c cl but t o) := by
  intro t
  induction t with
  | zero =>
    intro F o h
    refine z_least_congr (z_least_low (z_robotAt_least c cl 0 but) h) (fun i => ?_)
    constructor
    · rintro (z | z)
      · exact Or.inl ⟨0, Nat.le_refl _, z⟩
      · exact Or.inr z
    · rintro (⟨u, hu, z⟩ | z)
      · rw [show u = 0 by omega] at z
        exact Or.inl z
      · exact Or.inr z
  | succ t ih =>
    intro F o h
    rw [z_everFrom]
    refine z_least_congr (ih _ _ (z_least_low (z_robotAt_least c cl (t + 1) but) h)) (fun i => ?_)
    constructor
    · rintro (⟨u, hu, z⟩ | z | z)
      · exact Or.inl ⟨u, by omega, z⟩
      · exact Or.inl ⟨t + 1, Nat.le_refl _, z⟩
      · exact Or.inr z
    · rintro (⟨u, hu, z⟩ | z)
      · by_cases e : u = t + 1
        · rw [e] at z; exact Or.inr (Or.inl z)
        · exact Or.inl ⟨u, by omega, z⟩
      · exact Or.inr (Or.inr z)
theorem z_robotEver_least (c : z_C) (cl : Nat) (but : Int32) : z_least (fun i => ∃ u, u ≤ 30 ∧ ∃ r, (z_robs c)[i]? = some r ∧ nI i ≠ but ∧ z_ahead r u = cl) (z_robotEver c cl but) :=
  z_least_congr (z_everFrom_least c cl but 30 (fun _ => False) none (fun _ z => z)) (fun i => by simp)
theorem z_ev_iff {r : z_R} {cl : Nat} : ∀ (n t : Nat), z_ev r cl n t = true ↔ ∃ u, t ≤ u ∧ u < t + n ∧ z_ahead r u = cl := by
  intro n
  induction n with
  | zero => intro t; simp only [z_ev, Bool.false_eq_true, false_iff]; rintro ⟨u, h1, h2, -⟩; omega
  | succ n ih =>
    intro t
    rw [z_ev, Bool.or_eq_true, decide_eq_true_eq, ih]
    constructor
    · rintro (z | ⟨u, h1, h2, h3⟩)
      · exact ⟨t, Nat.le_refl _, by omega, z⟩
      · exact ⟨u, by omega, by omega, h3⟩
    · rintro ⟨u, h1, h2, h3⟩
      by_cases e : u = t
      · rw [e] at h3; exact Or.inl h3
      · exact Or.inr ⟨u, by omega, by omega, h3⟩
theorem z_wFrom_least {cl t : Nat} {but : Int32} (ht : t ≤ 32) : ∀ (rs : List z_R) (k : Nat), z_least (fun i => k ≤ i ∧ ∃ r, rs[i - k]? = some r ∧ nI i ≠ but ∧ ∃ u, t ≤ u ∧ u < 32 ∧ z_ahead r u = cl) (z_wFrom cl t but k rs) := by
  intro rs
  induction rs with
  | nil => intro k i z; obtain ⟨-, r, h, -⟩ := z; cases h
  | cons r rs ih =>
    intro k
    rw [z_wFrom]
    have e32 : t + (32 - t) = 32 := by omega
    split
    · rename_i h
      rw [z_ev_iff, e32] at h
      exact ⟨⟨Nat.le_refl _, r, by simp, h.2, h.1⟩, fun i hi z => by omega⟩
    · rename_i h
      rw [z_ev_iff, e32] at h
      refine z_least_congr (ih (k + 1)) (fun i => ?_)
      constructor
      · rintro ⟨h1, r', h2, h3⟩
        refine ⟨by omega, r', ?_, h3⟩
        rw [show i - k = (i - (k + 1)) + 1 by omega, List.getElem?_cons_succ]
        exact h2
      · rintro ⟨h1, r', h2, h3⟩
        by_cases e : i = k
        · subst e
          rw [Nat.sub_self, List.getElem?_cons_zero] at h2
          cases h2
          exact absurd ⟨h3.2, h3.1⟩ h
        · refine ⟨by omega, r', ?_, h3⟩
          rw [show i - k = (i - (k + 1)) + 1 by omega, List.getElem?_cons_succ] at h2
          exact h2
theorem z_wil_least (c : z_C) (cl : Nat) {t : Nat} (but : Int32) (ht : t ≤ 32) : z_least (fun i => ∃ r, (z_robs c)[i]? = some r ∧ nI i ≠ but ∧ ∃ u, t ≤ u ∧ u < 32 ∧ z_ahead r u = cl) (z_wil c cl t but) :=
  z_least_congr (z_wFrom_least ht (z_robs c) 0) (fun i => by simp)
/-- from tick 30 on a robot is where it then is -/
theorem z_ahead_30 {r : z_R} (h : (z_plan r).length ≤ 30) {t : Nat} (ht : 30 ≤ t) : z_ahead r t = z_ahead r 30 := by
  unfold z_ahead
  rw [if_neg (by omega), if_neg (by decide), Nat.min_eq_right (by omega), Nat.min_eq_right h]
theorem z_ahead_end {r : z_R} {t u : Nat} (ht : (z_plan r).length ≤ t) (h : t ≤ u) : z_ahead r u = z_ahead r t := by
  unfold z_ahead
  by_cases h0 : t = 0
  · subst h0
    have : z_plan r = [] := List.eq_nil_of_length_eq_zero (by omega)
    rw [if_pos rfl, this]
    split <;> simp
  · rw [if_neg (by omega), if_neg h0, Nat.min_eq_right (by omega), Nat.min_eq_right ht]
theorem z_wil_0 {c : z_C} (hs : z_small c) (cl : Nat) (but : Int32) : z_wil c cl 0 but = z_robotEver c cl but := by
  refine z_least_eq (z_wil_least c cl but (by decide)) (z_robotEver_least c cl but) (fun i => ?_)
  constructor
  · rintro ⟨r, h1, h2, u, -, -, h3⟩
    have hp := (hs.2.2.2.2.2.2.1 r (List.mem_of_getElem? h1)).2.2.1
    by_cases hu : u ≤ 30
    · exact ⟨u, hu, r, h1, h2, h3⟩
    · exact ⟨30, Nat.le_refl _, r, h1, h2, by rw [← z_ahead_30 hp (show 30 ≤ u by omega)]; exact h3⟩
  · rintro ⟨u, hu, r, h1, h2, h3⟩
    exact ⟨r, h1, h2, u, Nat.zero_le _, by omega, h3⟩
theorem z_wil_1 {c : z_C} (hs : z_small c) (ha : z_apart c) {k : Nat} {r0 : z_R} (hk : (z_robs c)[k]? = some r0) : z_wil c (z_cell r0) 1 (nI k) = z_robotEver c (z_cell r0) (nI k) := by
  refine z_least_eq (z_wil_least c _ _ (by decide)) (z_robotEver_least c _ _) (fun i => ?_)
  constructor
  · rintro ⟨r, h1, h2, u, -, -, h3⟩
    have hp := (hs.2.2.2.2.2.2.1 r (List.mem_of_getElem? h1)).2.2.1
    by_cases hu : u ≤ 30
    · exact ⟨u, hu, r, h1, h2, h3⟩
    · exact ⟨30, Nat.le_refl _, r, h1, h2, by rw [← z_ahead_30 hp (show 30 ≤ u by omega)]; exact h3⟩
  · rintro ⟨u, hu, r, h1, h2, h3⟩
    by_cases h0 : u = 0
    · exfalso
      subst h0
      have := ha i k 0 r r0 h1 hk (by rw [h3]; rfl)
      exact h2 (congrArg nI this)
    · exact ⟨r, h1, h2, u, by omega, by omega, h3⟩
/-- no robot, but one, is ever in the cell -/
theorem z_ever_none {c : z_C} (hs : z_small c) {cl : Nat} {but : Int32} (h : z_robotEver c cl but = none) {i t : Nat} {r : z_R} (hi : (z_robs c)[i]? = some r) (hb : nI i ≠ but) : z_ahead r t ≠ cl := by
  have h1 := z_robotEver_least c cl but
  rw [h] at h1
  intro e
  have hp := (hs.2.2.2.2.2.2.1 r (List.mem_of_getElem? hi)).2.2.1
  by_cases hu : t ≤ 30
  · exact h1 i ⟨t, hu, r, hi, hb, e⟩
  · exact h1 i ⟨30, Nat.le_refl _, r, hi, hb, by rw [← z_ahead_30 hp (show 30 ≤ t by omega)]; exact e⟩
