/-! ===== the Model's search for a plan agrees with the component's ===== -/
set_option maxRecDepth 100000
theorem z_lastN_0 {c : z_C} {k t q : Nat} : ∀ n, z_lastN c k t q n = 0 ↔ ∀ i, i < n → i ≠ k → ∀ r, (z_robs c)[i]? = some r → z_ahead r t ≠ q := by
  intro n
  induction n with
  | zero => exact ⟨fun _ i hi => absurd hi (Nat.not_lt_zero i), fun _ => rfl⟩
  | succ n ih =>
    rw [z_lastN]
    split
    · rename_i h
      constructor
      · intro z; omega
      · intro z
        cases hr : (z_robs c)[n]? with
        | none => rw [hr] at h; cases h.2
        | some r =>
          rw [hr] at h
          exact absurd (Option.some.inj h.2) (z n (Nat.lt_succ_self n) h.1 r hr)
    · rename_i h
      rw [ih]
      constructor
      · intro z i hi hk r hr e
        by_cases hn : i = n
        · subst hn
          exact h ⟨hk, by rw [hr]; exact congrArg some e⟩
        · exact z i (by omega) hk r hr e
      · intro z i hi
        exact z i (by omega)
theorem z_last_0 {c : z_C} {k t q : Nat} : z_last c k t q = 0 ↔ ∀ (i : Nat) (r : z_R), i ≠ k → (z_robs c)[i]? = some r → z_ahead r t ≠ q := by
  unfold z_last
  rw [z_lastN_0]
  constructor
  · intro z i r hk hr
    exact z i (List.getElem?_eq_some_iff.mp hr).1 hk r hr
  · intro z i _ hk r hr
    exact z i r hk hr
theorem z_lastN_at {c : z_C} {k t q : Nat} : ∀ n j, z_lastN c k t q n = j + 1 → j < n ∧ j ≠ k ∧ ∃ r, (z_robs c)[j]? = some r ∧ z_ahead r t = q := by
  intro n
  induction n with
  | zero => intro j h; cases h
  | succ n ih =>
    intro j h
    rw [z_lastN] at h
    split at h
    · rename_i hc
      have e : n = j := by omega
      subst e
      cases hr : (z_robs c)[n]? with
      | none => rw [hr] at hc; cases hc.2
      | some r =>
        rw [hr] at hc
        exact ⟨Nat.lt_succ_self _, hc.1, r, rfl, Option.some.inj hc.2⟩
    · obtain ⟨h1, h2⟩ := ih j h
      exact ⟨by omega, h2⟩
/-- with robots apart, the one in a cell is the last one there -/
theorem z_last_is {c : z_C} (ha : z_apart c) {k t q i : Nat} {r : z_R} (hk : i ≠ k) (hr : (z_robs c)[i]? = some r) (he : z_ahead r t = q) : z_last c k t q = i + 1 := by
  cases h : z_last c k t q with
  | zero => exact absurd he (z_last_0.mp h i r hk hr)
  | succ j =>
    obtain ⟨-, -, r', h2, h3⟩ := z_lastN_at _ _ h
    rw [ha i j t r r' hr h2 (he.trans h3.symm)]
theorem z_clear_iff {c : z_C} {k p q t : Nat} : ∀ n, z_clear c k p q t n = true ↔ ∀ i, i < n → i ≠ k → ∀ r, (z_robs c)[i]? = some r → z_ahead r (t + 1) ≠ q ∧ ¬ (z_ahead r (t + 1) = p ∧ z_ahead r t = q) := by
  intro n
  induction n with
  | zero => exact ⟨fun _ i hi => absurd hi (Nat.not_lt_zero i), fun _ => rfl⟩
  | succ n ih =>
    rw [z_clear, Bool.and_eq_true, ih]
    constructor
    · rintro ⟨h1, h2⟩ i hi hk r hr
      by_cases hn : i = n
      · subst hn
        rw [hr] at h2
        simp [hk] at h2
        exact ⟨h2.1, fun z => h2.2.elim (fun y => y z.1) (fun y => y z.2)⟩
      · exact h1 i (by omega) hk r hr
    · intro h
      refine ⟨fun i hi => h i (by omega), ?_⟩
      by_cases hk : n = k
      · simp [hk]
      · cases hr : (z_robs c)[n]? with
        | none => simp
        | some r =>
          obtain ⟨h1, h2⟩ := h n (Nat.lt_succ_self n) hk r hr
          simp only [hk, decide_false, Bool.false_or, Bool.and_eq_true, Bool.not_eq_true', decide_eq_false_iff_not, Bool.and_eq_false_iff]
          refine ⟨h1, ?_⟩
          by_cases h3 : z_ahead r (t + 1) = p
          · exact Or.inr (fun z => h2 ⟨h3, z⟩)
          · exact Or.inl h3
theorem z_may_iff {c : z_C} (ha : z_apart c) {k t p q : Nat} : z_may c k t p q = z_clear c k p q t (z_robs c).length := by
  rw [Bool.eq_iff_iff, z_clear_iff]
  unfold z_may
  simp only [Bool.and_eq_true, decide_eq_true_eq, Bool.or_eq_true, Bool.not_eq_true', decide_eq_false_iff_not]
  constructor
  · rintro ⟨h1, h2⟩ i hi hk r hr
    have h3 := z_last_0.mp h1 i r hk hr
    refine ⟨h3, fun z => ?_⟩
    rcases h2 with (h2 | h2) | h2
    · exact z_last_0.mp h2 i r hk hr z.2
    · exact h3 (z.1.trans h2)
    · exact h2 ((z_last_is ha hk hr z.1).trans (z_last_is ha hk hr z.2).symm)
  · intro h
    have h1 : z_last c k (t + 1) q = 0 := z_last_0.mpr (fun i r hk hr => (h i (List.getElem?_eq_some_iff.mp hr).1 hk r hr).1)
    refine ⟨h1, ?_⟩
    by_cases h2 : z_last c k t q = 0
    · exact Or.inl (Or.inl h2)
    · refine Or.inr (fun e => ?_)
      obtain ⟨j, hj⟩ : ∃ j, z_last c k t q = j + 1 := ⟨z_last c k t q - 1, by omega⟩
      obtain ⟨hjl, hjk, r, hr, he⟩ := z_lastN_at _ _ hj
      rw [hj] at e
      obtain ⟨-, -, r', hr', he'⟩ := z_lastN_at _ _ e
      rw [hr] at hr'
      cases hr'
      exact (h j hjl hjk r hr).2 ⟨he', he⟩
theorem z_mgo_iff {c : z_C} (ha : z_apart c) {k t p q : Nat} : z_mgo c k p q t = (z_free c q && z_may c k t p q) := by rw [z_may_iff ha]; rfl
/-- a way back -/
theorem z_beside_back {rows cols p q w : Nat} (hc : 0 < cols) (hp : p < rows * cols) (hw : w < 4) (h : z_beside rows cols p w = some q) : ∃ v, v < 4 ∧ z_beside rows cols q v = some p := by
  have hm := Nat.mod_lt p hc
  have hd := Nat.div_add_mod p cols
  have hr : p / cols < rows := Nat.div_lt_of_lt_mul (by rw [Nat.mul_comm]; exact hp)
  match w, hw with
  | 0, _ =>
    have h : (if cols ≤ p then some (p - cols) else none) = some q := h
    split at h
    · rename_i hle
      have e := Option.some.inj h
      refine ⟨2, by decide, ?_⟩
      show (if q / cols + 1 < rows then some (q + cols) else none) = some p
      have h1 : q / cols + 1 = p / cols := by rw [← e]; exact (Nat.div_eq_sub_div hc hle).symm
      rw [h1, if_pos hr, ← e]
      congr 1
      omega
    · cases h
  | 1, _ =>
    have h : (if p % cols + 1 < cols then some (p + 1) else none) = some q := h
    split at h
    · rename_i hlt
      have e := Option.some.inj h
      refine ⟨3, by decide, ?_⟩
      show (if 0 < q % cols then some (q - 1) else none) = some p
      have h1 : q % cols = p % cols + 1 := by
        have h0 : q = cols * (p / cols) + (p % cols + 1) := by omega
        rw [h0, Nat.mul_add_mod, Nat.mod_eq_of_lt hlt]
      rw [h1, if_pos (Nat.succ_pos _), ← e]
      rfl
    · cases h
  | 2, _ =>
    have h : (if p / cols + 1 < rows then some (p + cols) else none) = some q := h
    split at h
    · have e := Option.some.inj h
      refine ⟨0, by decide, ?_⟩
      show (if cols ≤ q then some (q - cols) else none) = some p
      rw [if_pos (by omega), ← e]
      congr 1
      omega
    · cases h
  | 3, _ =>
    have h : (if 0 < p % cols then some (p - 1) else none) = some q := h
    split at h
    · rename_i hlt
      have e := Option.some.inj h
      refine ⟨1, by decide, ?_⟩
      show (if q % cols + 1 < cols then some (q + 1) else none) = some p
      have h0 : q = cols * (p / cols) + (p % cols - 1) := by omega
      have h1 : q % cols = p % cols - 1 := by rw [h0, Nat.mul_add_mod, Nat.mod_eq_of_lt (by omega)]
      rw [h1, if_pos (by omega), ← e]
      congr 1
      omega
    · cases h
section SM
variable {c : z_C} {k s g : Nat}
theorem z_bes_back (hs : z_small c) {p q w : Nat} (hp : p < z_size c) (hw : w < 4) (h : z_bes c p w = some q) : ∃ v, v < 4 ∧ z_bes c q v = some p := by
  unfold z_bes at h
  rw [if_neg (by omega)] at h
  obtain ⟨v, h1, h2⟩ := z_beside_back hs.2.2.1 hp hw h
  exact ⟨v, h1, by unfold z_bes; rw [if_neg (by omega)]; exact h2⟩
theorem z_by_iff {p q w : Nat} (hw : w < 5) (hf : z_free c p = true) : z_by c p w = some q ↔ z_bes c p w = some q ∧ z_free c q = true := by
  by_cases h4 : w = 4
  · subst h4
    unfold z_by z_bes
    rw [if_pos rfl, if_pos rfl]
    constructor
    · intro z; cases z; exact ⟨rfl, hf⟩
    · intro z; exact z.1
  · unfold z_by
    rw [if_neg h4, z_bes_nb c p (by omega)]
    cases z_bes c p w with
    | none => simp
    | some x =>
      by_cases hx : z_free c x = true
      · simp only [if_pos hx]
        constructor
        · intro z; cases z; exact ⟨rfl, hx⟩
        · intro z; exact z.1
      · simp only [if_neg hx]
        constructor
        · intro z; cases z
        · intro z; have := Option.some.inj z.1; subst this; exact absurd z.2 hx
theorem z_step_iff (ha : z_apart c) {t p q w : Nat} (hw : w < 5) (hf : z_free c p = true) : z_step c k t p q w = true ↔ z_bes c p w = some q ∧ z_mgo c k p q t = true := by
  unfold z_step
  rw [Bool.and_eq_true, decide_eq_true_eq, z_by_iff hw hf, z_mgo_iff ha, Bool.and_eq_true]
  exact and_assoc
theorem z_reach_free (hf : z_free c s = true) : ∀ t q, z_reach c k s t q = true → z_free c q = true := by
  intro t
  induction t with
  | zero =>
    intro q h
    have : q = s := of_decide_eq_true h
    rw [this]; exact hf
  | succ t ih =>
    intro q h
    rw [z_reach] at h
    obtain ⟨p, hp, h1⟩ := List.any_eq_true.mp h
    rw [Bool.and_eq_true] at h1
    obtain ⟨w, hw, h2⟩ := List.any_eq_true.mp h1.2
    unfold z_step at h2
    rw [Bool.and_eq_true, decide_eq_true_eq] at h2
    exact ((z_by_iff (List.mem_range.mp hw) (ih p h1.1)).mp h2.1).2
theorem z_reach_next {t p q w : Nat} (hp : p < z_size c) (hr : z_reach c k s t p = true) (hw : w < 5) (h : z_step c k t p q w = true) : z_reach c k s (t + 1) q = true := by
  rw [z_reach]
  refine List.any_eq_true.mpr ⟨p, List.mem_range.mpr hp, ?_⟩
  rw [Bool.and_eq_true]
  exact ⟨hr, List.any_eq_true.mpr ⟨w, List.mem_range.mpr hw, h⟩⟩
/-- the Model's question whether a plan can end behind the tick t -/
def z_canW (c : z_C) (k s g t : Nat) : Nat → Bool
  | 0 => false
  | w + 1 => z_canW c k s g t w || match z_bes c g w with
    | none => false
    | some p => z_reach c k s t p && z_mgo c k p g t
theorem z_canW_iff {t : Nat} : ∀ n, z_canW c k s g t n = true ↔ ∃ w p, w < n ∧ z_bes c g w = some p ∧ z_reach c k s t p = true ∧ z_mgo c k p g t = true := by
  intro n
  induction n with
  | zero => simp [z_canW]
  | succ n ih =>
    rw [z_canW, Bool.or_eq_true, ih]
    constructor
    · rintro (⟨w, p, h1, h2⟩ | h)
      · exact ⟨w, p, by omega, h2⟩
      · cases hb : z_bes c g n with
        | none => rw [hb] at h; cases h
        | some p =>
          rw [hb, Bool.and_eq_true] at h
          exact ⟨n, p, Nat.lt_succ_self n, hb, h⟩
    · rintro ⟨w, p, h1, h2, h3⟩
      by_cases e : w = n
      · subst e
        refine Or.inr ?_
        rw [h2, Bool.and_eq_true]
        exact h3
      · exact Or.inl ⟨w, p, by omega, h2, h3⟩
theorem z_stay_iff (hs : z_small c) (hk : k < (z_robs c).length) {t : Nat} (ht : t + 1 ≤ 31) : z_stay c k g t = true ↔ z_wil c g (t + 1) (nI k) = none := by
  have h6 : (z_robs c).length ≤ 6 := hs.2.2.2.2.1
  have hl := z_wil_least c g (t := t + 1) (nI k) (by omega)
  have hne : ∀ i : Nat, i < (z_robs c).length → (nI i ≠ nI k ↔ i ≠ k) := fun i hi => not_congr (nI_eq (by omega) (by omega))
  have e1 : z_stay c k g t = true ↔ ∀ (i u : Nat) (r : z_R), (z_robs c)[i]? = some r → i ≠ k → t < u → u ≤ 31 → z_ahead r u ≠ g := by
    unfold z_stay
    rw [Bool.and_eq_true, List.all_eq_true, decide_eq_true_eq]
    constructor
    · rintro ⟨h1, h2⟩ i u r hr hi hu hu2
      by_cases hu3 : u ≤ 30
      · have h3 := h1 u (List.mem_range.mpr (by omega))
        rw [Bool.or_eq_true, decide_eq_true_eq, decide_eq_true_eq] at h3
        exact z_last_0.mp (h3.elim (fun z => absurd z (by omega)) id) i r hi hr
      · have hp := (hs.2.2.2.2.2.2.1 r (List.mem_of_getElem? hr)).2.2.1
        rw [z_ahead_30 hp (show 30 ≤ u by omega)]
        exact z_last_0.mp h2 i r hi hr
    · intro h
      constructor
      · intro u hu
        have hu := List.mem_range.mp hu
        rw [Bool.or_eq_true, decide_eq_true_eq, decide_eq_true_eq]
        by_cases hut : u ≤ t
        · exact Or.inl hut
        · exact Or.inr (z_last_0.mpr (fun i r hi hr => h i u r hr hi (by omega) (by omega)))
      · refine z_last_0.mpr (fun i r hi hr => ?_)
        have hp := (hs.2.2.2.2.2.2.1 r (List.mem_of_getElem? hr)).2.2.1
        have := h i 31 r hr hi (by omega) (Nat.le_refl _)
        rw [z_ahead_30 hp (by decide)] at this
        exact this
  rw [e1]
  cases hw : z_wil c g (t + 1) (nI k) with
  | none =>
    rw [hw] at hl
    refine iff_of_true (fun i u r hr hi h1 h2 e => ?_) rfl
    exact hl i ⟨r, hr, (hne i (List.getElem?_eq_some_iff.mp hr).1).mpr hi, u, by omega, by omega, e⟩
  | some j =>
    rw [hw] at hl
    obtain ⟨⟨r, hr, hi, u, h1, h2, h3⟩, -⟩ := hl
    refine iff_of_false (fun z => ?_) (fun z => by cases z)
    exact z j u r hr ((hne j (List.getElem?_eq_some_iff.mp hr).1).mp hi) (by omega) (by omega) h3
theorem z_hasEnd_m (hs : z_small c) (ha : z_apart c) (hk : k < (z_robs c).length) (hf : z_free c s = true) (hg : g < z_size c) (hss : s < z_size c) {t : Nat} (ht : t ≤ 29) : z_hasEnd c k s g t = (z_canW c k s g t 4 && decide (z_wil c g (t + 2) (nI k) = none)) := by
  have hst := z_stay_iff (g := g) hs hk (t := t + 1) (by omega)
  rw [Bool.eq_iff_iff, Bool.and_eq_true, decide_eq_true_eq, ← hst, z_canW_iff]
  unfold z_hasEnd z_endAt z_isEnd
  constructor
  · intro h
    obtain ⟨p, hp, h1⟩ := List.any_eq_true.mp h
    have hp := List.mem_range.mp hp
    rw [Bool.and_eq_true] at h1
    obtain ⟨w, hw, h2⟩ := List.any_eq_true.mp h1.2
    have hw := List.mem_range.mp hw
    rw [Bool.and_eq_true, Bool.and_eq_true, Bool.and_eq_true, decide_eq_true_eq, Bool.not_eq_true', decide_eq_false_iff_not] at h2
    obtain ⟨h3, h4, h5, h6⟩ := h2
    have hfp := z_reach_free hf t p h1.1
    obtain ⟨h7, h8⟩ := (z_by_iff hw hfp).mp h3
    have hw4 : w < 4 := by
      have : w ≠ 4 := fun e => by subst e; unfold z_bes at h7; rw [if_pos rfl] at h7; exact h4 (Option.some.inj h7)
      omega
    obtain ⟨v, hv, h9⟩ := z_bes_back hs hp hw4 h7
    exact ⟨⟨v, p, hv, h9, h1.1, by rw [z_mgo_iff ha, h8, h5]; rfl⟩, h6⟩
  · rintro ⟨⟨w, p, hw, h1, h2, h3⟩, h4⟩
    have hp := z_bes_lt hs hg h1
    obtain ⟨v, hv, h5⟩ := z_bes_back hs hg hw h1
    have hfp := z_reach_free hf t p h2
    rw [z_mgo_iff ha, Bool.and_eq_true] at h3
    have hne : p ≠ g := by
      intro e
      subst e
      unfold z_bes at h1
      rw [if_neg (by omega)] at h1
      have hm := Nat.mod_lt p hs.2.2.1
      unfold z_beside at h1
      have hc := hs.2.2.1
      have hml := Nat.mod_le p (z_cols c)
      split at h1 <;> split at h1 <;> first
        | (have e := Option.some.inj h1; omega)
        | cases h1
    refine List.any_eq_true.mpr ⟨p, List.mem_range.mpr hp, ?_⟩
    rw [Bool.and_eq_true]
    refine ⟨h2, List.any_eq_true.mpr ⟨v, List.mem_range.mpr (by omega), ?_⟩⟩
    rw [Bool.and_eq_true, Bool.and_eq_true, Bool.and_eq_true, decide_eq_true_eq, Bool.not_eq_true', decide_eq_false_iff_not]
    exact ⟨(z_by_iff (by omega) hfp).mpr ⟨h5, h3.1⟩, hne, h3.2, h4⟩
end SM
