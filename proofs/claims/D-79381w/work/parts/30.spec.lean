/-! ===== the warehouse in plain words: robots, orders, the core ===== -/
set_option maxRecDepth 100000
/-- a robot: cell, battery, order, steps, the cells of its plan from the next tick on, what a step costs -/
abbrev z_R : Type := Nat × Int32 × Option Nat × Int32 × List Nat × Int32
def z_cell (r : z_R) : Nat := r.1
def z_batt (r : z_R) : Int32 := r.2.1
def z_has (r : z_R) : Option Nat := r.2.2.1
def z_steps (r : z_R) : Int32 := r.2.2.2.1
def z_plan (r : z_R) : List Nat := r.2.2.2.2.1
def z_cost (r : z_R) : Int32 := r.2.2.2.2.2
/-- a number or none, as the programs write it -/
def z_enc (o : Option Nat) : Int32 := match o with
  | none => -1
  | some k => nI k
/-- where a robot is in t ticks -/
def z_ahead (r : z_R) (t : Nat) : Nat := if t = 0 then z_cell r else (z_plan r).getD (min t (z_plan r).length - 1) (z_cell r)
/-- one tick of a plan -/
def z_goOn (r : z_R) : z_R := match z_plan r with
  | [] => r
  | c :: p => (c, if c = z_cell r then z_batt r else z_batt r - z_cost r, z_has r, if c = z_cell r then z_steps r else z_steps r + 1, p, z_cost r)
/-- an order: when it is due, its lines, how many are picked, its state (0 waits, 1 under way, 2 delivered), when it was delivered -/
abbrev z_O : Type := Int32 × List Nat × Nat × Nat × Int32
def z_due (o : z_O) : Int32 := o.1
def z_lines (o : z_O) : List Nat := o.2.1
def z_picked (o : z_O) : Nat := o.2.2.1
def z_state (o : z_O) : Nat := o.2.2.2.1
def z_del (o : z_O) : Int32 := o.2.2.2.2
/-- the core: rows, columns, kinds, robots, orders, settings, closed cells, the tick -/
abbrev z_C : Type := Nat × Nat × (Nat → Int32) × List z_R × List z_O × (Nat → Int32) × Int64 × Int32
def z_rows (c : z_C) : Nat := c.1
def z_cols (c : z_C) : Nat := c.2.1
def z_kinds (c : z_C) : Nat → Int32 := c.2.2.1
def z_robs (c : z_C) : List z_R := c.2.2.2.1
def z_ords (c : z_C) : List z_O := c.2.2.2.2.1
def z_sets (c : z_C) : Nat → Int32 := c.2.2.2.2.2.1
def z_closed (c : z_C) : Int64 := c.2.2.2.2.2.2.1
def z_now (c : z_C) : Int32 := c.2.2.2.2.2.2.2
theorem w_lcmp0 (x y : Int64) : lg_cmp x y = 0 ↔ x = y := by
  constructor
  · intro h
    have h1 := (lg_cmp_ge x y).mp (by rw [h]; decide)
    have h2 := (lg_cmp_le x y).mp (by rw [h]; decide)
    exact Int64.le_antisymm h2 h1
  · rintro rfl
    have h1 := (lg_cmp_ge x x).mpr (Int64.le_refl x)
    have h2 := (lg_cmp_le x x).mpr (Int64.le_refl x)
    exact Int32.le_antisymm h2 h1
def z_size (c : z_C) : Nat := z_rows c * z_cols c
/-- an int as an index below n -/
def z_idx (x : Int32) (n : Nat) : Option Nat := if 0 ≤ x ∧ x < nI n then some x.toNatClampNeg else none
theorem z_idx_some {x : Int32} {n j : Nat} (hn : n < 2 ^ 31) : z_idx x n = some j ↔ j < n ∧ x = nI j := by
  unfold z_idx
  constructor
  · intro h
    split at h
    · rename_i h1
      obtain ⟨i, hi, rfl⟩ := nI_of (Int32.not_lt.mpr h1.1)
      rw [nI_clamp hi] at h
      cases h
      exact ⟨(nI_ltI hi hn).mp h1.2, rfl⟩
    · cases h
  · rintro ⟨h1, rfl⟩
    rw [if_pos ⟨nI_pos' (by omega), nI_lt h1 hn⟩, nI_clamp (by omega)]
theorem z_idx_none {x : Int32} {n : Nat} (hn : n < 2 ^ 31) : z_idx x n = none ↔ ¬ (0 ≤ x ∧ x ≤ nI n - 1) := by
  have e : (0 ≤ x ∧ x ≤ nI n - 1) ↔ (0 ≤ x ∧ x < nI n) := by
    constructor
    · rintro ⟨h1, h2⟩
      obtain ⟨i, hi, rfl⟩ := nI_of (Int32.not_lt.mpr h1)
      refine ⟨h1, ?_⟩
      cases n with
      | zero =>
        exfalso
        have : (nI i).toInt ≤ (nI 0 - 1).toInt := Int32.le_iff_toInt_le.mp h2
        rw [nI_toInt hi, show (nI 0 - 1).toInt = -1 by decide] at this
        omega
      | succ m =>
        rw [nI_pred] at h2
        have := (nI_leI hi (by omega)).mp h2
        exact nI_lt (by omega) hn
    · rintro ⟨h1, h2⟩
      obtain ⟨i, hi, rfl⟩ := nI_of (Int32.not_lt.mpr h1)
      have h3 := (nI_ltI hi hn).mp h2
      refine ⟨h1, ?_⟩
      obtain ⟨m, rfl⟩ : ∃ m, n = m + 1 := ⟨n - 1, by omega⟩
      rw [nI_pred]
      exact nI_le (by omega) (by omega)
  rw [e]
  unfold z_idx
  split
  · rename_i h; simp [h]
  · rename_i h; simp [h]
theorem z_idx_lt {x : Int32} {n j : Nat} (hn : n < 2 ^ 31) (h : z_idx x n = some j) : j < n := ((z_idx_some hn).mp h).1
theorem z_idx_eq {x : Int32} {n j : Nat} (hn : n < 2 ^ 31) (h : z_idx x n = some j) : x = nI j := ((z_idx_some hn).mp h).2
/-- whether a cell's bit is set -/
def z_bit (w : Int64) (k : Nat) : Bool := decide (((w >>> ((nI k).toInt64 &&& 63)) &&& 1) = 1)
def z_free (c : z_C) (k : Nat) : Bool := decide (z_kinds c k ≠ 1) && !z_bit (z_closed c) k
/-- the cell above (0), to the right (1), below (2), to the left (3) -/
def z_beside (rows cols j w : Nat) : Option Nat := match w with
  | 0 => if cols ≤ j then some (j - cols) else none
  | 1 => if j % cols + 1 < cols then some (j + 1) else none
  | 2 => if j / cols + 1 < rows then some (j + cols) else none
  | _ => if 0 < j % cols then some (j - 1) else none
/-- .. that can be entered -/
def z_nb (c : z_C) (j w : Nat) : Option Nat := match z_beside (z_rows c) (z_cols c) j w with
  | none => none
  | some t => if z_free c t then some t else none
/-- the lowest robot from the k-th on, but one, that is in a cell in t ticks -/
def z_atFrom : Nat → List z_R → Nat → Nat → Int32 → Option Nat
  | _, [], _, _, _ => none
  | k, r :: rs, cl, t, but => if nI k ≠ but ∧ z_ahead r t = cl then some k else z_atFrom (k + 1) rs cl t but
def z_robotAt (c : z_C) (cell t : Nat) (but : Int32) : Option Nat := z_atFrom 0 (z_robs c) cell t but
/-- the lower of two, none being no robot -/
def z_low : Option Nat → Option Nat → Option Nat
  | none, b => b
  | some a, none => some a
  | some a, some b => if a < b then some a else some b
/-- over the ticks t, t - 1 .. 0 -/
def z_everFrom (c : z_C) (cell : Nat) (but : Int32) : Nat → Option Nat → Option Nat
  | 0, f => z_low (z_robotAt c cell 0 but) f
  | t + 1, f => z_everFrom c cell but t (z_low (z_robotAt c cell (t + 1) but) f)
def z_robotEver (c : z_C) (cell : Nat) (but : Int32) : Option Nat := z_everFrom c cell but 30 none
/-- what the numbers of a core are bound by -/
def z_small (c : z_C) : Prop := 0 < z_rows c ∧ z_rows c ≤ 6 ∧ 0 < z_cols c ∧ z_cols c ≤ 8 ∧ (z_robs c).length ≤ 6 ∧ (z_ords c).length ≤ 10 ∧ (∀ r ∈ z_robs c, z_cell r < z_size c ∧ (∀ q ∈ z_plan r, q < z_size c) ∧ (z_plan r).length ≤ 30 ∧ ∀ k, z_has r = some k → k < (z_ords c).length) ∧ (∀ o ∈ z_ords c, z_picked o ≤ (z_lines o).length ∧ (z_lines o).length ≤ 3 ∧ 0 < (z_lines o).length ∧ (∀ q ∈ z_lines o, q < z_size c) ∧ z_state o ≤ 2)
theorem z_small.size {c : z_C} (h : z_small c) : 0 < z_size c ∧ z_size c ≤ 48 := by
  obtain ⟨h1, h2, h3, h4, -⟩ := h
  exact ⟨Nat.mul_pos h1 h3, Nat.le_trans (Nat.mul_le_mul h2 h4) (by decide)⟩
theorem z_ahead_lt {c : z_C} (h : z_small c) {r : z_R} (hr : r ∈ z_robs c) (t : Nat) : z_ahead r t < z_size c := by
  obtain ⟨h1, h2, -⟩ := h.2.2.2.2.2.2.1 r hr
  unfold z_ahead
  split
  · exact h1
  · rw [List.getD_eq_getElem?_getD]
    cases hx : (z_plan r)[min t (z_plan r).length - 1]? with
    | none => exact h1
    | some q => exact h2 q (List.mem_of_getElem? hx)
theorem z_atFrom_lt {cl t : Nat} {but : Int32} : ∀ (rs : List z_R) (k j : Nat), z_atFrom k rs cl t but = some j → k ≤ j ∧ j < k + rs.length := by
  intro rs
  induction rs with
  | nil => intro k j h; cases h
  | cons r rs ih =>
    intro k j h
    rw [z_atFrom] at h
    split at h
    · cases h
      simp
    · have := ih (k + 1) j h
      simp only [List.length_cons]
      omega
theorem z_robotAt_lt {c : z_C} {cl t j : Nat} {but : Int32} (h : z_robotAt c cl t but = some j) : j < (z_robs c).length := by
  have := (z_atFrom_lt _ _ _ h).2
  omega
theorem z_enc_m1 {g : Option Nat} (hg : ∀ k, g = some k → k < 2 ^ 31) : z_enc g = -1 ↔ g = none := by
  cases g with
  | none => simp [z_enc]
  | some k =>
    simp only [z_enc, reduceCtorEq, iff_false]
    intro q
    have h1 := nI_toInt (hg k rfl)
    rw [q] at h1
    have : (-1 : Int32).toInt = -1 := by decide
    omega
theorem z_low_enc {g f : Option Nat} (hg : ∀ k, g = some k → k < 2 ^ 31) (hf : ∀ k, f = some k → k < 2 ^ 31) : z_enc (z_low g f) = if z_enc g ≠ -1 ∧ (z_enc f = -1 ∨ z_enc g < z_enc f) then z_enc g else z_enc f := by
  simp only [ne_eq, z_enc_m1 hg, z_enc_m1 hf]
  cases g with
  | none => simp [z_low]
  | some a =>
    cases f with
    | none => simp [z_low]
    | some b =>
      have : z_enc (some a) < z_enc (some b) ↔ a < b := nI_ltI (hg a rfl) (hf b rfl)
      simp only [this]
      by_cases h : a < b <;> simp [z_low, h]
theorem z_low_lt {g f : Option Nat} {n : Nat} (hg : ∀ k, g = some k → k < n) (hf : ∀ k, f = some k → k < n) : ∀ k, z_low g f = some k → k < n := by
  intro k h
  cases g with
  | none => exact hf k h
  | some a =>
    cases f with
    | none => exact hg k h
    | some b =>
      simp only [z_low] at h
      split at h
      · exact hg k h
      · exact hf k h
theorem z_everFrom_lt {c : z_C} {cl : Nat} {but : Int32} : ∀ (t : Nat) (f : Option Nat), (∀ k, f = some k → k < (z_robs c).length) → ∀ k, z_everFrom c cl but t f = some k → k < (z_robs c).length := by
  intro t
  induction t with
  | zero => intro f hf; exact z_low_lt (fun k h => z_robotAt_lt h) hf
  | succ t ih => intro f hf; exact ih _ (z_low_lt (fun k h => z_robotAt_lt h) hf)
theorem z_robotEver_lt {c : z_C} {cl : Nat} {but : Int32} {k : Nat} (h : z_robotEver c cl but = some k) : k < (z_robs c).length := z_everFrom_lt 30 none (fun _ h => by cases h) k h
/-- whether a robot has an order of which something is picked -/
def z_loaded (c : z_C) (r : z_R) : Bool := match z_has r with
  | none => false
  | some o => match (z_ords c)[o]? with
    | none => false
    | some od => decide (0 < z_picked od)
