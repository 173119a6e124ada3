/-! ===== Long.bitCount counts the bits ===== -/
set_option maxRecDepth 100000
/-- a number's digits, each put through g -/
def z_dig (B : Nat) (g : Nat → Nat) : Nat → Nat → Nat
  | 0, _ => 0
  | n + 1, x => g (x % B) + B * z_dig B g n (x / B)
/-- the digit m, n times -/
def z_msk (B m : Nat) : Nat → Nat
  | 0 => 0
  | n + 1 => m + B * z_msk B m n
/-- the sum of the digits -/
def z_dsum (B : Nat) : Nat → Nat → Nat
  | 0, _ => 0
  | n + 1, x => x % B + z_dsum B n (x / B)
theorem z_and_dig {s : Nat} {a m M : Nat} (hm : m < 2 ^ s) : a &&& (m + 2 ^ s * M) = (a % 2 ^ s &&& m) + 2 ^ s * (a / 2 ^ s &&& M) := by
  have hp : 0 < 2 ^ s := Nat.two_pow_pos s
  have h1 := Nat.div_add_mod (a &&& (m + 2 ^ s * M)) (2 ^ s)
  rw [Nat.and_div_two_pow, Nat.and_mod_two_pow, Nat.add_mul_div_left _ _ hp, Nat.div_eq_of_lt hm, Nat.zero_add, Nat.add_mul_mod_self_left, Nat.mod_eq_of_lt hm] at h1
  omega
theorem z_step1 : ∀ (n x : Nat), (x / 2 &&& z_msk 4 1 n) = z_dig 4 (· / 2) n x := by
  intro n
  induction n with
  | zero => intro x; exact Nat.and_zero _
  | succ n ih =>
    intro x
    rw [z_msk, z_dig, z_and_dig (s := 2) (by decide), show x / 2 / 2 ^ 2 = x / 4 / 2 by omega, ih, Nat.and_one_is_mod]
    omega
theorem z_step2a : ∀ (n x : Nat), (x &&& z_msk 16 3 n) = z_dig 16 (· % 4) n x := by
  intro n
  induction n with
  | zero => intro x; exact Nat.and_zero _
  | succ n ih =>
    intro x
    rw [z_msk, z_dig, z_and_dig (s := 4) (by decide), show (2 : Nat) ^ 4 = 16 from rfl, ih, show (3 : Nat) = 2 ^ 2 - 1 from rfl, Nat.and_two_pow_sub_one_eq_mod]
theorem z_step2b : ∀ (n x : Nat), (x / 4 &&& z_msk 16 3 n) = z_dig 16 (· / 4) n x := by
  intro n
  induction n with
  | zero => intro x; exact Nat.and_zero _
  | succ n ih =>
    intro x
    rw [z_msk, z_dig, z_and_dig (s := 4) (by decide), show x / 4 / 2 ^ 4 = x / 16 / 4 by omega, ih, show (3 : Nat) = 2 ^ 2 - 1 from rfl, Nat.and_two_pow_sub_one_eq_mod]
    omega
theorem z_dig_id {B : Nat} (hB : 0 < B) : ∀ (n x : Nat), x < B ^ n → z_dig B id n x = x := by
  intro n
  induction n with
  | zero => intro x h; simp at h; subst h; rfl
  | succ n ih =>
    intro x h
    rw [z_dig, ih (x / B) (Nat.div_lt_of_lt_mul (by rw [Nat.mul_comm, ← Nat.pow_succ]; exact h))]
    have := Nat.div_add_mod x B
    show x % B + _ = x
    omega
theorem z_dig_add {B : Nat} {g h : Nat → Nat} : ∀ (n x : Nat), z_dig B g n x + z_dig B h n x = z_dig B (fun d => g d + h d) n x := by
  intro n
  induction n with
  | zero => intro x; rfl
  | succ n ih =>
    intro x
    rw [z_dig, z_dig, z_dig, ← ih, Nat.mul_add]
    omega
theorem z_dig_cong {B : Nat} (hB : 0 < B) {g h : Nat → Nat} (e : ∀ d, d < B → g d = h d) : ∀ (n x : Nat), z_dig B g n x = z_dig B h n x := by
  intro n
  induction n with
  | zero => intro x; rfl
  | succ n ih =>
    intro x
    rw [z_dig, z_dig, ih, e _ (Nat.mod_lt _ hB)]
/-- the digits of what digits have been put together from -/
theorem z_dig_div {B : Nat} {g : Nat → Nat} (hg : ∀ d, d < B → g d < B) (hB : 0 < B) (n x : Nat) : z_dig B g (n + 1) x % B = g (x % B) ∧ z_dig B g (n + 1) x / B = z_dig B g n (x / B) := by
  rw [z_dig]
  have := hg (x % B) (Nat.mod_lt _ hB)
  constructor
  · rw [Nat.add_mul_mod_self_left, Nat.mod_eq_of_lt this]
  · rw [Nat.add_mul_div_left _ _ hB, Nat.div_eq_of_lt this, Nat.zero_add]
theorem z_dsum2 {B : Nat} (hB : 2 ≤ B) {g : Nat → Nat} (hg : ∀ d, d < B * B → g d = d % B + d / B) : ∀ (n x : Nat), z_dsum B (2 * n) x = z_dsum (B * B) n (z_dig (B * B) g n x) := by
  have hBB : 0 < B * B := Nat.mul_pos (by omega) (by omega)
  have hlt : ∀ d, d < B * B → g d < B * B := fun d hd => by
    rw [hg d hd]
    have h1 := Nat.mod_lt d (show 0 < B by omega)
    have h2 : d / B < B := Nat.div_lt_of_lt_mul hd
    have h3 : 2 * B ≤ B * B := Nat.mul_le_mul_right B hB
    omega
  intro n
  induction n with
  | zero => intro x; rfl
  | succ n ih =>
    intro x
    rw [show 2 * (n + 1) = 2 * n + 1 + 1 by omega, z_dsum, z_dsum, ih]
    obtain ⟨h1, h2⟩ := z_dig_div hlt hBB n x
    rw [z_dsum, h1, h2, hg _ (Nat.mod_lt _ hBB), Nat.mod_mul_right_mod, Nat.mod_mul_right_div_self, Nat.div_div_eq_div_mul]
    omega
/-- all digits (base 16) are at most 4 -/
def z_le4 : Nat → Nat → Prop
  | 0, v => v = 0
  | n + 1, v => v % 16 ≤ 4 ∧ z_le4 n (v / 16)
theorem z_step4 : ∀ (n v : Nat), z_le4 (2 * n) v → ((v + v / 16) &&& z_msk 256 15 n) = z_dig 256 (fun e => e % 16 + e / 16) n v := by
  intro n
  induction n with
  | zero => intro v _; exact Nat.and_zero _
  | succ n ih =>
    intro v h
    rw [show 2 * (n + 1) = 2 * n + 1 + 1 by omega] at h
    obtain ⟨h1, h2, h3⟩ := h
    have h4 : (v / 256) % 16 ≤ 4 := by
      cases n with
      | zero =>
        have h3 : v / 16 / 16 = 0 := h3
        omega
      | succ m =>
        rw [show 2 * (m + 1) = 2 * m + 1 + 1 by omega] at h3
        have := h3.1
        omega
    obtain ⟨l, m, k, q, hv, hl, hm, hk⟩ : ∃ l m k q, v = l + 16 * m + 256 * k + 4096 * q ∧ l ≤ 4 ∧ m ≤ 4 ∧ k ≤ 4 := ⟨v % 16, v / 16 % 16, v / 256 % 16, v / 4096, by omega, h1, h2, h4⟩
    have e0 : v / 16 = m + 16 * k + 256 * q := by omega
    have e3 : v / 256 = k + 16 * q := by omega
    have e4 : v / 256 / 16 = q := by omega
    have e1 : (v + v / 16) / 2 ^ 8 = v / 256 + v / 256 / 16 := by rw [e4, e3, e0, hv]; omega
    rw [z_msk, z_dig, z_and_dig (s := 8) (by decide), e1, ih (v / 256) (by rw [show v / 256 = v / 16 / 16 by omega]; exact h3), show (15 : Nat) = 2 ^ 4 - 1 from rfl, Nat.and_two_pow_sub_one_eq_mod]
    have e2 : (v + v / 16) % 2 ^ 8 % 2 ^ 4 = v % 256 % 16 + v % 256 / 16 := by rw [e0, hv]; omega
    rw [e2]
/-- a long's bits as a number -/
def z_N (w : Int64) : Nat := w.toBitVec.toNat
theorem z_N_lt (w : Int64) : z_N w < 2 ^ 64 := w.toBitVec.isLt
theorem z_N_shr {w : Int64} {k : Int32} {s : Nat} (h : ((k.toInt64.toUInt64 &&& Int64.toUInt64 63).toNat % 64) = s) : z_N (z_shr w k) = z_N w / 2 ^ s := by
  show (w.toUInt64 >>> (k.toInt64.toUInt64 &&& Int64.toUInt64 63)).toNat = w.toUInt64.toNat / 2 ^ s
  rw [UInt64.toNat_shiftRight, h, Nat.shiftRight_eq_div_pow]
theorem z_N_and (a b : Int64) : z_N (a &&& b) = z_N a &&& z_N b := by
  unfold z_N
  rw [Int64.toBitVec_and, BitVec.toNat_and]
theorem z_N_add {a b : Int64} (h : z_N a + z_N b < 2 ^ 64) : z_N (a + b) = z_N a + z_N b := by
  unfold z_N at *
  rw [Int64.toBitVec_add, BitVec.toNat_add, Nat.mod_eq_of_lt h]
theorem z_N_sub {a b : Int64} (h : z_N b ≤ z_N a) : z_N (a - b) = z_N a - z_N b := by
  have h1 := z_N_lt a
  unfold z_N at *
  rw [Int64.toBitVec_sub, BitVec.toNat_sub]
  omega
theorem z_dig_lt {B : Nat} (hB : 0 < B) {g : Nat → Nat} (hg : ∀ d, d < B → g d < B) : ∀ (n x : Nat), z_dig B g n x < B ^ n := by
  intro n
  induction n with
  | zero => intro x; exact Nat.one_pos
  | succ n ih =>
    intro x
    rw [z_dig, Nat.pow_succ, Nat.mul_comm (B ^ n) B]
    have h1 := hg (x % B) (Nat.mod_lt _ hB)
    have h2 := ih (x / B)
    have h3 : B * (z_dig B g n (x / B) + 1) ≤ B * B ^ n := Nat.mul_le_mul_left B h2
    rw [Nat.mul_add] at h3
    omega
theorem z_pop1N (w : Int64) : z_N (z_pop1 w) = z_dig 4 (fun d => d % 2 + d / 2) 32 (z_N w) := by
  have hx := z_N_lt w
  have h1 : z_N (z_shr w 1 &&& 6148914691236517205) = z_dig 4 (· / 2) 32 (z_N w) := by
    rw [z_N_and, z_N_shr (s := 1) (by decide), show z_N 6148914691236517205 = z_msk 4 1 32 by decide, show (2 : Nat) ^ 1 = 2 from rfl, z_step1]
  have h2 : z_dig 4 (fun d => d % 2 + d / 2) 32 (z_N w) + z_dig 4 (· / 2) 32 (z_N w) = z_N w := by
    rw [z_dig_add, z_dig_cong (h := id) (by decide) (fun d hd => by show d % 2 + d / 2 + d / 2 = d; omega)]
    exact z_dig_id (by decide) 32 _ hx
  unfold z_pop1
  rw [z_N_sub (by omega)]
  omega
theorem z_pop2N {w : Int64} (hw : z_N w < 16 ^ 16) : z_N (z_pop2 w) = z_dig 16 (fun d => d % 4 + d / 4) 16 (z_N w) := by
  have h1 : z_N (w &&& 3689348814741910323) = z_dig 16 (· % 4) 16 (z_N w) := by
    rw [z_N_and, show z_N 3689348814741910323 = z_msk 16 3 16 by decide, z_step2a]
  have h2 : z_N (z_shr w 2 &&& 3689348814741910323) = z_dig 16 (· / 4) 16 (z_N w) := by
    rw [z_N_and, z_N_shr (s := 2) (by decide), show z_N 3689348814741910323 = z_msk 16 3 16 by decide, show (2 : Nat) ^ 2 = 4 from rfl, z_step2b]
  have h3 := z_dig_lt (B := 16) (by decide) (g := fun d => d % 4 + d / 4) (fun d hd => by show d % 4 + d / 4 < 16; omega) 16 (z_N w)
  have h4 := z_dig_add (B := 16) (g := (· % 4)) (h := (· / 4)) 16 (z_N w)
  unfold z_pop2
  rw [z_N_add (by rw [h1, h2, h4]; exact h3), h1, h2, h4]
theorem z_dig_two {B : Nat} (hB : 0 < B) {g : Nat → Nat} : ∀ (n x : Nat), z_dig B g (2 * n) x = z_dig (B * B) (fun e => g (e % B) + B * g (e / B)) n x := by
  intro n
  induction n with
  | zero => intro x; rfl
  | succ n ih =>
    intro x
    rw [show 2 * (n + 1) = 2 * n + 1 + 1 by omega, z_dig, z_dig, z_dig, ih, Nat.mod_mul_right_mod, Nat.mod_mul_right_div_self, Nat.div_div_eq_div_mul, Nat.mul_add, Nat.mul_assoc]
    omega
theorem z_dig_comp {B : Nat} (hB : 0 < B) {g h : Nat → Nat} (hg : ∀ d, d < B → g d < B) : ∀ (n x : Nat), z_dig B h n (z_dig B g n x) = z_dig B (fun d => h (g d)) n x := by
  intro n
  induction n with
  | zero => intro x; rfl
  | succ n ih =>
    intro x
    obtain ⟨h1, h2⟩ := z_dig_div hg hB n x
    rw [z_dig, h1, h2, ih]
    rfl
theorem z_le4_dig {g : Nat → Nat} (hg : ∀ d, d < 16 → g d ≤ 4) : ∀ (n x : Nat), z_le4 n (z_dig 16 g n x) := by
  intro n
  induction n with
  | zero => intro x; rfl
  | succ n ih =>
    intro x
    obtain ⟨h1, h2⟩ := z_dig_div (B := 16) (g := g) (fun d hd => by have := hg d hd; omega) (by decide) n x
    refine ⟨?_, ?_⟩
    · rw [h1]; exact hg _ (Nat.mod_lt _ (by decide))
    · rw [h2]; exact ih _
/-- the bits of a nibble, counted -/
def z_nib (e : Nat) : Nat := e % 2 + e / 2 % 2 + e / 4 % 2 + e / 8
theorem z_pop12N (w : Int64) : z_N (z_pop2 (z_pop1 w)) = z_dig 16 z_nib 16 (z_N w) := by
  have h1 : z_N (z_pop1 w) = z_dig 16 (fun e => (e % 4 % 2 + e % 4 / 2) + 4 * (e / 4 % 2 + e / 4 / 2)) 16 (z_N w) := by
    rw [z_pop1N]
    exact z_dig_two (B := 4) (by decide) 16 _
  have hlt : ∀ d, d < 16 → (d % 4 % 2 + d % 4 / 2) + 4 * (d / 4 % 2 + d / 4 / 2) < 16 := fun d hd => by omega
  rw [z_pop2N (by rw [h1]; exact z_dig_lt (by decide) hlt 16 _), h1, z_dig_comp (by decide) hlt]
  exact z_dig_cong (by decide) (fun d hd => by unfold z_nib; omega) 16 _
theorem z_pop4N {w : Int64} (h : z_le4 16 (z_N w)) (h2 : z_N w + z_N w / 16 < 2 ^ 64) : z_N (z_pop4 w) = z_dig 256 (fun e => e % 16 + e / 16) 8 (z_N w) := by
  have h1 : z_N (z_shr w 4) = z_N w / 16 := z_N_shr (s := 4) (by decide)
  unfold z_pop4
  rw [z_N_and, z_N_add (by rw [h1]; exact h2), h1, show z_N 1085102592571150095 = z_msk 256 15 8 by decide]
  exact z_step4 8 _ h
theorem z_quo {B a b : Nat} (h : a < B) : (a + B * b) / B = b := by
  rw [Nat.add_mul_div_left _ _ (by omega), Nat.div_eq_of_lt h, Nat.zero_add]
theorem z_quoE {B x a b : Nat} (e : x = a + B * b) (h : a < B) : x / B = b := by rw [e]; exact z_quo h
theorem z_fold1 {v d0 d1 d2 q1 q2 q3 : Nat} (e0 : v = d0 + 256 * q1) (e1 : q1 = d1 + 256 * q2) (e2 : q2 = d2 + 256 * q3) (h0 : d0 ≤ 8) (h1 : d1 ≤ 8) (h2 : d2 ≤ 8) : (v + q1) / 65536 = q2 + q3 :=
  z_quoE (a := d0 + 256 * d1 + (d1 + 256 * d2)) (by omega) (by omega)
theorem z_fold2 {v d0 d1 d2 d3 d4 d5 d6 q1 q2 q3 q4 q5 q6 q7 : Nat} (e0 : v = d0 + 256 * q1) (e1 : q1 = d1 + 256 * q2) (e2 : q2 = d2 + 256 * q3) (e3 : q3 = d3 + 256 * q4) (e4 : q4 = d4 + 256 * q5) (e5 : q5 = d5 + 256 * q6) (e6 : q6 = d6 + 256 * q7) (h0 : d0 ≤ 8) (h1 : d1 ≤ 8) (h2 : d2 ≤ 8) (h3 : d3 ≤ 8) (h4 : d4 ≤ 8) (h5 : d5 ≤ 8) (h6 : d6 ≤ 8) : (v + q1 + (q2 + q3)) / 4294967296 = q4 + q5 + q6 + q7 :=
  z_quoE (a := (d0 + 256 * d1 + 65536 * d2 + 16777216 * d3) + (d1 + 256 * d2 + 65536 * d3 + 16777216 * d4) + (d2 + 256 * d3 + 65536 * d4 + 16777216 * d5) + (d3 + 256 * d4 + 65536 * d5 + 16777216 * d6)) (by omega) (by omega)
def z_byte (e : Nat) : Nat := z_nib (e % 16) + z_nib (e / 16)
theorem z_nib_le {d : Nat} (h : d < 16) : z_nib d ≤ 4 := by unfold z_nib; omega
theorem z_byte_le {d : Nat} (h : d < 256) : z_byte d ≤ 8 := by
  have h1 := z_nib_le (d := d % 16) (by omega)
  have h2 := z_nib_le (d := d / 16) (by omega)
  unfold z_byte
  omega
theorem z_pop124N (w : Int64) : z_N (z_pop4 (z_pop2 (z_pop1 w))) = z_dig 256 z_byte 8 (z_N w) := by
  have h1 := z_pop12N w
  have h16 : ∀ d, d < 16 → z_nib d < 16 := fun d hd => by have := z_nib_le hd; omega
  have hlt := z_dig_lt (B := 16) (by decide) (g := z_nib) h16 16 (z_N w)
  have hle : z_le4 16 (z_N (z_pop2 (z_pop1 w))) := by rw [h1]; exact z_le4_dig (fun d hd => z_nib_le hd) 16 _
  have hs : z_N (z_pop2 (z_pop1 w)) + z_N (z_pop2 (z_pop1 w)) / 16 < 2 ^ 64 := by
    have h0 : z_N (z_pop2 (z_pop1 w)) / 16 / 16 < 2 ^ 56 := by rw [h1]; omega
    have h15 := hle.2.1
    have h14 := hle.1
    have hx : z_N (z_pop2 (z_pop1 w)) / 16 / 16 / 16 / 16 / 16 / 16 / 16 / 16 / 16 / 16 / 16 / 16 / 16 / 16 / 16 ≤ 4 := by
      have := hle.2.2.2.2.2.2.2.2.2.2.2.2.2.2.2.1
      have h99 := hle.2.2.2.2.2.2.2.2.2.2.2.2.2.2.2.2
      have h99 : z_N (z_pop2 (z_pop1 w)) / 16 / 16 / 16 / 16 / 16 / 16 / 16 / 16 / 16 / 16 / 16 / 16 / 16 / 16 / 16 / 16 = 0 := h99
      omega
    simp only [Nat.div_div_eq_div_mul] at hx
    omega
  rw [z_pop4N hle hs, h1]
  have h2 := z_dig_two (B := 16) (by decide) (g := z_nib) 8 (z_N w)
  have h2 : z_dig 16 z_nib 16 (z_N w) = z_dig 256 (fun e => z_nib (e % 16) + 16 * z_nib (e / 16)) 8 (z_N w) := h2
  have hlt2 : ∀ d, d < 256 → z_nib (d % 16) + 16 * z_nib (d / 16) < 256 := fun d hd => by
    have h3 := z_nib_le (d := d % 16) (by omega)
    have h4 := z_nib_le (d := d / 16) (by omega)
    omega
  rw [h2, z_dig_comp (by decide) hlt2]
  refine z_dig_cong (by decide) (fun d hd => ?_) 8 _
  have h3 := z_nib_le (d := d % 16) (by omega)
  have h4 := z_nib_le (d := d / 16) (by omega)
  unfold z_byte
  show (z_nib (d % 16) + 16 * z_nib (d / 16)) % 16 + (z_nib (d % 16) + 16 * z_nib (d / 16)) / 16 = _
  omega
