/-! ===== Long.bitCount counts the bits: the sum of the bytes ===== -/
set_option maxRecDepth 100000
def z_bsum (g : Nat → Nat) : Nat → Nat → Nat
  | 0, _ => 0
  | n + 1, x => g (x % 256) + z_bsum g n (x / 256)
theorem z_bsum_bits : ∀ (n x : Nat), z_bsum z_byte n x = z_dsum 2 (8 * n) x := by
  intro n
  induction n with
  | zero => intro x; rfl
  | succ n ih =>
    intro x
    rw [show 8 * (n + 1) = 8 * n + 1 + 1 + 1 + 1 + 1 + 1 + 1 + 1 by omega, z_bsum, ih]
    simp only [z_dsum, Nat.div_div_eq_div_mul, Nat.reduceMul]
    unfold z_byte z_nib
    omega
theorem z_dsum_tail (B : Nat) : ∀ (n x : Nat), z_dsum B (n + 1) x = z_dsum B n x + x / B ^ n % B := by
  intro n
  induction n with
  | zero => intro x; simp [z_dsum]
  | succ n ih =>
    intro x
    rw [z_dsum, ih, z_dsum, Nat.div_div_eq_div_mul, Nat.pow_succ, Nat.mul_comm (B ^ n) B]
    omega
def z_cnt (w : Int64) : Nat → Nat
  | 0 => 0
  | n + 1 => z_cnt w n + if z_bit w n = true then 1 else 0
theorem z_cnt_dsum (w : Int64) : ∀ n, n ≤ 64 → z_cnt w n = z_dsum 2 n (z_N w) := by
  intro n
  induction n with
  | zero => intro _; rfl
  | succ n ih =>
    intro h
    rw [z_cnt, z_dsum_tail, ih (by omega), z_bit_get (by omega)]
    congr 1
    have e : w.toBitVec.getLsbD n = decide (z_N w / 2 ^ n % 2 = 1) := Nat.testBit_eq_decide_div_mod_eq
    rw [e]
    simp only [decide_eq_true_eq]
    split <;> omega
theorem z_mask7 (x : Int64) : x.toInt32 &&& 127 = nI (z_N x % 128) := by
  apply Int32.toBitVec_inj.mp
  apply BitVec.eq_of_toNat_eq
  rw [Int32.toBitVec_and, BitVec.toNat_and]
  have h1 : x.toInt32.toBitVec.toNat = z_N x % 2 ^ 32 := by
    rw [Int64.toBitVec_toInt32, BitVec.signExtend_eq_setWidth_of_le _ (by decide), BitVec.toNat_setWidth]
    rfl
  have h2 : (nI (z_N x % 128)).toBitVec.toNat = z_N x % 128 % 2 ^ 32 := by
    show (BitVec.ofNat 32 (z_N x % 128)).toNat = _
    rw [BitVec.toNat_ofNat]
  rw [h1, h2, show ((127 : Int32).toBitVec.toNat) = 2 ^ 7 - 1 by decide, Nat.and_two_pow_sub_one_eq_mod]
  omega
theorem z_popSN {x : Int64} {k : Int32} {s v : Nat} (hs : ((k.toInt64.toUInt64 &&& Int64.toUInt64 63).toNat % 64) = s) (hv : z_N x = v) (hl : v + v / 2 ^ s < 2 ^ 64) : z_N (z_popS k x) = v + v / 2 ^ s := by
  unfold z_popS
  have h1 := z_N_shr (w := x) hs
  rw [hv] at h1
  rw [z_N_add (by rw [h1, hv]; exact hl), h1, hv]
theorem z_last8 {v d0 d1 d2 d3 d4 d5 d6 d7 q1 q2 q3 q4 q5 q6 q7 : Nat} (e0 : v = d0 + 256 * q1) (e1 : q1 = d1 + 256 * q2) (e2 : q2 = d2 + 256 * q3) (e3 : q3 = d3 + 256 * q4) (e4 : q4 = d4 + 256 * q5) (e5 : q5 = d5 + 256 * q6) (e6 : q6 = d6 + 256 * q7) (e7 : q7 = d7) (h0 : d0 ≤ 8) (h1 : d1 ≤ 8) (h2 : d2 ≤ 8) (h3 : d3 ≤ 8) (h4 : d4 ≤ 8) (h5 : d5 ≤ 8) (h6 : d6 ≤ 8) (h7 : d7 ≤ 8) : (v + q1 + (q2 + q3) + (q4 + q5 + q6 + q7)) % 128 = d0 + d1 + d2 + d3 + d4 + d5 + d6 + d7 := by
  have : v + q1 + (q2 + q3) + (q4 + q5 + q6 + q7) = (d0 + d1 + d2 + d3 + d4 + d5 + d6 + d7) + 128 * (2 * (q1 + q2 + q3 + q4 + q5 + q6 + q7)) := by omega
  rw [this, Nat.add_mul_mod_self_left, Nat.mod_eq_of_lt (by omega)]
theorem z_fold8 {x : Int64} {d0 d1 d2 d3 d4 d5 d6 d7 q1 q2 q3 q4 q5 q6 q7 : Nat} (e0 : z_N x = d0 + 256 * q1) (e1 : q1 = d1 + 256 * q2) (e2 : q2 = d2 + 256 * q3) (e3 : q3 = d3 + 256 * q4) (e4 : q4 = d4 + 256 * q5) (e5 : q5 = d5 + 256 * q6) (e6 : q6 = d6 + 256 * q7) (e7 : q7 = d7) (h0 : d0 ≤ 8) (h1 : d1 ≤ 8) (h2 : d2 ≤ 8) (h3 : d3 ≤ 8) (h4 : d4 ≤ 8) (h5 : d5 ≤ 8) (h6 : d6 ≤ 8) (h7 : d7 ≤ 8) : (z_popS 32 (z_popS 16 (z_popS 8 x))).toInt32 &&& 127 = nI (d0 + d1 + d2 + d3 + d4 + d5 + d6 + d7) := by
  have b7 : q7 ≤ 8 := by omega
  have b6 : q6 ≤ 2056 := by omega
  have b5 : q5 ≤ 526344 := by omega
  have b4 : q4 ≤ 134744072 := by omega
  have b3 : q3 ≤ 34494482440 := by omega
  have b2 : q2 ≤ 8830587504648 := by omega
  have b1 : q1 ≤ 2260630401189896 := by omega
  have b0 : z_N x ≤ 578721382704613384 := by omega
  have f0 : z_N x / 2 ^ 8 = q1 := z_quoE (B := 256) e0 (by omega)
  have p1 : z_N (z_popS 8 x) = z_N x + z_N x / 2 ^ 8 := z_popSN (s := 8) (by decide) rfl (by rw [f0]; omega)
  rw [f0] at p1
  have f1 := z_fold1 e0 e1 e2 h0 h1 h2
  have f1 : (z_N x + q1) / 2 ^ 16 = q2 + q3 := f1
  have p2 : z_N (z_popS 16 (z_popS 8 x)) = (z_N x + q1) + (z_N x + q1) / 2 ^ 16 := z_popSN (s := 16) (by decide) p1 (by rw [f1]; omega)
  rw [f1] at p2
  have f2 : (z_N x + q1 + (q2 + q3)) / 2 ^ 32 = q4 + q5 + q6 + q7 := z_fold2 e0 e1 e2 e3 e4 e5 e6 h0 h1 h2 h3 h4 h5 h6
  have p3 : z_N (z_popS 32 (z_popS 16 (z_popS 8 x))) = (z_N x + q1 + (q2 + q3)) + (z_N x + q1 + (q2 + q3)) / 2 ^ 32 := z_popSN (s := 32) (by decide) p2 (by rw [f2]; omega)
  rw [f2] at p3
  rw [z_mask7, p3, z_last8 e0 e1 e2 e3 e4 e5 e6 e7 h0 h1 h2 h3 h4 h5 h6 h7]
theorem z_pop_cnt (w : Int64) : z_pop w = nI (z_cnt w 64) := by
  have hb : ∀ y, z_byte (y % 256) ≤ 8 := fun y => z_byte_le (Nat.mod_lt _ (by decide))
  have e : z_N (z_pop4 (z_pop2 (z_pop1 w))) = z_dig 256 z_byte 8 (z_N w) := z_pop124N w
  rw [z_cnt_dsum w 64 (Nat.le_refl _), show (64 : Nat) = 8 * 8 from rfl, ← z_bsum_bits]
  generalize z_N w = v at e ⊢
  have key := z_fold8 (x := z_pop4 (z_pop2 (z_pop1 w))) (d0 := z_byte (v % 256)) (d1 := z_byte (v / 256 % 256)) (d2 := z_byte (v / 256 / 256 % 256)) (d3 := z_byte (v / 256 / 256 / 256 % 256)) (d4 := z_byte (v / 256 / 256 / 256 / 256 % 256)) (d5 := z_byte (v / 256 / 256 / 256 / 256 / 256 % 256)) (d6 := z_byte (v / 256 / 256 / 256 / 256 / 256 / 256 % 256)) (d7 := z_byte (v / 256 / 256 / 256 / 256 / 256 / 256 / 256 % 256))
    (e.trans rfl) rfl rfl rfl rfl rfl rfl rfl (hb _) (hb _) (hb _) (hb _) (hb _) (hb _) (hb _) (hb _)
  unfold z_pop
  rw [key]
  congr 1
  simp only [z_bsum]
  omega
