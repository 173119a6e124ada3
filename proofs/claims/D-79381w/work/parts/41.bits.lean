/-! ===== the bits of a long ===== -/
set_option maxRecDepth 100000
theorem z_sh63 : ∀ k, k < 64 → ((nI k).toInt64 &&& 63).toBitVec.smod 64 = BitVec.ofNat 64 k := by decide +kernel
theorem z_bv1 (x : BitVec 64) : x &&& 1#64 = 1#64 ↔ x.getLsbD 0 = true := by
  constructor
  · intro h
    have := congrArg (fun z => z.getLsbD 0) h
    simpa using this
  · intro h
    ext i hi
    by_cases h0 : i = 0
    · subst h0
      simp_all
    · simp [h0]
/-- the k-th bit -/
theorem z_bit_get {w : Int64} {k : Nat} (hk : k < 64) : z_bit w k = w.toBitVec.getLsbD k := by
  have e : (((w >>> ((nI k).toInt64 &&& 63)) &&& 1) = 1) ↔ w.toBitVec.getLsbD k = true := by
    rw [← Int64.toBitVec_inj, Int64.toBitVec_and, Int64.toBitVec_shiftRight, z_sh63 k hk]
    have h1 : (1 : Int64).toBitVec = 1#64 := rfl
    rw [h1, z_bv1, BitVec.sshiftRight', BitVec.getLsbD_sshiftRight]
    simp [hk, Nat.mod_eq_of_lt (show k < 18446744073709551616 by omega)]
  unfold z_bit
  cases hb : w.toBitVec.getLsbD k with
  | true => simp [e, hb]
  | false => simp [e, hb]
theorem z_one_get {j k : Nat} (hj : j < 64) (hk : k < 64) : (z_one j).toBitVec.getLsbD k = decide (k = j) := by
  unfold z_one
  rw [Int64.toBitVec_shiftLeft, z_sh63 j hj]
  have h1 : (1 : Int64).toBitVec = 1#64 := rfl
  rw [h1, BitVec.shiftLeft_eq', BitVec.getLsbD_shiftLeft]
  simp only [BitVec.toNat_ofNat, Nat.mod_eq_of_lt (show j < 2 ^ 64 by omega), BitVec.getLsbD_one]
  by_cases h : k = j
  · simp [h, hj]
  · simp [h]; omega
theorem z_bit_or {w v : Int64} {k : Nat} (hk : k < 64) : z_bit (w ||| v) k = (z_bit w k || z_bit v k) := by
  rw [z_bit_get hk, z_bit_get hk, z_bit_get hk, Int64.toBitVec_or, BitVec.getLsbD_or]
theorem z_bit_one {j k : Nat} (hj : j < 64) (hk : k < 64) : z_bit (z_one j) k = decide (k = j) := by
  rw [z_bit_get hk, z_one_get hj hk]
theorem z_bit_zero {k : Nat} (hk : k < 64) : z_bit 0 k = false := by
  rw [z_bit_get hk]
  have h1 : (0 : Int64).toBitVec = 0#64 := rfl
  rw [h1, BitVec.getLsbD_zero]
theorem z_bit_off {w : Int64} {j k : Nat} (hj : j < 64) (hk : k < 64) : z_bit (w &&& (z_one j ^^^ -1)) k = (z_bit w k && !decide (k = j)) := by
  rw [z_bit_get hk, z_bit_get hk, Int64.toBitVec_and, Int64.toBitVec_xor, BitVec.getLsbD_and, BitVec.getLsbD_xor, z_one_get hj hk]
  have h1 : (-1 : Int64).toBitVec = BitVec.allOnes 64 := by decide
  rw [h1, BitVec.getLsbD_allOnes]
  simp [hk]
/-- words with the same bits are the same -/
theorem z_bit_ext {w v : Int64} (h : ∀ k, k < 64 → z_bit w k = z_bit v k) : w = v := by
  rw [← Int64.toBitVec_inj]
  apply BitVec.eq_of_getLsbD_eq
  intro i hi
  rw [← z_bit_get hi, ← z_bit_get hi]
  exact h i hi
/-- the bit as the programs test it against 0 -/
theorem z_bit_0 {w : Int64} {k : Nat} (hk : k < 64) : ((w >>> ((nI k).toInt64 &&& 63)) &&& 1) = 0 ↔ z_bit w k = false := by
  have e : (((w >>> ((nI k).toInt64 &&& 63)) &&& 1) = 0) ↔ w.toBitVec.getLsbD k = false := by
    rw [← Int64.toBitVec_inj, Int64.toBitVec_and, Int64.toBitVec_shiftRight, z_sh63 k hk]
    have h1 : (1 : Int64).toBitVec = 1#64 := rfl
    have h0 : (0 : Int64).toBitVec = 0#64 := rfl
    have key : ∀ x : BitVec 64, x &&& 1#64 = 0#64 ↔ x.getLsbD 0 = false := by
      intro x
      constructor
      · intro h
        have := congrArg (fun z => z.getLsbD 0) h
        simpa using this
      · intro h
        ext i hi
        by_cases h0 : i = 0
        · subst h0
          simp_all
        · simp [h0]
    rw [h1, h0, key, BitVec.sshiftRight', BitVec.getLsbD_sshiftRight]
    simp [hk, Nat.mod_eq_of_lt (show k < 18446744073709551616 by omega)]
  rw [e, z_bit_get hk]
