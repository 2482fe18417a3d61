/-! SETS OF WORDS: a word asked for -/
theorem shr_nI {m v : Nat} (hm : m < 65536) (hv : v < 16) : nI m >>> (nI v &&& 31) = nI (m >>> v) := by
  rw [sh31 v hv]
  apply Int32.toBitVec_inj.mp
  rw [Int32.toBitVec_shiftRight]
  have h1 : ((nI v).toBitVec.smod 32).toNat = v := by
    have h : ∀ v, v < 16 → ((nI v).toBitVec.smod 32).toNat = v := by decide +kernel
    exact h v hv
  rw [BitVec.sshiftRight_eq', h1, nI_bv, nI_bv]
  have h2 : (BitVec.ofNat 32 m).msb = false := by
    rw [BitVec.msb_eq_false_iff_two_mul_lt, BitVec.toNat_ofNat, Nat.mod_eq_of_lt (by omega)]
    omega
  rw [BitVec.sshiftRight_eq_of_msb_false h2]
  apply BitVec.eq_of_toNat_eq
  rw [BitVec.toNat_ushiftRight, BitVec.toNat_ofNat, BitVec.toNat_ofNat, Nat.mod_eq_of_lt (by omega), Nat.mod_eq_of_lt]
  have := Nat.shiftRight_le m v
  omega
theorem and_1 {m : Nat} (hm : m < 65536) : nI m &&& (1 : Int32) = nI (m % 2) := by
  apply Int32.toBitVec_inj.mp
  show (nI m).toBitVec &&& (nI 1).toBitVec = _
  rw [nI_bv, nI_bv, nI_bv]
  apply BitVec.eq_of_toNat_eq
  rw [BitVec.toNat_and, BitVec.toNat_ofNat, BitVec.toNat_ofNat, BitVec.toNat_ofNat, Nat.mod_eq_of_lt (by omega), Nat.mod_eq_of_lt (by decide : 1 < 2 ^ 32), Nat.mod_eq_of_lt (by omega : m % 2 < 2 ^ 32), Nat.and_one_is_mod]
theorem bt_t {L : List Nat} {v : Nat} (hL : ∀ u ∈ L, u < 16) (hv : v < 16) : (nI (mS L) >>> (nI v &&& 31)) &&& (1 : Int32) = bI (decide (v ∈ L)) := by
  have hm := mS_lt L hL
  rw [shr_nI hm hv, and_1 (by have := Nat.shiftRight_le (mS L) v; omega), ← mS_bit, Nat.testBit_eq_decide_div_mod_eq, Nat.shiftRight_eq_div_pow]
  rcases Nat.mod_two_eq_zero_or_one (mS L / 2 ^ v) with h | h <;> rw [h] <;> rfl
