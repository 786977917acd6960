/-! bits of small numbers -/
theorem bt_lt {b : BitVec 32} (h : b.toNat < 2147483648) : b.toInt = b.toNat := BitVec.toInt_eq_toNat_of_lt (by omega)
theorem bt_lt64 {b : BitVec 64} (h : b.toNat < 9223372036854775808) : b.toInt = b.toNat := BitVec.toInt_eq_toNat_of_lt (by omega)
theorem bI_n (n : Nat) : (jI (n : Int)).toBitVec = BitVec.ofNat 32 n := by rw [Int32.toBitVec_ofInt, BitVec.ofInt_natCast]
theorem bL_n (n : Nat) : (jL (n : Int)).toBitVec = BitVec.ofNat 64 n := by rw [Int64.toBitVec_ofInt, BitVec.ofInt_natCast]
theorem bn_n {n : Nat} (h : n < 4294967296) : (BitVec.ofNat 32 n).toNat = n := by rw [BitVec.toNat_ofNat]; exact Nat.mod_eq_of_lt (by omega)
theorem bn_n64 {n : Nat} (h : n < 18446744073709551616) : (BitVec.ofNat 64 n).toNat = n := by rw [BitVec.toNat_ofNat]; exact Nat.mod_eq_of_lt (by omega)
theorem and32_n {a b : Nat} (ha : a < 2147483648) (hb : b < 2147483648) : and32 (a : Int) (b : Int) = ((a &&& b : Nat) : Int) := by
  unfold and32
  show ((jI (a : Int)).toBitVec &&& (jI (b : Int)).toBitVec).toInt = _
  rw [bI_n, bI_n]
  have e : (BitVec.ofNat 32 a &&& BitVec.ofNat 32 b).toNat = a &&& b := by rw [BitVec.toNat_and, bn_n (by omega), bn_n (by omega)]
  rw [bt_lt (by rw [e]; exact Nat.lt_of_le_of_lt Nat.and_le_left ha), e]
theorem or32_n {a b : Nat} (ha : a < 2147483648) (hb : b < 2147483648) : or32 (a : Int) (b : Int) = ((a ||| b : Nat) : Int) := by
  unfold or32
  show ((jI (a : Int)).toBitVec ||| (jI (b : Int)).toBitVec).toInt = _
  rw [bI_n, bI_n]
  have e : (BitVec.ofNat 32 a ||| BitVec.ofNat 32 b).toNat = a ||| b := by rw [BitVec.toNat_or, bn_n (by omega), bn_n (by omega)]
  rw [bt_lt (by rw [e]; exact Nat.or_lt_two_pow (n := 31) ha hb), e]
theorem xor32_n {a b : Nat} (ha : a < 2147483648) (hb : b < 2147483648) : xor32 (a : Int) (b : Int) = ((a ^^^ b : Nat) : Int) := by
  unfold xor32
  show ((jI (a : Int)).toBitVec ^^^ (jI (b : Int)).toBitVec).toInt = _
  rw [bI_n, bI_n]
  have e : (BitVec.ofNat 32 a ^^^ BitVec.ofNat 32 b).toNat = a ^^^ b := by rw [BitVec.toNat_xor, bn_n (by omega), bn_n (by omega)]
  rw [bt_lt (by rw [e]; exact Nat.xor_lt_two_pow (n := 31) ha hb), e]
theorem sm32 : ∀ k : Nat, k < 32 → ((jI (k : Int) &&& 31).toBitVec.smod 32).toNat = k := by decide +kernel
theorem shr32_n {a k : Nat} (ha : a < 2147483648) (hk : k < 32) : shr32 (a : Int) (k : Int) = ((a / 2 ^ k : Nat) : Int) := by
  unfold shr32
  show ((jI (a : Int)).toBitVec.sshiftRight' ((jI (k : Int) &&& 31).toBitVec.smod 32)).toInt = _
  rw [BitVec.toInt_sshiftRight', sm32 k hk, bI_n, bt_lt (by rw [bn_n (by omega)]; exact ha), bn_n (by omega), Int.shiftRight_eq_div_pow]
  norm_cast
theorem shr32_1 (x : Nat) (hx : x ≤ 20000) : shr32 (x : Int) 1 = ((x / 2 : Nat) : Int) := shr32_n (k := 1) (by omega) (by omega)
theorem shl32_1 : ∀ k : Nat, k < 31 → shl32 1 (k : Int) = ((2 ^ k : Nat) : Int) := by decide +kernel
theorem and255 (x : Int) : 0 ≤ and32 x 255 ∧ and32 x 255 < 256 := by
  unfold and32
  have e := pk_and (jI x) (m := jI 255) 8 (by decide)
  rw [e]
  have h : (jI x).toBitVec.toNat % 2 ^ 8 < 256 := Nat.mod_lt _ (by decide)
  rw [nI_toInt (by omega)]
  omega
theorem sm64 : ∀ k : Nat, k < 64 → (((jI (k : Int)).toInt64 &&& 63).toBitVec.smod 64).toNat = k := by decide +kernel
theorem shl64_n {a k : Nat} (hk : k < 64) (h : a * 2 ^ k < 9223372036854775808) : shl64 (a : Int) (k : Int) = ((a * 2 ^ k : Nat) : Int) := by
  unfold shl64
  show ((jL (a : Int)).toBitVec <<< (((jI (k : Int)).toInt64 &&& 63).toBitVec.smod 64)).toInt = _
  rw [bL_n]
  have hp : 1 ≤ 2 ^ k := Nat.one_le_two_pow
  have ha : a ≤ a * 2 ^ k := Nat.le_mul_of_pos_right a hp
  have e : (BitVec.ofNat 64 a <<< (((jI (k : Int)).toInt64 &&& 63).toBitVec.smod 64)).toNat = a * 2 ^ k := by
    rw [BitVec.shiftLeft_eq', sm64 k hk, BitVec.toNat_shiftLeft, bn_n64 (by omega), Nat.shiftLeft_eq]
    exact Nat.mod_eq_of_lt (by omega)
  rw [bt_lt64 (by rw [e]; exact h), e]
theorem or64_n {a b : Nat} (ha : a < 9223372036854775808) (hb : b < 9223372036854775808) : or64 (a : Int) (b : Int) = ((a ||| b : Nat) : Int) := by
  unfold or64
  show ((jL (a : Int)).toBitVec ||| (jL (b : Int)).toBitVec).toInt = _
  rw [bL_n, bL_n]
  have e : (BitVec.ofNat 64 a ||| BitVec.ofNat 64 b).toNat = a ||| b := by rw [BitVec.toNat_or, bn_n64 (by omega), bn_n64 (by omega)]
  rw [bt_lt64 (by rw [e]; exact Nat.or_lt_two_pow (n := 63) ha hb), e]
/-- a digit more of a name -/
theorem name_up {a c k : Nat} (hk : k < 64) (hc : c < 2 ^ k) (h : a * 2 ^ k + c < 9223372036854775808) : or64 (shl64 (a : Int) (k : Int)) (c : Int) = ((a * 2 ^ k + c : Nat) : Int) := by
  rw [shl64_n hk (by omega), or64_n (by omega) (by omega), ← Nat.shiftLeft_eq, Nat.shiftLeft_add_eq_or_of_lt hc]
theorem div32_n {a b : Nat} (ha : a < 2147483648) (hb : b < 2147483648) : div32 (a : Int) (b : Int) = ((a / b : Nat) : Int) := by
  unfold div32; rw [w32_n ha, w32_n hb]; norm_cast
theorem rem32_n {a b : Nat} (ha : a < 2147483648) (hb : b < 2147483648) : rem32 (a : Int) (b : Int) = ((a % b : Nat) : Int) := by
  unfold rem32; rw [w32_n ha, w32_n hb]; norm_cast
