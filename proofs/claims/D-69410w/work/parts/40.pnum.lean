set_option maxRecDepth 100000
/-! PURE 40: numbers -/
theorem and32_nat {a b : Int} : and32 a b = Int.bmod (((a % 4294967296).toNat &&& (b % 4294967296).toNat : Nat) : Int) 4294967296 := by
  show ((Int32.ofInt a &&& Int32.ofInt b)).toBitVec.toInt = _
  rw [Int32.toBitVec_and, BitVec.toInt_eq_toNat_bmod, BitVec.toNat_and, Int32.toBitVec_ofInt, Int32.toBitVec_ofInt, BitVec.toNat_ofInt, BitVec.toNat_ofInt]
  rfl
theorem or32_nat {a b : Int} : or32 a b = Int.bmod (((a % 4294967296).toNat ||| (b % 4294967296).toNat : Nat) : Int) 4294967296 := by
  show ((Int32.ofInt a ||| Int32.ofInt b)).toBitVec.toInt = _
  rw [Int32.toBitVec_or, BitVec.toInt_eq_toNat_bmod, BitVec.toNat_or, Int32.toBitVec_ofInt, Int32.toBitVec_ofInt, BitVec.toNat_ofInt, BitVec.toNat_ofInt]
  rfl
theorem pand32_mask {a : Int} (k : Nat) (hk : k ≤ 31) : and32 a (2 ^ k - 1) = a % 2 ^ k := by
  rw [and32_nat]
  have h1 : (2 : Int) ^ k ≤ 2147483648 := by
    have : (2 : Int) ^ k ≤ 2 ^ 31 := by
      have := Nat.pow_le_pow_right (show 0 < 2 by decide) hk
      exact_mod_cast this
    simpa using this
  have h0 : (0 : Int) < 2 ^ k := by have := Nat.two_pow_pos k; exact_mod_cast this
  have h2 : ((2 : Int) ^ k - 1) % 4294967296 = 2 ^ k - 1 := Int.emod_eq_of_lt (by omega) (by omega)
  have h3 : ((2 : Int) ^ k - 1).toNat = 2 ^ k - 1 := by
    have := Nat.two_pow_pos k
    have e : ((2 : Int) ^ k) = ((2 ^ k : Nat) : Int) := by norm_cast
    rw [e]; omega
  rw [h2, h3, Nat.and_two_pow_sub_one_eq_mod]
  have h4 : ((((a % 4294967296).toNat % 2 ^ k : Nat)) : Int) = a % 2 ^ k := by
    have e : (((a % 4294967296).toNat : Nat) : Int) = a % 4294967296 := Int.toNat_of_nonneg (Int.emod_nonneg _ (by decide))
    rw [Int.natCast_emod, e]
    have e2 : ((2 ^ k : Nat) : Int) = 2 ^ k := by norm_cast
    rw [e2]
    apply Int.emod_emod_of_dvd
    have : (2 : Nat) ^ k ∣ 2 ^ 32 := Nat.pow_dvd_pow 2 (by omega)
    have := Int.ofNat_dvd.mpr this
    rw [e2] at this
    exact this
  rw [h4]
  have h5 := Int.emod_nonneg a (show (2 : Int) ^ k ≠ 0 by omega)
  have h6 := Int.emod_lt_of_pos a h0
  exact Int.bmod_eq_of_le (by omega) (by omega)
theorem and32_255 (a : Int) : and32 a 255 = a % 256 := pand32_mask 8 (by decide)
theorem and32_127 (a : Int) : and32 a 127 = a % 128 := pand32_mask 7 (by decide)
theorem and32_63 (a : Int) : and32 a 63 = a % 64 := pand32_mask 6 (by decide)
theorem and32_31 (a : Int) : and32 a 31 = a % 32 := pand32_mask 5 (by decide)
theorem and32_1 (a : Int) : and32 a 1 = a % 2 := pand32_mask 1 (by decide)
theorem and32_15 (a : Int) : and32 a 15 = a % 16 := pand32_mask 4 (by decide)
theorem and32_4095 (a : Int) : and32 a 4095 = a % 4096 := pand32_mask 12 (by decide)
theorem and32_28 (a : Int) : and32 a 268435455 = a % 268435456 := pand32_mask 28 (by decide)
theorem bmod_small {n : Nat} (h : n < 2147483648) : Int.bmod (n : Int) 4294967296 = n := Int.bmod_eq_of_le (by omega) (by omega)
theorem or32_add {x b : Int} (k : Nat) (hx : 0 ≤ x) (hb : 0 ≤ b) (hlt : b < 2 ^ k) (hs : x * 2 ^ k + b ≤ 2147483647) : or32 (x * 2 ^ k) b = x * 2 ^ k + b := by
  rw [or32_nat]
  have h0 : (0 : Int) < 2 ^ k := by have := Nat.two_pow_pos k; exact_mod_cast this
  have hxk : 0 ≤ x * 2 ^ k := Int.mul_nonneg hx (by omega)
  have h1 : (x * 2 ^ k) % 4294967296 = x * 2 ^ k := Int.emod_eq_of_lt hxk (by omega)
  have h2 : b % 4294967296 = b := Int.emod_eq_of_lt hb (by omega)
  rw [h1, h2]
  obtain ⟨m, rfl⟩ := Int.eq_ofNat_of_zero_le hx
  obtain ⟨c, rfl⟩ := Int.eq_ofNat_of_zero_le hb
  have e2 : ((2 : Int) ^ k) = ((2 ^ k : Nat) : Int) := by norm_cast
  have e3 : ((m : Int) * 2 ^ k).toNat = m <<< k := by rw [e2, Nat.shiftLeft_eq]; norm_cast
  have e4 : (c : Int).toNat = c := rfl
  have hlt' : c < 2 ^ k := by rw [e2] at hlt; exact_mod_cast hlt
  rw [e3, e4, ← Nat.shiftLeft_add_eq_or_of_lt hlt' m]
  have e5 : ((m <<< k + c : Nat) : Int) = m * 2 ^ k + c := by rw [Nat.shiftLeft_eq, e2]; push_cast; rfl
  rw [e5]
  exact Int.bmod_eq_of_le (by omega) (by omega)
theorem i32_toInt' {a : Int} (h : rg a) : (Int32.ofInt a).toInt = a := by rw [i32_toInt, w32_id h]
theorem shr32_div {a : Int} (k : Int) (ha : rg a) (h0 : 0 ≤ k) (h1 : k ≤ 31) : shr32 a k = a / 2 ^ k.toNat := by
  obtain ⟨k, rfl⟩ := Int.eq_ofNat_of_zero_le h0
  have h1 : k ≤ 31 := by omega
  show (Int32.ofInt a >>> (Int32.ofInt k &&& 31)).toBitVec.toInt = _
  rw [Int32.toBitVec_shiftRight]
  have e1 : (Int32.ofInt (k : Int) &&& 31).toBitVec.smod 32 = BitVec.ofNat 32 k := by
    have : ∀ k : Fin 32, (Int32.ofInt (k.val : Int) &&& 31).toBitVec.smod 32 = BitVec.ofNat 32 k.val := by decide +kernel
    exact this ⟨k, by omega⟩
  rw [e1]
  show ((Int32.ofInt a).toBitVec.sshiftRight (BitVec.ofNat 32 k).toNat).toInt = _
  rw [BitVec.toInt_sshiftRight, Int.shiftRight_eq_div_pow]
  have e2 : (BitVec.ofNat 32 k).toNat = k := by rw [BitVec.toNat_ofNat]; exact Nat.mod_eq_of_lt (by omega)
  rw [e2]
  have e3 : (Int32.ofInt a).toBitVec.toInt = a := i32_toInt' ha
  rw [e3]
  norm_cast
theorem shl32_mul {a : Int} (k : Int) (h0 : 0 ≤ k) (h1 : k ≤ 31) : shl32 a k = w32 (a * 2 ^ k.toNat) := by
  obtain ⟨k, rfl⟩ := Int.eq_ofNat_of_zero_le h0
  have h1 : k ≤ 31 := by omega
  show (Int32.ofInt a <<< (Int32.ofInt k &&& 31)).toBitVec.toInt = _
  rw [Int32.toBitVec_shiftLeft]
  have e1 : (Int32.ofInt (k : Int) &&& 31).toBitVec.smod 32 = BitVec.ofNat 32 k := by
    have : ∀ k : Fin 32, (Int32.ofInt (k.val : Int) &&& 31).toBitVec.smod 32 = BitVec.ofNat 32 k.val := by decide +kernel
    exact this ⟨k, by omega⟩
  rw [e1]
  have e2 : (BitVec.ofNat 32 k).toNat = k := by rw [BitVec.toNat_ofNat]; exact Nat.mod_eq_of_lt (by omega)
  rw [BitVec.shiftLeft_eq', e2, BitVec.toInt_shiftLeft, Int32.toBitVec_ofInt, BitVec.toNat_ofInt]
  unfold w32
  have e3 : ((((a % ((2 ^ 32 : Nat) : Int)).toNat <<< k : Nat)) : Int) = (a % ((2 ^ 32 : Nat) : Int)) * 2 ^ k := by
    rw [Nat.shiftLeft_eq, Int.natCast_mul, Int.toNat_of_nonneg (Int.emod_nonneg _ (by decide))]
    norm_cast
  rw [e3, Int.emod_mul_bmod]
  rfl
theorem ushr32_div {a : Int} (k : Int) (ha : 0 ≤ a) (hb : a ≤ 2147483647) (h0 : 0 ≤ k) (h1 : k ≤ 31) : ushr32 a k = a / 2 ^ k.toNat := by
  obtain ⟨k, rfl⟩ := Int.eq_ofNat_of_zero_le h0
  have h1 : k ≤ 31 := by omega
  show (((Int32.ofInt a).toUInt32 >>> ((Int32.ofInt k).toUInt32 &&& Int32.toUInt32 31)).toInt32).toBitVec.toInt = _
  have e1 : ((Int32.ofInt (k : Int)).toUInt32 &&& Int32.toUInt32 31) = UInt32.ofNat k := by
    have : ∀ k : Fin 32, ((Int32.ofInt (k.val : Int)).toUInt32 &&& Int32.toUInt32 31) = UInt32.ofNat k.val := by decide +kernel
    exact this ⟨k, by omega⟩
  rw [e1]
  show ((Int32.ofInt a).toUInt32 >>> UInt32.ofNat k).toBitVec.toInt = _
  have e2 : ((Int32.ofInt a).toUInt32 >>> UInt32.ofNat k).toNat = a.toNat >>> k := by
    rw [UInt32.toNat_shiftRight]
    have : (UInt32.ofNat k).toNat = k := by rw [UInt32.toNat_ofNat']; exact Nat.mod_eq_of_lt (by omega)
    rw [this, Nat.mod_eq_of_lt (by omega : k < 32)]
    have : (Int32.ofInt a).toUInt32.toNat = a.toNat := by
      show (Int32.ofInt a).toBitVec.toNat = _
      rw [Int32.toBitVec_ofInt, BitVec.toNat_ofInt, Int.emod_eq_of_lt ha (by simp; omega)]
    rw [this]
  rw [BitVec.toInt_eq_toNat_bmod]
  show Int.bmod ((((Int32.ofInt a).toUInt32 >>> UInt32.ofNat k).toNat : Nat) : Int) (2 ^ 32) = _
  rw [e2, Nat.shiftRight_eq_div_pow]
  have e4 : (((a.toNat / 2 ^ k : Nat)) : Int) = a / 2 ^ k := by
    rw [Int.natCast_ediv, Int.toNat_of_nonneg ha]; norm_cast
  rw [e4]
  have h0 : (0 : Int) < 2 ^ k := by have := Nat.two_pow_pos k; exact_mod_cast this
  have h5 : 0 ≤ a / 2 ^ k := Int.ediv_nonneg ha (by omega)
  have h6 : a / 2 ^ k ≤ a := Int.ediv_le_self _ ha
  show Int.bmod _ _ = a / 2 ^ k
  exact Int.bmod_eq_of_le (by simp; omega) (by simp; omega)
theorem d32_div {a b : Int} (ha : 0 ≤ a) (ha' : a ≤ 2147483647) (hb : 0 < b) (hb' : b ≤ 2147483647) : d32 a b = a / b := by
  show (Int32.ofInt a / Int32.ofInt b).toInt = _
  rw [Int32.toInt_div, i32_toInt' ⟨by omega, by omega⟩, i32_toInt' ⟨by omega, by omega⟩, Int.tdiv_eq_ediv_of_nonneg ha]
  have h5 : 0 ≤ a / b := Int.ediv_nonneg ha (by omega)
  have h6 : a / b ≤ a := Int.ediv_le_self _ ha
  exact Int.bmod_eq_of_le (by simp; omega) (by simp; omega)
theorem m32_mod {a b : Int} (ha : 0 ≤ a) (ha' : a ≤ 2147483647) (hb : 0 < b) (hb' : b ≤ 2147483647) : m32 a b = a % b := by
  have e : d32 a b = a / b := d32_div ha ha' hb hb'
  show (Int32.ofInt a - Int32.ofInt a / Int32.ofInt b * Int32.ofInt b).toInt = _
  have e1 : Int32.ofInt a / Int32.ofInt b = Int32.ofInt (a / b) := by
    rw [← e]; show _ = Int32.ofInt (Int32.ofInt a / Int32.ofInt b).toInt; rw [i32_of]
  rw [e1, i32_mul, i32_sub, i32_w32, i32_toInt, w32]
  have h3 : a % b = a - a / b * b := by have := Int.emod_add_mul_ediv a b; rw [Int.mul_comm b] at this; omega
  have h4 := Int.emod_nonneg a (show b ≠ 0 by omega)
  have h5 := Int.emod_lt_of_pos a hb
  have h6 : w32 (a / b * b) = a / b * b := w32_id ⟨by omega, by omega⟩
  rw [h6, h3]
  exact Int.bmod_eq_of_le (by omega) (by omega)
theorem n8_eq (a : Int) : n8 a = Int.bmod a 256 := by
  show ((Int32.ofInt a).toInt8.toInt32).toInt = _
  rw [Int8.toInt_toInt32]
  show (Int32.toInt8 (Int32.ofInt a)).toInt = _
  rw [Int32.toInt_toInt8, i32_toInt, w32]
  show ((a.bmod 4294967296).bmod 256) = _
  exact Int.bmod_bmod_of_dvd (by decide)
theorem n8_255 (a : Int) : and32 (n8 a) 255 = a % 256 := by rw [and32_255, n8_eq]; exact Int.bmod_emod
theorem n8_w8 (a : Int) : n8 (n8 a) = n8 a := by rw [n8_eq, n8_eq]; exact Int.bmod_bmod
theorem bz_eq (a : Int) : bz a = a % 2 := by
  have h : bz a = and32 a 1 := rfl
  rw [h, and32_1]
theorem and64_nat {a b : Int} : and64 a b = Int.bmod (((a % 18446744073709551616).toNat &&& (b % 18446744073709551616).toNat : Nat) : Int) 18446744073709551616 := by
  show ((Int64.ofInt a &&& Int64.ofInt b)).toBitVec.toInt = _
  rw [Int64.toBitVec_and, BitVec.toInt_eq_toNat_bmod, BitVec.toNat_and, Int64.toBitVec_ofInt, Int64.toBitVec_ofInt, BitVec.toNat_ofInt, BitVec.toNat_ofInt]
  rfl
theorem or64_nat {a b : Int} : or64 a b = Int.bmod (((a % 18446744073709551616).toNat ||| (b % 18446744073709551616).toNat : Nat) : Int) 18446744073709551616 := by
  show ((Int64.ofInt a ||| Int64.ofInt b)).toBitVec.toInt = _
  rw [Int64.toBitVec_or, BitVec.toInt_eq_toNat_bmod, BitVec.toNat_or, Int64.toBitVec_ofInt, Int64.toBitVec_ofInt, BitVec.toNat_ofInt, BitVec.toNat_ofInt]
  rfl
theorem and64_32 (a : Int) : and64 a 4294967295 = a % 4294967296 := by
  rw [and64_nat]
  have h2 : ((4294967295 : Int) % 18446744073709551616).toNat = 2 ^ 32 - 1 := by decide
  rw [h2, Nat.and_two_pow_sub_one_eq_mod]
  have h4 : ((((a % 18446744073709551616).toNat % 2 ^ 32 : Nat)) : Int) = a % 4294967296 := by omega
  rw [h4]
  exact Int.bmod_eq_of_le (by omega) (by omega)
theorem or64_add {x b : Int} (k : Nat) (hx : 0 ≤ x) (hb : 0 ≤ b) (hlt : b < 2 ^ k) (hs : x * 2 ^ k + b ≤ 9223372036854775807) : or64 (x * 2 ^ k) b = x * 2 ^ k + b := by
  rw [or64_nat]
  have h0 : (0 : Int) < 2 ^ k := by have := Nat.two_pow_pos k; exact_mod_cast this
  have hxk : 0 ≤ x * 2 ^ k := Int.mul_nonneg hx (by omega)
  have h1 : (x * 2 ^ k) % 18446744073709551616 = x * 2 ^ k := Int.emod_eq_of_lt hxk (by omega)
  have h2 : b % 18446744073709551616 = b := Int.emod_eq_of_lt hb (by omega)
  rw [h1, h2]
  obtain ⟨m, rfl⟩ := Int.eq_ofNat_of_zero_le hx
  obtain ⟨c, rfl⟩ := Int.eq_ofNat_of_zero_le hb
  have e2 : ((2 : Int) ^ k) = ((2 ^ k : Nat) : Int) := by norm_cast
  have e3 : ((m : Int) * 2 ^ k).toNat = m <<< k := by rw [e2, Nat.shiftLeft_eq]; norm_cast
  have e4 : (c : Int).toNat = c := rfl
  have hlt' : c < 2 ^ k := by rw [e2] at hlt; exact_mod_cast hlt
  rw [e3, e4, ← Nat.shiftLeft_add_eq_or_of_lt hlt' m]
  have e5 : ((m <<< k + c : Nat) : Int) = m * 2 ^ k + c := by rw [Nat.shiftLeft_eq, e2]; push_cast; rfl
  rw [e5]
  exact Int.bmod_eq_of_le (by omega) (by omega)
theorem i64_toInt' {a : Int} (h : rgL a) : (Int64.ofInt a).toInt = a := by rw [i64_toInt, w64_id h]
theorem shr64_div {a : Int} (k : Int) (ha : rgL a) (h0 : 0 ≤ k) (h1 : k ≤ 63) : shr64 a k = a / 2 ^ k.toNat := by
  obtain ⟨k, rfl⟩ := Int.eq_ofNat_of_zero_le h0
  have h1 : k ≤ 63 := by omega
  show (Int64.ofInt a >>> ((Int32.ofInt k).toInt64 &&& 63)).toBitVec.toInt = _
  rw [Int64.toBitVec_shiftRight]
  have e1 : ((Int32.ofInt (k : Int)).toInt64 &&& 63).toBitVec.smod 64 = BitVec.ofNat 64 k := by
    have : ∀ k : Fin 64, ((Int32.ofInt (k.val : Int)).toInt64 &&& 63).toBitVec.smod 64 = BitVec.ofNat 64 k.val := by decide +kernel
    exact this ⟨k, by omega⟩
  rw [e1]
  show ((Int64.ofInt a).toBitVec.sshiftRight (BitVec.ofNat 64 k).toNat).toInt = _
  rw [BitVec.toInt_sshiftRight, Int.shiftRight_eq_div_pow]
  have e2 : (BitVec.ofNat 64 k).toNat = k := by rw [BitVec.toNat_ofNat]; exact Nat.mod_eq_of_lt (by omega)
  rw [e2]
  have e3 : (Int64.ofInt a).toBitVec.toInt = a := i64_toInt' ha
  rw [e3]
  norm_cast
theorem shl64_mul {a : Int} (k : Int) (h0 : 0 ≤ k) (h1 : k ≤ 63) : shl64 a k = w64 (a * 2 ^ k.toNat) := by
  obtain ⟨k, rfl⟩ := Int.eq_ofNat_of_zero_le h0
  have h1 : k ≤ 63 := by omega
  show (Int64.ofInt a <<< ((Int32.ofInt k).toInt64 &&& 63)).toBitVec.toInt = _
  rw [Int64.toBitVec_shiftLeft]
  have e1 : ((Int32.ofInt (k : Int)).toInt64 &&& 63).toBitVec.smod 64 = BitVec.ofNat 64 k := by
    have : ∀ k : Fin 64, ((Int32.ofInt (k.val : Int)).toInt64 &&& 63).toBitVec.smod 64 = BitVec.ofNat 64 k.val := by decide +kernel
    exact this ⟨k, by omega⟩
  rw [e1]
  have e2 : (BitVec.ofNat 64 k).toNat = k := by rw [BitVec.toNat_ofNat]; exact Nat.mod_eq_of_lt (by omega)
  rw [BitVec.shiftLeft_eq', e2, BitVec.toInt_shiftLeft, Int64.toBitVec_ofInt, BitVec.toNat_ofInt]
  unfold w64
  have e3 : ((((a % ((2 ^ 64 : Nat) : Int)).toNat <<< k : Nat)) : Int) = (a % ((2 ^ 64 : Nat) : Int)) * 2 ^ k := by
    rw [Nat.shiftLeft_eq, Int.natCast_mul, Int.toNat_of_nonneg (Int.emod_nonneg _ (by decide))]
    norm_cast
  rw [e3, Int.emod_mul_bmod]
  rfl
theorem ushr64_div {a : Int} (k : Int) (ha : 0 ≤ a) (hb : a ≤ 9223372036854775807) (h0 : 0 ≤ k) (h1 : k ≤ 63) : ushr64 a k = a / 2 ^ k.toNat := by
  obtain ⟨k, rfl⟩ := Int.eq_ofNat_of_zero_le h0
  have h1 : k ≤ 63 := by omega
  show (((Int64.ofInt a).toUInt64 >>> ((Int32.ofInt k).toInt64.toUInt64 &&& Int64.toUInt64 63)).toInt64).toBitVec.toInt = _
  have e1 : ((Int32.ofInt (k : Int)).toInt64.toUInt64 &&& Int64.toUInt64 63) = UInt64.ofNat k := by
    have : ∀ k : Fin 64, ((Int32.ofInt (k.val : Int)).toInt64.toUInt64 &&& Int64.toUInt64 63) = UInt64.ofNat k.val := by decide +kernel
    exact this ⟨k, by omega⟩
  rw [e1]
  show ((Int64.ofInt a).toUInt64 >>> UInt64.ofNat k).toBitVec.toInt = _
  have e2 : ((Int64.ofInt a).toUInt64 >>> UInt64.ofNat k).toNat = a.toNat >>> k := by
    rw [UInt64.toNat_shiftRight]
    have : (UInt64.ofNat k).toNat = k := by rw [UInt64.toNat_ofNat']; exact Nat.mod_eq_of_lt (by omega)
    rw [this, Nat.mod_eq_of_lt (by omega : k < 64)]
    have : (Int64.ofInt a).toUInt64.toNat = a.toNat := by
      show (Int64.ofInt a).toBitVec.toNat = _
      rw [Int64.toBitVec_ofInt, BitVec.toNat_ofInt, Int.emod_eq_of_lt ha (by simp; omega)]
    rw [this]
  rw [BitVec.toInt_eq_toNat_bmod]
  show Int.bmod ((((Int64.ofInt a).toUInt64 >>> UInt64.ofNat k).toNat : Nat) : Int) (2 ^ 64) = _
  rw [e2, Nat.shiftRight_eq_div_pow]
  have e4 : (((a.toNat / 2 ^ k : Nat)) : Int) = a / 2 ^ k := by
    rw [Int.natCast_ediv, Int.toNat_of_nonneg ha]; norm_cast
  rw [e4]
  have h0 : (0 : Int) < 2 ^ k := by have := Nat.two_pow_pos k; exact_mod_cast this
  have h5 : 0 ≤ a / 2 ^ k := Int.ediv_nonneg ha (by omega)
  have h6 : a / 2 ^ k ≤ a := Int.ediv_le_self _ ha
  show Int.bmod _ _ = a / 2 ^ k
  exact Int.bmod_eq_of_le (by simp; omega) (by simp; omega)
theorem d64_div {a b : Int} (ha : 0 ≤ a) (ha' : a ≤ 9223372036854775807) (hb : 0 < b) (hb' : b ≤ 9223372036854775807) : d64 a b = a / b := by
  show (Int64.ofInt a / Int64.ofInt b).toInt = _
  rw [Int64.toInt_div, i64_toInt' ⟨by omega, by omega⟩, i64_toInt' ⟨by omega, by omega⟩, Int.tdiv_eq_ediv_of_nonneg ha]
  have h5 : 0 ≤ a / b := Int.ediv_nonneg ha (by omega)
  have h6 : a / b ≤ a := Int.ediv_le_self _ ha
  exact Int.bmod_eq_of_le (by simp; omega) (by simp; omega)
theorem m64_mod {a b : Int} (ha : 0 ≤ a) (ha' : a ≤ 9223372036854775807) (hb : 0 < b) (hb' : b ≤ 9223372036854775807) : m64 a b = a % b := by
  show (Int64.ofInt a % Int64.ofInt b).toInt = _
  rw [Int64.toInt_mod, i64_toInt' ⟨by omega, by omega⟩, i64_toInt' ⟨by omega, by omega⟩, Int.tmod_eq_emod_of_nonneg ha]
theorem cmp64_lt {a b : Int} : cmp64 a b < 0 ↔ a < b := by unfold cmp64; split; simp; omega; split <;> simp <;> omega
theorem cmp64_le {a b : Int} : cmp64 a b ≤ 0 ↔ a ≤ b := by unfold cmp64; split; simp; omega; split <;> simp <;> omega
theorem cmp64_eq {a b : Int} : cmp64 a b = 0 ↔ a = b := by unfold cmp64; split; simp; omega; split <;> simp <;> omega
theorem cmp64_ge {a b : Int} : 0 ≤ cmp64 a b ↔ b ≤ a := by unfold cmp64; split; simp; omega; split <;> simp <;> omega
theorem cmp64_gt {a b : Int} : 0 < cmp64 a b ↔ b < a := by unfold cmp64; split; simp; omega; split <;> simp <;> omega
