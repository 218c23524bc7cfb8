/-! MACHINE NUMBERS AS INTEGERS -/
theorem i32_rng (x : Int32) : -2147483648 ≤ x.toInt ∧ x.toInt < 2147483648 := ⟨x.le_toInt, x.toInt_lt⟩
theorem i64_rng (x : Int64) : -9223372036854775808 ≤ x.toInt ∧ x.toInt < 9223372036854775808 := ⟨x.le_toInt, x.toInt_lt⟩
theorem i32_of (z : Int) : (Int32.ofInt z).toInt = w32 z := Int32.toInt_ofInt
theorem i64_of (z : Int) : (Int64.ofInt z).toInt = w64 z := Int64.toInt_ofInt
theorem i32_self (x : Int32) : Int32.ofInt x.toInt = x := Int32.ofInt_toInt x
theorem i64_self (x : Int64) : Int64.ofInt x.toInt = x := Int64.ofInt_toInt x
theorem w32_id {z : Int} (h1 : -2147483648 ≤ z) (h2 : z < 2147483648) : w32 z = z := by
  unfold w32
  rw [Int.bmod_eq_of_le (by omega) (by omega)]
theorem w64_id {z : Int} (h1 : -9223372036854775808 ≤ z) (h2 : z < 9223372036854775808) : w64 z = z := by
  unfold w64
  rw [Int.bmod_eq_of_le (by omega) (by omega)]
theorem n_add (x y : Int32) : (x + y).toInt = w32 (x.toInt + y.toInt) := Int32.toInt_add x y
theorem n_sub (x y : Int32) : (x - y).toInt = w32 (x.toInt - y.toInt) := Int32.toInt_sub x y
theorem n_mul (x y : Int32) : (x * y).toInt = w32 (x.toInt * y.toInt) := Int32.toInt_mul x y
theorem n_neg (x : Int32) : (-x).toInt = w32 (-x.toInt) := Int32.toInt_neg x
theorem n_div (x y : Int32) : (x / y).toInt = div32 x.toInt y.toInt := Int32.toInt_div x y
theorem n_and (x y : Int32) : (x &&& y).toInt = and32 x.toInt y.toInt := by unfold and32; rw [i32_self, i32_self]
theorem n_or (x y : Int32) : (x ||| y).toInt = or32 x.toInt y.toInt := by unfold or32; rw [i32_self, i32_self]
theorem n_xor (x y : Int32) : (x ^^^ y).toInt = xor32 x.toInt y.toInt := by unfold xor32; rw [i32_self, i32_self]
theorem m_add (x y : Int64) : (x + y).toInt = w64 (x.toInt + y.toInt) := Int64.toInt_add x y
theorem m_sub (x y : Int64) : (x - y).toInt = w64 (x.toInt - y.toInt) := Int64.toInt_sub x y
theorem m_mul (x y : Int64) : (x * y).toInt = w64 (x.toInt * y.toInt) := Int64.toInt_mul x y
theorem m_neg (x : Int64) : (-x).toInt = w64 (-x.toInt) := Int64.toInt_neg x
theorem m_div (x y : Int64) : (x / y).toInt = div64 x.toInt y.toInt := Int64.toInt_div x y
theorem m_and (x y : Int64) : (x &&& y).toInt = and64 x.toInt y.toInt := by unfold and64; rw [i64_self, i64_self]
theorem m_or (x y : Int64) : (x ||| y).toInt = or64 x.toInt y.toInt := by unfold or64; rw [i64_self, i64_self]
theorem m_xor (x y : Int64) : (x ^^^ y).toInt = xor64 x.toInt y.toInt := by unfold xor64; rw [i64_self, i64_self]
theorem w32_ex (z : Int) : ∃ k, w32 z = z + 4294967296 * k := by
  unfold w32
  rw [Int.bmod_def]
  split
  · exact ⟨-(z / 4294967296), by omega⟩
  · exact ⟨-(z / 4294967296) - 1, by omega⟩
theorem w64_ex (z : Int) : ∃ k, w64 z = z + 18446744073709551616 * k := by
  unfold w64
  rw [Int.bmod_def]
  split
  · exact ⟨-(z / 18446744073709551616), by omega⟩
  · exact ⟨-(z / 18446744073709551616) - 1, by omega⟩
theorem w32_rng (z : Int) : -2147483648 ≤ w32 z ∧ w32 z < 2147483648 := by
  unfold w32
  rw [Int.bmod_def]
  split <;> omega
theorem w64_rng (z : Int) : -9223372036854775808 ≤ w64 z ∧ w64 z < 9223372036854775808 := by
  unfold w64
  rw [Int.bmod_def]
  split <;> omega
theorem w8_rng (z : Int) : -128 ≤ w8 z ∧ w8 z < 128 := by
  unfold w8
  rw [Int.bmod_def]
  split <;> omega
/-- a number in range that is as far as so many rounds is the wrapped one -/
theorem w32_eq {a b : Int} (h : ∃ k, a = b + 4294967296 * k) (h1 : -2147483648 ≤ b) (h2 : b < 2147483648) : w32 a = b := by
  obtain ⟨k, hk⟩ := h
  obtain ⟨j, hj⟩ := w32_ex a
  have := w32_rng a
  omega
theorem w64_eq {a b : Int} (h : ∃ k, a = b + 18446744073709551616 * k) (h1 : -9223372036854775808 ≤ b) (h2 : b < 9223372036854775808) : w64 a = b := by
  obtain ⟨k, hk⟩ := h
  obtain ⟨j, hj⟩ := w64_ex a
  have := w64_rng a
  omega
theorem tmod_rng {a b : Int} (hb : ¬ b = 0) : (a.tmod b).natAbs < b.natAbs := by
  rw [Int.natAbs_tmod]
  exact Nat.mod_lt _ (by omega)
theorem n_rem (x y : Int32) (hy : ¬ y.toInt = 0) : (x - x / y * y).toInt = rem32 x.toInt y.toInt := by
  rw [n_sub, n_mul, n_div]
  have hyr := i32_rng y
  have h1 := Int.mul_tdiv_add_tmod x.toInt y.toInt
  have h2 := tmod_rng (a := x.toInt) hy
  unfold rem32 div32
  obtain ⟨k1, hk1⟩ := w32_ex (x.toInt.tdiv y.toInt)
  obtain ⟨k2, hk2⟩ := w32_ex (w32 (x.toInt.tdiv y.toInt) * y.toInt)
  refine w32_eq ⟨-(k1 * y.toInt) - k2, ?_⟩ (by omega) (by omega)
  rw [hk2, hk1, Int.add_mul, Int.mul_comm (x.toInt.tdiv y.toInt) y.toInt, Int.mul_assoc]
  generalize y.toInt * x.toInt.tdiv y.toInt = u at h1 ⊢
  generalize k1 * y.toInt = v
  omega
theorem m_rem (x y : Int64) (hy : ¬ y.toInt = 0) : (x - x / y * y).toInt = rem64 x.toInt y.toInt := by
  rw [m_sub, m_mul, m_div]
  have hyr := i64_rng y
  have h1 := Int.mul_tdiv_add_tmod x.toInt y.toInt
  have h2 := tmod_rng (a := x.toInt) hy
  unfold rem64 div64
  obtain ⟨k1, hk1⟩ := w64_ex (x.toInt.tdiv y.toInt)
  obtain ⟨k2, hk2⟩ := w64_ex (w64 (x.toInt.tdiv y.toInt) * y.toInt)
  refine w64_eq ⟨-(k1 * y.toInt) - k2, ?_⟩ (by omega) (by omega)
  rw [hk2, hk1, Int.add_mul, Int.mul_comm (x.toInt.tdiv y.toInt) y.toInt, Int.mul_assoc]
  generalize y.toInt * x.toInt.tdiv y.toInt = u at h1 ⊢
  generalize k1 * y.toInt = v
  omega
/-- the shift's count -/
theorem bv_and31 (b : BitVec 32) : (b &&& 31#32).toNat = b.toNat % 32 := by
  rw [BitVec.toNat_and]
  exact Nat.and_two_pow_sub_one_eq_mod b.toNat 5
theorem bv_and63 (b : BitVec 64) : (b &&& 63#64).toNat = b.toNat % 64 := by
  rw [BitVec.toNat_and]
  exact Nat.and_two_pow_sub_one_eq_mod b.toNat 6
theorem smod_small {w : Nat} {x y : BitVec w} (hx : x.msb = false) (hy : y.msb = false) : x.smod y = x.umod y := by
  unfold BitVec.smod
  rw [hx, hy]
theorem i32_nat (y : Int32) : (y.toBitVec.toNat : Int) % 4294967296 = y.toInt % 4294967296 := by
  have h := BitVec.toInt_eq_toNat_cond y.toBitVec
  have e : y.toInt = y.toBitVec.toInt := rfl
  rw [e, h]
  split <;> omega
theorem i64_nat (y : Int64) : (y.toBitVec.toNat : Int) % 18446744073709551616 = y.toInt % 18446744073709551616 := by
  have h := BitVec.toInt_eq_toNat_cond y.toBitVec
  have e : y.toInt = y.toBitVec.toInt := rfl
  rw [e, h]
  split <;> omega
theorem sh_cnt (y : Int32) : ((y &&& 31).toBitVec.smod 32).toNat = (y.toInt % 32).toNat := by
  have e : (y &&& 31).toBitVec = y.toBitVec &&& 31#32 := rfl
  have h0 := bv_and31 y.toBitVec
  have hm : (y.toBitVec &&& 31#32).msb = false := by
    rw [BitVec.msb_eq_false_iff_two_mul_lt]
    omega
  rw [e, smod_small hm (by decide), BitVec.umod_eq, BitVec.toNat_umod, h0]
  have h1 := i32_nat y
  have h2 : (32 : BitVec 32).toNat = 32 := rfl
  rw [h2]
  omega
theorem sh_cnt64 (y : Int32) : ((y.toInt64 &&& 63).toBitVec.smod 64).toNat = (y.toInt % 64).toNat := by
  have e : (y.toInt64 &&& 63).toBitVec = y.toInt64.toBitVec &&& 63#64 := rfl
  have h0 := bv_and63 y.toInt64.toBitVec
  have hm : (y.toInt64.toBitVec &&& 63#64).msb = false := by
    rw [BitVec.msb_eq_false_iff_two_mul_lt]
    omega
  rw [e, smod_small hm (by decide), BitVec.umod_eq, BitVec.toNat_umod, h0]
  have h1 := i64_nat y.toInt64
  have h2 : (64 : BitVec 64).toNat = 64 := rfl
  rw [Int32.toInt_toInt64] at h1
  rw [h2]
  omega
theorem i32_bv (x : Int32) (n : Nat) (h : x.toBitVec.toNat = n % 4294967296) : x.toInt = w32 n := by
  have h1 := i32_nat x
  have h2 := i32_rng x
  exact (w32_eq ⟨(n : Int) / 4294967296 - x.toInt / 4294967296 , by omega⟩ h2.1 h2.2).symm
theorem i64_bv (x : Int64) (n : Nat) (h : x.toBitVec.toNat = n % 18446744073709551616) : x.toInt = w64 n := by
  have h1 := i64_nat x
  have h2 := i64_rng x
  exact (w64_eq ⟨(n : Int) / 18446744073709551616 - x.toInt / 18446744073709551616 , by omega⟩ h2.1 h2.2).symm
theorem w32_mul {a b : Int} (c : Int) (h : ∃ k, a = b + 4294967296 * k) : w32 (a * c) = w32 (b * c) := by
  obtain ⟨k, rfl⟩ := h
  obtain ⟨j, hj⟩ := w32_ex (b * c)
  have := w32_rng (b * c)
  refine w32_eq ⟨k * c - j, ?_⟩ this.1 this.2
  rw [hj, Int.add_mul, Int.mul_assoc]
  generalize k * c = u
  omega
theorem w64_mul {a b : Int} (c : Int) (h : ∃ k, a = b + 18446744073709551616 * k) : w64 (a * c) = w64 (b * c) := by
  obtain ⟨k, rfl⟩ := h
  obtain ⟨j, hj⟩ := w64_ex (b * c)
  have := w64_rng (b * c)
  refine w64_eq ⟨k * c - j, ?_⟩ this.1 this.2
  rw [hj, Int.add_mul, Int.mul_assoc]
  generalize k * c = u
  omega
theorem n_shl (x y : Int32) : (x <<< (y &&& 31)).toInt = shl32 x.toInt y.toInt := by
  have h1 := pk_shl x (y &&& 31) _ (sh_cnt y)
  rw [i32_bv _ _ h1]
  unfold shl32
  rw [Int.natCast_mul, Int.natCast_pow]
  have h3 := i32_nat x
  refine w32_mul _ ⟨(x.toBitVec.toNat : Int) / 4294967296 - x.toInt / 4294967296, by omega⟩
theorem n_shr (x y : Int32) : (x >>> (y &&& 31)).toInt = shr32 x.toInt y.toInt := by
  rw [pk_shr x (y &&& 31) _ (sh_cnt y), Int.shiftRight_eq_div_pow]
  unfold shr32
  rw [Int.natCast_pow]
  rfl
theorem ush_cnt (y : Int32) : ((y.toUInt32 &&& Int32.toUInt32 31).toBitVec % 32).toNat = (y.toInt % 32).toNat := by
  have e : (y.toUInt32 &&& Int32.toUInt32 31).toBitVec = y.toBitVec &&& 31#32 := rfl
  have h0 := bv_and31 y.toBitVec
  rw [e, BitVec.toNat_umod, h0]
  have h1 := i32_nat y
  have h2 : (32 : BitVec 32).toNat = 32 := rfl
  rw [h2]
  omega
theorem n_ushr (x y : Int32) : (x.toUInt32 >>> (y.toUInt32 &&& Int32.toUInt32 31)).toInt32.toInt = ush32 x.toInt y.toInt := by
  have h1 := pk_ushr x y _ (ush_cnt y)
  have h2 := x.toBitVec.isLt
  have h3 : x.toBitVec.toNat / 2 ^ (y.toInt % 32).toNat ≤ x.toBitVec.toNat := Nat.div_le_self _ _
  rw [i32_bv _ (x.toBitVec.toNat / 2 ^ (y.toInt % 32).toNat) (by rw [h1]; omega)]
  unfold ush32
  have h4 := i32_nat x
  have h5 : (x.toBitVec.toNat : Int) = x.toInt % 4294967296 := by omega
  rw [Int.natCast_ediv, Int.natCast_pow, h5]
  rfl
theorem m_shl (x : Int64) (y : Int32) : (x <<< (y.toInt64 &&& 63)).toInt = shl64 x.toInt y.toInt := by
  have h1 : (x <<< (y.toInt64 &&& 63)).toBitVec.toNat = x.toBitVec.toNat * 2 ^ (y.toInt % 64).toNat % 18446744073709551616 := by
    show (x.toBitVec <<< ((y.toInt64 &&& 63).toBitVec.smod 64).toNat).toNat = _
    rw [sh_cnt64, BitVec.toNat_shiftLeft, Nat.shiftLeft_eq]
  rw [i64_bv _ _ h1]
  unfold shl64
  rw [Int.natCast_mul, Int.natCast_pow]
  have h3 := i64_nat x
  refine w64_mul _ ⟨(x.toBitVec.toNat : Int) / 18446744073709551616 - x.toInt / 18446744073709551616, by omega⟩
theorem m_shr (x : Int64) (y : Int32) : (x >>> (y.toInt64 &&& 63)).toInt = shr64 x.toInt y.toInt := by
  have h1 : (x >>> (y.toInt64 &&& 63)).toInt = x.toInt >>> (y.toInt % 64).toNat := by
    show (x.toBitVec.sshiftRight ((y.toInt64 &&& 63).toBitVec.smod 64).toNat).toInt = _
    rw [sh_cnt64, BitVec.toInt_sshiftRight]
    rfl
  rw [h1, Int.shiftRight_eq_div_pow]
  unfold shr64
  rw [Int.natCast_pow]
  rfl
theorem m_ushr (x : Int64) (y : Int32) : (x.toUInt64 >>> (y.toInt64.toUInt64 &&& Int64.toUInt64 63)).toInt64.toInt = ush64 x.toInt y.toInt := by
  have hc : ((y.toInt64.toUInt64 &&& Int64.toUInt64 63).toBitVec % 64).toNat = (y.toInt % 64).toNat := by
    have e : (y.toInt64.toUInt64 &&& Int64.toUInt64 63).toBitVec = y.toInt64.toBitVec &&& 63#64 := rfl
    have h0 := bv_and63 y.toInt64.toBitVec
    rw [e, BitVec.toNat_umod, h0]
    have h1 := i64_nat y.toInt64
    have h2 : (64 : BitVec 64).toNat = 64 := rfl
    rw [Int32.toInt_toInt64] at h1
    rw [h2]
    omega
  have h1 : (x.toUInt64 >>> (y.toInt64.toUInt64 &&& Int64.toUInt64 63)).toInt64.toBitVec.toNat = x.toBitVec.toNat / 2 ^ (y.toInt % 64).toNat := by
    have e : (x.toUInt64 >>> (y.toInt64.toUInt64 &&& Int64.toUInt64 63)).toInt64.toBitVec = x.toBitVec >>> ((y.toInt64.toUInt64 &&& Int64.toUInt64 63).toBitVec % 64) := UInt64.toBitVec_shiftRight _ _
    rw [e, BitVec.ushiftRight_eq', BitVec.toNat_ushiftRight, Nat.shiftRight_eq_div_pow, hc]
  have h2 := x.toBitVec.isLt
  have h3 : x.toBitVec.toNat / 2 ^ (y.toInt % 64).toNat ≤ x.toBitVec.toNat := Nat.div_le_self _ _
  rw [i64_bv _ (x.toBitVec.toNat / 2 ^ (y.toInt % 64).toNat) (by rw [h1]; omega)]
  unfold ush64
  have h4 := i64_nat x
  have h5 : (x.toBitVec.toNat : Int) = x.toInt % 18446744073709551616 := by omega
  rw [Int.natCast_ediv, Int.natCast_pow, h5]
  rfl
theorem n_i2l (x : Int32) : x.toInt64.toInt = x.toInt := Int32.toInt_toInt64 x
theorem n_l2i (x : Int64) : x.toInt32.toInt = w32 x.toInt := Int64.toInt_toInt32 x
theorem n_i2b (x : Int32) : x.toInt8.toInt32.toInt = w8 x.toInt := by
  rw [Int8.toInt_toInt32, Int32.toInt_toInt8]
  rfl
theorem n_i2s (x : Int32) : x.toInt16.toInt32.toInt = w16 x.toInt := by
  rw [Int16.toInt_toInt32, Int32.toInt_toInt16]
  rfl
theorem n_i2c (x : Int32) : (x.toUInt32 % 65536).toInt32.toInt = x.toInt % 65536 := by
  rw [pk_char]
  have h := i32_nat x
  rw [nI_toInt (by omega)]
  omega
theorem n_cmp (x y : Int64) : (lg_cmp x y).toInt = cmp64 x.toInt y.toInt := by
  unfold lg_cmp cmp64
  simp only [gt_iff_lt, Int64.lt_iff_toInt_lt, ← Int64.toInt_inj]
  repeat' split
  all_goals first | rfl | (exfalso; omega)
