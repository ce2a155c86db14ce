/-! division, unsigned shifts, comparison -/
section jBits2
theorem L_cmp_p (x y : Int) : L_cmp x y = if x = y then 0 else if x < y then -1 else 1 := by rw [L_cmp_eq]; rfl
theorem L_cmp_0 (x y : Int) : L_cmp x y = 0 ↔ x = y := by
  rw [L_cmp_p]; split
  · rename_i h; exact ⟨fun _ => h, fun _ => rfl⟩
  · rename_i h; split
    · exact ⟨fun q => by omega, fun q => absurd q h⟩
    · exact ⟨fun q => by omega, fun q => absurd q h⟩
theorem L_cmp_lt (x y : Int) : L_cmp x y < 0 ↔ x < y := by
  rw [L_cmp_p]; split
  · omega
  · split <;> omega
theorem L_cmp_gt (x y : Int) : 0 < L_cmp x y ↔ y < x := by
  rw [L_cmp_p]; split
  · omega
  · split <;> omega
theorem i_div_p {x y : Int} (hx : -2147483648 ≤ x ∧ x ≤ 2147483647) (hy : -2147483648 ≤ y ∧ y ≤ 2147483647) : I_div x y = W32 (x.tdiv y) := by
  rw [I_div_eq, W32_m]
  show (Int32.ofInt x / Int32.ofInt y).toInt = _
  rw [Int32.toInt_div, Int32.toInt_ofInt_of_le (by omega) (by omega), Int32.toInt_ofInt_of_le (by omega) (by omega)]
theorem i_rem_p {x y : Int} (hx : -2147483648 ≤ x ∧ x ≤ 2147483647) (hy : -2147483648 ≤ y ∧ y ≤ 2147483647) : I_rem x y = W32 (x.tmod y) := by
  rw [I_rem_eq, W32_m]
  show (Int32.ofInt x - Int32.ofInt x / Int32.ofInt y * Int32.ofInt y).toInt = _
  rw [Int32.toInt_sub, Int32.toInt_mul, Int32.toInt_div, Int32.toInt_ofInt_of_le (by omega) (by omega), Int32.toInt_ofInt_of_le (by omega) (by omega)]
  show (x - ((x.tdiv y).bmod 4294967296 * y).bmod 4294967296).bmod 4294967296 = _
  rw [Int.bmod_mul_bmod, Int.sub_bmod_bmod, Int.tmod_def, Int.mul_comm y]
theorem l_div_p {x y : Int} (hx : -9223372036854775808 ≤ x ∧ x ≤ 9223372036854775807) (hy : -9223372036854775808 ≤ y ∧ y ≤ 9223372036854775807) : L_div x y = W64 (x.tdiv y) := by
  rw [L_div_eq, W64_m]
  show (Int64.ofInt x / Int64.ofInt y).toInt = _
  rw [Int64.toInt_div, Int64.toInt_ofInt_of_le (by omega) (by omega), Int64.toInt_ofInt_of_le (by omega) (by omega)]
theorem l_rem_p {x y : Int} (hx : -9223372036854775808 ≤ x ∧ x ≤ 9223372036854775807) (hy : -9223372036854775808 ≤ y ∧ y ≤ 9223372036854775807) : L_rem x y = W64 (x.tmod y) := by
  rw [L_rem_eq, W64_m]
  show (Int64.ofInt x - Int64.ofInt x / Int64.ofInt y * Int64.ofInt y).toInt = _
  rw [Int64.toInt_sub, Int64.toInt_mul, Int64.toInt_div, Int64.toInt_ofInt_of_le (by omega) (by omega), Int64.toInt_ofInt_of_le (by omega) (by omega)]
  show (x - ((x.tdiv y).bmod 18446744073709551616 * y).bmod 18446744073709551616).bmod 18446744073709551616 = _
  rw [Int.bmod_mul_bmod, Int.sub_bmod_bmod, Int.tmod_def, Int.mul_comm y]
/-- of what isn't negative, by a positive number -/
theorem I_div_n {x y : Int} (h0 : 0 ≤ x) (h1 : x ≤ 2147483647) (h2 : 0 < y) (h3 : y ≤ 2147483647) : I_div x y = x / y := by
  rw [i_div_p (by omega) (by omega), Int.tdiv_eq_ediv_of_nonneg h0]
  have a := Int.ediv_nonneg h0 (Int.le_of_lt h2)
  have b := Int.ediv_le_self y h0
  exact W32_in (by omega) (by omega)
theorem I_rem_n {x y : Int} (h0 : 0 ≤ x) (h1 : x ≤ 2147483647) (h2 : 0 < y) (h3 : y ≤ 2147483647) : I_rem x y = x % y := by
  rw [i_rem_p (by omega) (by omega), Int.tmod_eq_emod_of_nonneg h0]
  have a := Int.emod_nonneg x (Int.ne_of_gt h2)
  have b := Int.emod_lt_of_pos x h2
  exact W32_in (by omega) (by omega)
theorem L_div_n {x y : Int} (h0 : 0 ≤ x) (h1 : x ≤ 9223372036854775807) (h2 : 0 < y) (h3 : y ≤ 9223372036854775807) : L_div x y = x / y := by
  rw [l_div_p (by omega) (by omega), Int.tdiv_eq_ediv_of_nonneg h0]
  have a := Int.ediv_nonneg h0 (Int.le_of_lt h2)
  have b := Int.ediv_le_self y h0
  exact W64_in (by omega) (by omega)
theorem L_rem_n {x y : Int} (h0 : 0 ≤ x) (h1 : x ≤ 9223372036854775807) (h2 : 0 < y) (h3 : y ≤ 9223372036854775807) : L_rem x y = x % y := by
  rw [l_rem_p (by omega) (by omega), Int.tmod_eq_emod_of_nonneg h0]
  have a := Int.emod_nonneg x (Int.ne_of_gt h2)
  have b := Int.emod_lt_of_pos x h2
  exact W64_in (by omega) (by omega)
/-- the remainder of what may be negative -/
theorem tmod_p (x y : Int) : x.tmod y = if 0 ≤ x then x % y else -(-x % y) := by
  by_cases h : 0 ≤ x
  · rw [if_pos h, Int.tmod_eq_emod_of_nonneg h]
  · rw [if_neg h, ← Int.tmod_eq_emod_of_nonneg (by omega : 0 ≤ -x), Int.neg_tmod]; omega
theorem I_rem_z {x : Int} (hx : -2147483648 ≤ x ∧ x ≤ 2147483647) {y : Int} (h2 : 0 < y) (h3 : y ≤ 2147483647) : I_rem x y = if 0 ≤ x then x % y else -(-x % y) := by
  rw [i_rem_p hx (by omega), tmod_p]
  have a := Int.emod_nonneg x (Int.ne_of_gt h2)
  have b := Int.emod_lt_of_pos x h2
  have a' := Int.emod_nonneg (-x) (Int.ne_of_gt h2)
  have b' := Int.emod_lt_of_pos (-x) h2
  split <;> exact W32_in (by omega) (by omega)
theorem L_rem_z {x : Int} (hx : -9223372036854775808 ≤ x ∧ x ≤ 9223372036854775807) {y : Int} (h2 : 0 < y) (h3 : y ≤ 9223372036854775807) : L_rem x y = if 0 ≤ x then x % y else -(-x % y) := by
  rw [l_rem_p hx (by omega), tmod_p]
  have a := Int.emod_nonneg x (Int.ne_of_gt h2)
  have b := Int.emod_lt_of_pos x h2
  have a' := Int.emod_nonneg (-x) (Int.ne_of_gt h2)
  have b' := Int.emod_lt_of_pos (-x) h2
  split <;> exact W64_in (by omega) (by omega)
theorem jamtu : ∀ k : Fin 32, ((Int32.ofInt (k.val : Int)).toUInt32 &&& Int32.toUInt32 31).toBitVec % 32 = BitVec.ofNat 32 k.val := by decide
theorem jamtul : ∀ k : Fin 64, ((Int32.ofInt (k.val : Int)).toInt64.toUInt64 &&& Int64.toUInt64 63).toBitVec % 64 = BitVec.ofNat 64 k.val := by decide
theorem i_ushr_p {x y : Int} (h0 : 0 ≤ y) (h1 : y ≤ 31) : I_ushr x y = W32 (x % 4294967296 / 2 ^ y.toNat) := by
  rw [I_ushr_eq, W32_eq]
  show (((Int32.ofInt x).toUInt32 >>> ((Int32.ofInt y).toUInt32 &&& Int32.toUInt32 31)).toBitVec).toInt = (BitVec.ofInt 32 (x % 4294967296 / 2 ^ y.toNat)).toInt
  have hk := jamtu ⟨y.toNat, by omega⟩
  simp only [Int.toNat_of_nonneg h0] at hk
  congr 1
  rw [UInt32.toBitVec_shiftRight]
  show (BitVec.ofInt 32 x) >>> (((Int32.ofInt y).toUInt32 &&& Int32.toUInt32 31).toBitVec % 32) = _
  rw [hk]
  apply BitVec.eq_of_toNat_eq
  have hx : 0 ≤ x % 4294967296 := Int.emod_nonneg _ (by decide)
  have hp : ((2 : Int) ^ y.toNat) = ((2 ^ y.toNat : Nat) : Int) := by simp
  have hy : (BitVec.ofNat 32 y.toNat).toNat = y.toNat := by rw [BitVec.toNat_ofNat]; omega
  rw [BitVec.ushiftRight_eq', BitVec.toNat_ushiftRight, hy, BitVec.toNat_ofInt, BitVec.toNat_ofInt, Nat.shiftRight_eq_div_pow, hp]
  show (x % 4294967296).toNat / 2 ^ y.toNat = (x % 4294967296 / ((2 ^ y.toNat : Nat) : Int) % 4294967296).toNat
  have hm : x % 4294967296 < 4294967296 := Int.emod_lt_of_pos _ (by decide)
  generalize hn : (x % 4294967296).toNat = n
  have e : x % 4294967296 = (n : Int) := by omega
  rw [e, ← Int.natCast_ediv]
  have : n / 2 ^ y.toNat ≤ n := Nat.div_le_self _ _
  generalize n / 2 ^ y.toNat = d at *
  omega
theorem l_ushr_p {x y : Int} (h0 : 0 ≤ y) (h1 : y ≤ 63) : L_ushr x y = W64 (x % 18446744073709551616 / 2 ^ y.toNat) := by
  rw [L_ushr_eq, W64_eq]
  show (((Int64.ofInt x).toUInt64 >>> ((Int32.ofInt y).toInt64.toUInt64 &&& Int64.toUInt64 63)).toBitVec).toInt = (BitVec.ofInt 64 (x % 18446744073709551616 / 2 ^ y.toNat)).toInt
  have hk := jamtul ⟨y.toNat, by omega⟩
  simp only [Int.toNat_of_nonneg h0] at hk
  congr 1
  rw [UInt64.toBitVec_shiftRight]
  show (BitVec.ofInt 64 x) >>> (((Int32.ofInt y).toInt64.toUInt64 &&& Int64.toUInt64 63).toBitVec % 64) = _
  rw [hk]
  apply BitVec.eq_of_toNat_eq
  have hx : 0 ≤ x % 18446744073709551616 := Int.emod_nonneg _ (by decide)
  have hp : ((2 : Int) ^ y.toNat) = ((2 ^ y.toNat : Nat) : Int) := by simp
  have hy : (BitVec.ofNat 64 y.toNat).toNat = y.toNat := by rw [BitVec.toNat_ofNat]; omega
  rw [BitVec.ushiftRight_eq', BitVec.toNat_ushiftRight, hy, BitVec.toNat_ofInt, BitVec.toNat_ofInt, Nat.shiftRight_eq_div_pow, hp]
  show (x % 18446744073709551616).toNat / 2 ^ y.toNat = (x % 18446744073709551616 / ((2 ^ y.toNat : Nat) : Int) % 18446744073709551616).toNat
  have hm : x % 18446744073709551616 < 18446744073709551616 := Int.emod_lt_of_pos _ (by decide)
  generalize hn : (x % 18446744073709551616).toNat = n
  have e : x % 18446744073709551616 = (n : Int) := by omega
  rw [e, ← Int.natCast_ediv]
  have : n / 2 ^ y.toNat ≤ n := Nat.div_le_self _ _
  generalize n / 2 ^ y.toNat = d at *
  omega
theorem l_shl_p {x y : Int} (h0 : 0 ≤ y) (h1 : y ≤ 63) : L_shl x y = W64 (x * 2 ^ y.toNat) := by
  rw [L_shl_eq, W64_eq]
  show ((BitVec.ofInt 64 x) <<< (((Int32.ofInt y).toInt64 &&& 63).toBitVec.smod 64)).toInt = (BitVec.ofInt 64 (x * 2 ^ y.toNat)).toInt
  have hk := jamtl ⟨y.toNat, by omega⟩
  simp only [Int.toNat_of_nonneg h0] at hk
  congr 1
  rw [BitVec.shiftLeft_eq', hk, BitVec.shiftLeft_eq_mul_twoPow, BitVec.ofInt_mul]
  congr 1
  apply BitVec.eq_of_toNat_eq
  have hp : (2 : Nat) ^ y.toNat < 2 ^ 64 := Nat.pow_lt_pow_right (by decide) (by omega)
  have hc : ((2 : Int) ^ y.toNat) = (((2 : Nat) ^ y.toNat : Nat) : Int) := by simp
  rw [BitVec.toNat_twoPow, BitVec.toNat_ofInt, hc]
  omega
theorem l2i_in {x : Int} (h : -2147483648 ≤ x) (h' : x ≤ 2147483647) : L2i x = x := by rw [l2i_p]; exact W32_in h h'
end jBits2
