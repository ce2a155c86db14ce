/-! plain forms of the operations -/
section jBits
theorem W32_m (z : Int) : W32 z = z.bmod 4294967296 := by rw [W32_eq, w32_bmod]
theorem W64_m (z : Int) : W64 z = z.bmod 18446744073709551616 := by rw [W64_eq, w64_bmod]
theorem W32_in {z : Int} (h : -2147483648 ≤ z) (h' : z ≤ 2147483647) : W32 z = z := by rw [W32_eq]; exact w32_eq ⟨h, h'⟩
theorem W64_in {z : Int} (h : -9223372036854775808 ≤ z) (h' : z ≤ 9223372036854775807) : W64 z = z := by rw [W64_eq]; exact w64_eq ⟨h, h'⟩
theorem W32_lo (z : Int) : -2147483648 ≤ W32 z ∧ W32 z ≤ 2147483647 := by rw [W32_eq]; exact jin_w z
theorem W64_lo (z : Int) : -9223372036854775808 ≤ W64 z ∧ W64 z ≤ 9223372036854775807 := by rw [W64_eq]; exact jlin_w z
theorem W32_W32 (z : Int) : W32 (W32 z) = W32 z := W32_in (W32_lo z).1 (W32_lo z).2
theorem i_and_bv (x y : Int) : i_and x y = (BitVec.ofInt 32 x &&& BitVec.ofInt 32 y).toInt := rfl
theorem i_or_bv (x y : Int) : i_or x y = (BitVec.ofInt 32 x ||| BitVec.ofInt 32 y).toInt := rfl
theorem i_xor_bv (x y : Int) : i_xor x y = (BitVec.ofInt 32 x ^^^ BitVec.ofInt 32 y).toInt := rfl
theorem l_and_bv (x y : Int) : l_and x y = (BitVec.ofInt 64 x &&& BitVec.ofInt 64 y).toInt := rfl
theorem l_or_bv (x y : Int) : l_or x y = (BitVec.ofInt 64 x ||| BitVec.ofInt 64 y).toInt := rfl
theorem i_and_mask (x : Int) (k : Nat) (hk : k ≤ 31) : i_and x (2 ^ k - 1) = x % 2 ^ k := by
  rw [i_and_bv]
  have hp : (2 : Nat) ^ k ≤ 2 ^ 31 := Nat.pow_le_pow_right (by decide) hk
  have h0 : 0 < (2 : Nat) ^ k := Nat.two_pow_pos k
  have hc : ((2 : Int) ^ k) = (((2 : Nat) ^ k : Nat) : Int) := by simp
  have e2 : (BitVec.ofInt 32 ((2 : Int) ^ k - 1)).toNat = 2 ^ k - 1 := by
    rw [BitVec.toNat_ofInt, hc]; omega
  have e1 : (BitVec.ofInt 32 x &&& BitVec.ofInt 32 (2 ^ k - 1)).toNat = (x % 4294967296).toNat % 2 ^ k := by
    rw [BitVec.toNat_and, e2, BitVec.toNat_ofInt, Nat.and_two_pow_sub_one_eq_mod]
    rfl
  have hlt : (x % 4294967296).toNat % 2 ^ k < 2 ^ k := Nat.mod_lt _ h0
  rw [BitVec.toInt_eq_toNat_of_lt (by rw [e1]; omega), e1, hc]
  have hx : 0 ≤ x % 4294967296 := Int.emod_nonneg _ (by decide)
  rw [Int.natCast_emod, Int.toNat_of_nonneg hx]
  apply Int.emod_emod_of_dvd
  have : ((2 : Nat) ^ k) ∣ 4294967296 := (Nat.pow_dvd_pow 2 (by omega) : 2 ^ k ∣ 2 ^ 32)
  exact Int.natCast_dvd_natCast.mpr this
theorem l_and_mask (x : Int) (k : Nat) (hk : k ≤ 63) : l_and x (2 ^ k - 1) = x % 2 ^ k := by
  rw [l_and_bv]
  have hp : (2 : Nat) ^ k ≤ 2 ^ 63 := Nat.pow_le_pow_right (by decide) hk
  have h0 : 0 < (2 : Nat) ^ k := Nat.two_pow_pos k
  have hc : ((2 : Int) ^ k) = (((2 : Nat) ^ k : Nat) : Int) := by simp
  have e2 : (BitVec.ofInt 64 ((2 : Int) ^ k - 1)).toNat = 2 ^ k - 1 := by
    rw [BitVec.toNat_ofInt, hc]; omega
  have e1 : (BitVec.ofInt 64 x &&& BitVec.ofInt 64 (2 ^ k - 1)).toNat = (x % 18446744073709551616).toNat % 2 ^ k := by
    rw [BitVec.toNat_and, e2, BitVec.toNat_ofInt, Nat.and_two_pow_sub_one_eq_mod]
    rfl
  have hlt : (x % 18446744073709551616).toNat % 2 ^ k < 2 ^ k := Nat.mod_lt _ h0
  rw [BitVec.toInt_eq_toNat_of_lt (by rw [e1]; omega), e1, hc]
  have hx : 0 ≤ x % 18446744073709551616 := Int.emod_nonneg _ (by decide)
  rw [Int.natCast_emod, Int.toNat_of_nonneg hx]
  apply Int.emod_emod_of_dvd
  have : ((2 : Nat) ^ k) ∣ 18446744073709551616 := (Nat.pow_dvd_pow 2 (by omega) : 2 ^ k ∣ 2 ^ 64)
  exact Int.natCast_dvd_natCast.mpr this
theorem I_and_1 (x : Int) : I_and x 1 = x % 2 := by rw [I_and_eq]; exact i_and_mask x 1 (by decide)
theorem I_and_3 (x : Int) : I_and x 3 = x % 4 := by rw [I_and_eq]; exact i_and_mask x 2 (by decide)
theorem I_and_7 (x : Int) : I_and x 7 = x % 8 := by rw [I_and_eq]; exact i_and_mask x 3 (by decide)
theorem I_and_15 (x : Int) : I_and x 15 = x % 16 := by rw [I_and_eq]; exact i_and_mask x 4 (by decide)
theorem I_and_31 (x : Int) : I_and x 31 = x % 32 := by rw [I_and_eq]; exact i_and_mask x 5 (by decide)
theorem I_and_127 (x : Int) : I_and x 127 = x % 128 := by rw [I_and_eq]; exact i_and_mask x 7 (by decide)
theorem I_and_255 (x : Int) : I_and x 255 = x % 256 := by rw [I_and_eq]; exact i_and_mask x 8 (by decide)
theorem I_and_65535 (x : Int) : I_and x 65535 = x % 65536 := by rw [I_and_eq]; exact i_and_mask x 16 (by decide)
theorem I_and_1048575 (x : Int) : I_and x 1048575 = x % 1048576 := by rw [I_and_eq]; exact i_and_mask x 20 (by decide)
theorem L_and_1 (x : Int) : L_and x 1 = x % 2 := by rw [L_and_eq]; exact l_and_mask x 1 (by decide)
theorem L_and_255 (x : Int) : L_and x 255 = x % 256 := by rw [L_and_eq]; exact l_and_mask x 8 (by decide)
theorem L_and_4095 (x : Int) : L_and x 4095 = x % 4096 := by rw [L_and_eq]; exact l_and_mask x 12 (by decide)
theorem L_and_1048575 (x : Int) : L_and x 1048575 = x % 1048576 := by rw [L_and_eq]; exact l_and_mask x 20 (by decide)
theorem L_and_4294967295 (x : Int) : L_and x 4294967295 = x % 4294967296 := by rw [L_and_eq]; exact l_and_mask x 32 (by decide)
theorem jamt : ∀ k : Fin 32, ((Int32.ofInt (k.val : Int) &&& 31).toBitVec.smod 32).toNat = k.val := by decide
theorem jamtl : ∀ k : Fin 64, (((Int32.ofInt (k.val : Int)).toInt64 &&& 63).toBitVec.smod 64).toNat = k.val := by decide
theorem i_shr_p {x y : Int} (hx : -2147483648 ≤ x ∧ x ≤ 2147483647) (h0 : 0 ≤ y) (h1 : y ≤ 31) : I_shr x y = x / 2 ^ y.toNat := by
  rw [I_shr_eq]
  show ((BitVec.ofInt 32 x).sshiftRight' ((Int32.ofInt y &&& 31).toBitVec.smod 32)).toInt = _
  have hk := jamt ⟨y.toNat, by omega⟩
  simp only [Int.toNat_of_nonneg h0] at hk
  rw [BitVec.toInt_sshiftRight', hk, Int.shiftRight_eq_div_pow]
  have : (BitVec.ofInt 32 x).toInt = x := jo_t (z := x) hx
  rw [this]
  simp
theorem l_shr_p {x y : Int} (hx : -9223372036854775808 ≤ x ∧ x ≤ 9223372036854775807) (h0 : 0 ≤ y) (h1 : y ≤ 63) : L_shr x y = x / 2 ^ y.toNat := by
  rw [L_shr_eq]
  show ((BitVec.ofInt 64 x).sshiftRight' (((Int32.ofInt y).toInt64 &&& 63).toBitVec.smod 64)).toInt = _
  have hk := jamtl ⟨y.toNat, by omega⟩
  simp only [Int.toNat_of_nonneg h0] at hk
  rw [BitVec.toInt_sshiftRight', hk, Int.shiftRight_eq_div_pow]
  have : (BitVec.ofInt 64 x).toInt = x := jo_l (z := x) hx
  rw [this]
  simp
theorem i_shl_p {x y : Int} (h0 : 0 ≤ y) (h1 : y ≤ 31) : I_shl x y = W32 (x * 2 ^ y.toNat) := by
  rw [I_shl_eq, W32_eq]
  show ((BitVec.ofInt 32 x) <<< ((Int32.ofInt y &&& 31).toBitVec.smod 32)).toInt = (BitVec.ofInt 32 (x * 2 ^ y.toNat)).toInt
  have hk := jamt ⟨y.toNat, by omega⟩
  simp only [Int.toNat_of_nonneg h0] at hk
  congr 1
  rw [BitVec.shiftLeft_eq', hk, BitVec.shiftLeft_eq_mul_twoPow, BitVec.ofInt_mul]
  congr 1
  apply BitVec.eq_of_toNat_eq
  have hp : (2 : Nat) ^ y.toNat < 2 ^ 32 := Nat.pow_lt_pow_right (by decide) (by omega)
  have hc : ((2 : Int) ^ y.toNat) = (((2 : Nat) ^ y.toNat : Nat) : Int) := by simp
  rw [BitVec.toNat_twoPow, BitVec.toNat_ofInt, hc]
  omega
theorem w8_p (x : Int) : W8 x = x.bmod 256 := by
  rw [W8_eq]
  show (Int32.ofInt x).toInt8.toInt32.toInt = _
  rw [Int8.toInt_toInt32, Int32.toInt_toInt8, Int32.toInt_ofInt]
  apply Int.bmod_bmod_of_dvd
  decide
theorem w16_p (x : Int) : W16 x = x.bmod 65536 := by
  rw [W16_eq]
  show (Int32.ofInt x).toInt16.toInt32.toInt = _
  rw [Int16.toInt_toInt32, Int32.toInt_toInt16, Int32.toInt_ofInt]
  apply Int.bmod_bmod_of_dvd
  decide
theorem l2i_p (x : Int) : L2i x = W32 x := by
  rw [L2i_eq, W32_m]
  show (Int64.ofInt x).toInt32.toInt = _
  rw [Int64.toInt_toInt32, Int64.toInt_ofInt]
  apply Int.bmod_bmod_of_dvd
  decide
theorem wz_p (x : Int) : Wz x = x % 2 := by rw [Wz_eq]; unfold wz; first | rfl | exact i_and_mask x 1 (by decide)
end jBits
