/-! slices by shifts and masks -/
section jBits3
theorem pSl_mod (w : Int) (lo n : Nat) (h : lo + n ≤ 32) : w % 4294967296 / 2 ^ lo % 2 ^ n = pSl lo n w := by
  unfold pSl
  have hp := p2_pos lo
  have hn := p2_pos n
  have h1 := Int.mul_ediv_add_emod w 4294967296
  have e : (4294967296 : Int) = 2 ^ lo * (2 ^ n * 2 ^ (32 - lo - n)) := by
    rw [← Int.pow_add, ← Int.pow_add, show lo + (n + (32 - lo - n)) = 32 by omega]; rfl
  have h2 : w = w % 4294967296 + 2 ^ lo * (2 ^ n * (2 ^ (32 - lo - n) * (w / 4294967296))) := by
    rw [← Int.mul_assoc (2 ^ n), ← Int.mul_assoc (2 ^ lo), ← e]; omega
  have h3 : w / 2 ^ lo = w % 4294967296 / 2 ^ lo + 2 ^ n * (2 ^ (32 - lo - n) * (w / 4294967296)) := by
    have := Int.add_mul_ediv_left (w % 4294967296) (2 ^ n * (2 ^ (32 - lo - n) * (w / 4294967296))) (Int.ne_of_gt hp)
    rw [← this, ← h2]
  rw [h3, Int.add_mul_emod_self_left]
theorem W32_mod_p (x : Int) (n : Nat) (h : n ≤ 32) : W32 x % 2 ^ n = x % 2 ^ n := by
  have e : (4294967296 : Int) = 2 ^ n * 2 ^ (32 - n) := by
    rw [← Int.pow_add, show n + (32 - n) = 32 by omega]; rfl
  have h1 := W32_mod x
  have h2 : W32 x % 4294967296 % 2 ^ n = W32 x % 2 ^ n := Int.emod_emod_of_dvd _ ⟨2 ^ (32 - n), e⟩
  have h3 : x % 4294967296 % 2 ^ n = x % 2 ^ n := Int.emod_emod_of_dvd _ ⟨2 ^ (32 - n), e⟩
  rw [← h2, h1, h3]
theorem pSl_W32 (x : Int) (lo n : Nat) (h : lo + n ≤ 32) : pSl lo n (W32 x) = pSl lo n x := by
  rw [← pSl_mod (W32 x) lo n h, W32_mod, pSl_mod x lo n h]
theorem I_and_m (x : Int) (n : Nat) (h : n ≤ 31) : I_and x (2 ^ n - 1) = x % 2 ^ n := by rw [I_and_eq]; exact i_and_mask x n h
theorem s_X29_bits (s : jS) (w hi lo : Int) (h0 : 0 ≤ lo) (h1 : lo ≤ hi) (h2 : hi ≤ 31) (h3 : hi - lo ≤ 29) : m_X29_bits s w hi lo = some (pSl lo.toNat (hi - lo + 1).toNat w) := by
  rw [e_X29_bits, W32_in (z := hi - lo) (by omega) (by omega), W32_in (z := hi - lo + 1) (by omega) (by omega), i_shl_p (by omega) (by omega), i_ushr_p h0 (by omega)]
  have hp : (2 : Nat) ^ (hi - lo + 1).toNat ≤ 2 ^ 30 := Nat.pow_le_pow_right (by decide) (by omega)
  have hp' := p2_pos (hi - lo + 1).toNat
  have hc := p2_nat (hi - lo + 1).toNat
  rw [Int.one_mul, W32_in (z := 2 ^ (hi - lo + 1).toNat) (by omega) (by rw [hc]; omega), W32_in (z := 2 ^ (hi - lo + 1).toNat - 1) (by omega) (by rw [hc]; omega), I_and_m _ _ (by omega), W32_mod_p _ _ (by omega), pSl_mod _ _ _ (by omega)]
/-- a number with sign out of its bits -/
def sxt (n : Nat) (v : Int) : Int := if v < 2 ^ (n - 1) then v else v - 2 ^ n
theorem L_rem_0 {v : Int} (hv : -9223372036854775808 ≤ v ∧ v ≤ 9223372036854775807) {y : Int} (h2 : 0 < y) (h3 : y ≤ 9223372036854775807) : L_rem v y = 0 ↔ v % y = 0 := by
  rw [L_rem_z hv h2 h3]
  split
  · exact Iff.rfl
  · have : (-v) % y = 0 ↔ v % y = 0 := by
      rw [← Int.dvd_iff_emod_eq_zero, ← Int.dvd_iff_emod_eq_zero, Int.dvd_neg]
    omega
theorem sxt_p {n : Nat} {v : Int} (h0 : 1 ≤ n) (h1 : n ≤ 31) (hv : 0 ≤ v) (hv' : v < 2 ^ n) {y : Int} (hy : y = 32 - (n : Int)) : I_shr (I_shl v y) y = sxt n v := by
  subst hy
  have e32 : (2 : Int) ^ (32 - n) * 2 ^ n = 4294967296 := by
    rw [← Int.pow_add, show 32 - n + n = 32 by omega]; rfl
  have e31 : (2 : Int) ^ (32 - n) * 2 ^ (n - 1) = 2147483648 := by
    rw [← Int.pow_add, show 32 - n + (n - 1) = 31 by omega]; rfl
  have hq := p2_pos (32 - n)
  have ht : (32 - (n : Int)).toNat = 32 - n := by omega
  rw [i_shl_p (by omega) (by omega), i_shr_p (W32_lo _) (by omega) (by omega), ht]
  unfold sxt
  have b1 : v * 2 ^ (32 - n) < 4294967296 := by
    have := Int.mul_lt_mul_of_pos_right hv' hq
    rw [Int.mul_comm (2 ^ n)] at this; omega
  have b0 : 0 ≤ v * 2 ^ (32 - n) := Int.mul_nonneg hv (Int.le_of_lt hq)
  split
  · rename_i h
    have := Int.mul_lt_mul_of_pos_right h hq
    rw [Int.mul_comm (2 ^ (n - 1))] at this
    rw [W32_in (by omega) (by omega), Int.mul_ediv_cancel _ (Int.ne_of_gt hq)]
  · rename_i h
    have : 2 ^ (n - 1) * 2 ^ (32 - n) ≤ v * 2 ^ (32 - n) := Int.mul_le_mul_of_nonneg_right (by omega) (Int.le_of_lt hq)
    rw [Int.mul_comm (2 ^ (n - 1))] at this
    have e : W32 (v * 2 ^ (32 - n)) = (v - 2 ^ n) * 2 ^ (32 - n) := by
      rw [Int.sub_mul, Int.mul_comm (2 ^ n), e32, W32_m, Int.bmod_def]
      have : v * 2 ^ (32 - n) % ((4294967296 : Nat) : Int) = v * 2 ^ (32 - n) := Int.emod_eq_of_lt b0 b1
      rw [this, if_neg (by omega)]
      rfl
    rw [e, Int.mul_ediv_cancel _ (Int.ne_of_gt hq)]
end jBits3
