/-! numbers: Java's ints and longs as mathematical integers -/
abbrev jT : Type := Nat × Int
def w32 (z : Int) : Int := (Int32.ofInt z).toInt
def w64 (z : Int) : Int := (Int64.ofInt z).toInt
def jin (z : Int) : Prop := -2147483648 ≤ z ∧ z ≤ 2147483647
def jlin (z : Int) : Prop := -9223372036854775808 ≤ z ∧ z ≤ 9223372036854775807
theorem jin_t (x : Int32) : jin x.toInt := by
  have h1 := x.minValue_le_toInt
  have h2 := x.toInt_le
  simp only [Int32.toInt_minValue] at h1
  simp only [Int32.toInt_maxValue] at h2
  unfold jin; omega
theorem jlin_t (x : Int64) : jlin x.toInt := by
  have h1 := x.minValue_le_toInt
  have h2 := x.toInt_le
  simp only [Int64.toInt_minValue] at h1
  simp only [Int64.toInt_maxValue] at h2
  unfold jlin; omega
theorem jin_w (z : Int) : jin (w32 z) := jin_t _
theorem jlin_w (z : Int) : jlin (w64 z) := jlin_t _
theorem w32_bmod (z : Int) : w32 z = z.bmod 4294967296 := by simp [w32, Int32.toInt_ofInt]
theorem w64_bmod (z : Int) : w64 z = z.bmod 18446744073709551616 := by simp [w64, Int64.toInt_ofInt]
theorem w32_eq {z : Int} (h : jin z) : w32 z = z := by
  rw [w32_bmod]; unfold jin at h; rw [Int.bmod_eq_of_le] <;> omega
theorem w64_eq {z : Int} (h : jlin z) : w64 z = z := by
  rw [w64_bmod]; unfold jlin at h; rw [Int.bmod_eq_of_le] <;> omega
theorem jo_t {z : Int} (h : jin z) : (Int32.ofInt z).toInt = z := w32_eq h
theorem jo_l {z : Int} (h : jlin z) : (Int64.ofInt z).toInt = z := w64_eq h
theorem jo_w (z : Int) : Int32.ofInt (w32 z) = Int32.ofInt z := Int32.ofInt_toInt _
theorem jo_wl (z : Int) : Int64.ofInt (w64 z) = Int64.ofInt z := Int64.ofInt_toInt _
theorem jo_i (x : Int32) : Int32.ofInt x.toInt = x := by simp
theorem jo_il (x : Int64) : Int64.ofInt x.toInt = x := by simp
theorem jo_add (x y : Int) : Int32.ofInt x + Int32.ofInt y = Int32.ofInt (w32 (x + y)) := by rw [jo_w, Int32.ofInt_add]
theorem jo_sub (x y : Int) : Int32.ofInt x - Int32.ofInt y = Int32.ofInt (w32 (x - y)) := by rw [jo_w, Int32.ofInt_sub]
theorem jo_mul (x y : Int) : Int32.ofInt x * Int32.ofInt y = Int32.ofInt (w32 (x * y)) := by rw [jo_w, Int32.ofInt_mul]
theorem jo_neg (x : Int) : -Int32.ofInt x = Int32.ofInt (w32 (-x)) := by rw [jo_w, Int32.ofInt_neg]
theorem jo_addl (x y : Int) : Int64.ofInt x + Int64.ofInt y = Int64.ofInt (w64 (x + y)) := by rw [jo_wl, Int64.ofInt_add]
theorem jo_subl (x y : Int) : Int64.ofInt x - Int64.ofInt y = Int64.ofInt (w64 (x - y)) := by rw [jo_wl, Int64.ofInt_sub]
theorem jo_mull (x y : Int) : Int64.ofInt x * Int64.ofInt y = Int64.ofInt (w64 (x * y)) := by rw [jo_wl, Int64.ofInt_mul]
theorem jo_negl (x : Int) : -Int64.ofInt x = Int64.ofInt (w64 (-x)) := by rw [jo_wl, Int64.ofInt_neg]
/-! the other operations, by the machine's own words; their plain forms are laws -/
def i_and (x y : Int) : Int := (Int32.ofInt x &&& Int32.ofInt y).toInt
def i_or (x y : Int) : Int := (Int32.ofInt x ||| Int32.ofInt y).toInt
def i_xor (x y : Int) : Int := (Int32.ofInt x ^^^ Int32.ofInt y).toInt
def i_shl (x y : Int) : Int := (Int32.ofInt x <<< (Int32.ofInt y &&& 31)).toInt
def i_shr (x y : Int) : Int := (Int32.ofInt x >>> (Int32.ofInt y &&& 31)).toInt
def i_ushr (x y : Int) : Int := ((Int32.ofInt x).toUInt32 >>> ((Int32.ofInt y).toUInt32 &&& Int32.toUInt32 31)).toInt32.toInt
def i_div (x y : Int) : Int := (Int32.ofInt x / Int32.ofInt y).toInt
def i_rem (x y : Int) : Int := (Int32.ofInt x - Int32.ofInt x / Int32.ofInt y * Int32.ofInt y).toInt
def l_and (x y : Int) : Int := (Int64.ofInt x &&& Int64.ofInt y).toInt
def l_or (x y : Int) : Int := (Int64.ofInt x ||| Int64.ofInt y).toInt
def l_xor (x y : Int) : Int := (Int64.ofInt x ^^^ Int64.ofInt y).toInt
def l_shl (x y : Int) : Int := (Int64.ofInt x <<< ((Int32.ofInt y).toInt64 &&& 63)).toInt
def l_shr (x y : Int) : Int := (Int64.ofInt x >>> ((Int32.ofInt y).toInt64 &&& 63)).toInt
def l_ushr (x y : Int) : Int := ((Int64.ofInt x).toUInt64 >>> ((Int32.ofInt y).toInt64.toUInt64 &&& Int64.toUInt64 63)).toInt64.toInt
def l_div (x y : Int) : Int := (Int64.ofInt x / Int64.ofInt y).toInt
def l_rem (x y : Int) : Int := (Int64.ofInt x - Int64.ofInt x / Int64.ofInt y * Int64.ofInt y).toInt
def w8 (x : Int) : Int := (Int32.ofInt x).toInt8.toInt32.toInt
def w16 (x : Int) : Int := (Int32.ofInt x).toInt16.toInt32.toInt
def wc (x : Int) : Int := ((Int32.ofInt x).toUInt32 % 65536).toInt32.toInt
def l2i (x : Int) : Int := (Int64.ofInt x).toInt32.toInt
def l_cmp (x y : Int) : Int := if x = y then 0 else if x < y then -1 else 1
theorem jo_i2l {x : Int} (h : jin x) : (Int32.ofInt x).toInt64 = Int64.ofInt x := by
  apply Int64.toInt_inj.mp
  rw [Int32.toInt_toInt64, jo_t h, jo_l (by unfold jin at h; unfold jlin; omega)]
theorem jo_lt {x y : Int} (hx : jin x) (hy : jin y) : Int32.ofInt x < Int32.ofInt y ↔ x < y := by rw [Int32.lt_iff_toInt_lt, jo_t hx, jo_t hy]
theorem jo_le {x y : Int} (hx : jin x) (hy : jin y) : Int32.ofInt x ≤ Int32.ofInt y ↔ x ≤ y := by rw [Int32.le_iff_toInt_le, jo_t hx, jo_t hy]
theorem jo_eq {x y : Int} (hx : jin x) (hy : jin y) : Int32.ofInt x = Int32.ofInt y ↔ x = y := by rw [← Int32.toInt_inj, jo_t hx, jo_t hy]
theorem jo_ltl {x y : Int} (hx : jlin x) (hy : jlin y) : Int64.ofInt x < Int64.ofInt y ↔ x < y := by rw [Int64.lt_iff_toInt_lt, jo_l hx, jo_l hy]
theorem jo_eql {x y : Int} (hx : jlin x) (hy : jlin y) : Int64.ofInt x = Int64.ofInt y ↔ x = y := by rw [← Int64.toInt_inj, jo_l hx, jo_l hy]
theorem jo_0 : (0 : Int32) = Int32.ofInt 0 := rfl
theorem jin_0 : jin 0 := by unfold jin; omega
def jv (v : jT) : Value := if v.1 = 0 then .int (Int32.ofInt v.2) else if v.1 = 1 then .long (Int64.ofInt v.2) else if v.2 < 0 then .null else .ref v.2.toNat
theorem jv_i (z : Int) : jv (0, z) = .int (Int32.ofInt z) := rfl
theorem jv_l (z : Int) : jv (1, z) = .long (Int64.ofInt z) := rfl
theorem jv_r {z : Int} (h : 0 ≤ z) : jv (2, z) = .ref z.toNat := by simp [jv]; omega
theorem jv_n : jv (2, -1) = .null := rfl
def jok (v : jT) : Prop := (v.1 = 0 ∧ jin v.2) ∨ (v.1 = 1 ∧ jlin v.2) ∨ (v.1 = 2 ∧ -1 ≤ v.2)
theorem jok_i {z : Int} : jok (0, z) ↔ jin z := by simp [jok]
theorem jok_l {z : Int} : jok (1, z) ↔ jlin z := by simp [jok]
theorem jok_r {z : Int} : jok (2, z) ↔ -1 ≤ z := by simp [jok]
def jrf (z : Int) : Option Nat := if z < 0 then none else some z.toNat
theorem jv_rf (z : Int) : jv (2, z) = va_rf (jrf z) := by
  unfold jrf jv; by_cases h : z < 0 <;> simp [h, va_rf]
