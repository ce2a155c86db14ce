/-! bits and slices of a word; rows of bits -/
section jSlice
theorem p2_pos (n : Nat) : (0 : Int) < 2 ^ n := Int.pow_pos (by decide)
theorem p2_nat (n : Nat) : (2 : Int) ^ n = ((2 ^ n : Nat) : Int) := by simp
def pbt (w : Int) (j : Nat) : Int := w / 2 ^ j % 2
def pSl (lo n : Nat) (w : Int) : Int := w / 2 ^ lo % 2 ^ n
theorem pSl_lo (lo n : Nat) (w : Int) : 0 ≤ pSl lo n w ∧ pSl lo n w < 2 ^ n := ⟨Int.emod_nonneg _ (Int.ne_of_gt (p2_pos n)), Int.emod_lt_of_pos _ (p2_pos n)⟩
theorem pbt_01 (w : Int) (j : Nat) : 0 ≤ pbt w j ∧ pbt w j ≤ 1 := by unfold pbt; omega
theorem pSl_0 (lo : Nat) (w : Int) : pSl lo 0 w = 0 := by unfold pSl; rw [Int.pow_zero, Int.emod_one]
theorem emod_mul2 (x p : Int) (hp : 0 < p) : x % (p * 2) = x % p + x / p % 2 * p := by
  have h1 := Int.mul_ediv_add_emod x p
  have h2 : x / p / 2 = x / (p * 2) := Int.ediv_ediv_of_nonneg (by omega)
  have h3 := Int.mul_ediv_add_emod x (p * 2)
  rw [← h2] at h3
  have h4 : x / p = 2 * (x / p / 2) + x / p % 2 := by omega
  have e : p * (x / p) = p * 2 * (x / p / 2) + x / p % 2 * p := by
    have : p * (x / p) = p * (2 * (x / p / 2) + x / p % 2) := congrArg (p * ·) h4
    rw [this, Int.mul_add, ← Int.mul_assoc, Int.mul_comm (x / p % 2) p]
  omega
theorem emod_2mul (x p : Int) (hp : 0 < p) : x % (2 * p) = x % 2 + 2 * (x / 2 % p) := by
  have h1 := Int.mul_ediv_add_emod x 2
  have h2 : x / 2 / p = x / (2 * p) := Int.ediv_ediv_of_nonneg (by omega)
  have h3 := Int.mul_ediv_add_emod x (2 * p)
  rw [← h2] at h3
  have h4 := Int.mul_ediv_add_emod (x / 2) p
  have e : 2 * (x / 2) = 2 * p * (x / 2 / p) + 2 * (x / 2 % p) := by
    have : 2 * (x / 2) = 2 * (p * (x / 2 / p) + x / 2 % p) := congrArg (2 * ·) h4.symm
    rw [this, Int.mul_add, ← Int.mul_assoc]
  omega
theorem ediv_p2 (x : Int) (a b : Nat) : x / 2 ^ a / 2 ^ b = x / 2 ^ (a + b) := by
  rw [Int.ediv_ediv_of_nonneg (Int.le_of_lt (p2_pos a)), ← Int.pow_add]
theorem pSl_succ (lo n : Nat) (w : Int) : pSl lo (n + 1) w = pSl lo n w + pbt w (lo + n) * 2 ^ n := by
  unfold pSl pbt; rw [Int.pow_succ, emod_mul2 _ _ (p2_pos n), ediv_p2]
theorem pSl_cons (lo n : Nat) (w : Int) : pSl lo (n + 1) w = pbt w lo + 2 * pSl (lo + 1) n w := by
  unfold pSl pbt; rw [Int.pow_succ', emod_2mul _ _ (p2_pos n)]
  have := ediv_p2 w lo 1
  rw [Int.pow_one] at this
  rw [this]
/-- four parts -/
abbrev jP4 : Type := Int × Int × Int × Int
def p4g (p : jP4) (e : Nat) : Int := if e = 0 then p.1 else if e = 1 then p.2.1 else if e = 2 then p.2.2.1 else p.2.2.2
def p4s (p : jP4) (e : Nat) (v : Int) : jP4 := if e = 0 then (v, p.2.1, p.2.2.1, p.2.2.2) else if e = 1 then (p.1, v, p.2.2.1, p.2.2.2) else if e = 2 then (p.1, p.2.1, v, p.2.2.2) else (p.1, p.2.1, p.2.2.1, v)
/-- which part a row's number tells -/
def pce (c : Nat) : Nat := if c < 500 then c / 100 - 1 else c / 100 - 5
def p4a (p : jP4) (c : Nat) (x : Int) : jP4 := p4s p (pce c) (p4g p (pce c) + x * 2 ^ (c % 100))
theorem p4_gs (p : jP4) (e : Nat) (v : Int) (he : e < 4) : p4g (p4s p e v) e = v := by
  have : e = 0 ∨ e = 1 ∨ e = 2 ∨ e = 3 := by omega
  rcases this with rfl | rfl | rfl | rfl <;> rfl
theorem p4_ss (p : jP4) (e : Nat) (v w : Int) : p4s (p4s p e v) e w = p4s p e w := by
  unfold p4s; repeat' split
  all_goals rfl
theorem p4_sg (p : jP4) (e : Nat) : p4s p e (p4g p e) = p := by
  unfold p4s p4g
  by_cases h0 : e = 0
  · rw [if_pos h0, if_pos h0]
  · by_cases h1 : e = 1
    · rw [if_neg h0, if_neg h0, if_pos h1, if_pos h1]
    · by_cases h2 : e = 2
      · rw [if_neg h0, if_neg h0, if_neg h1, if_neg h1, if_pos h2, if_pos h2]
      · rw [if_neg h0, if_neg h0, if_neg h1, if_neg h1, if_neg h2, if_neg h2]
/-- a word's parts by a row of numbers, bit by bit -/
def ptk (r : Nat → Nat) (w : Int) : Nat → Nat → jP4 → Option jP4
  | 0, _, p => some p
  | n + 1, j, p => if r j < 2 then (if (r j : Int) = pbt w j then ptk r w n (j + 1) p else none) else ptk r w n (j + 1) (p4a p (r j) (pbt w j))
theorem ptk_fix (r : Nat → Nat) (w : Int) (m : Nat) : ∀ (n j v : Nat) (p : jP4), v < 2 ^ n → (∀ i, i < n → r (j + i) = v / 2 ^ i % 2) → ptk r w (n + m) j p = if pSl j n w = v then ptk r w m (j + n) p else none
  | 0, j, v, p, hv, _ => by
    have : v = 0 := by omega
    subst this
    rw [pSl_0]; simp
  | n + 1, j, v, p, hv, h => by
    have h0 := h 0 (by omega)
    simp only [Nat.add_zero, Nat.pow_zero, Nat.div_one] at h0
    have ih := ptk_fix r w m n (j + 1) (v / 2) p (by rw [Nat.pow_succ] at hv; omega) (fun i hi => by
      have := h (i + 1) (by omega)
      rw [show j + 1 + i = j + (i + 1) by omega, this, Nat.pow_succ, Nat.mul_comm, Nat.div_div_eq_div_mul])
    rw [show n + 1 + m = (n + m) + 1 by omega]
    show (if r j < 2 then (if (r j : Int) = pbt w j then ptk r w (n + m) (j + 1) p else none) else _) = _
    rw [if_pos (by omega), ih, pSl_cons, show j + 1 + n = j + (n + 1) by omega]
    have hb := pbt_01 w j
    have hs := pSl_lo (j + 1) n w
    generalize pSl (j + 1) n w = x at *
    generalize pbt w j = b at *
    rw [h0]
    by_cases h1 : ((v % 2 : Nat) : Int) = b
    · rw [if_pos h1]
      by_cases h2 : x = ((v / 2 : Nat) : Int)
      · rw [if_pos h2, if_pos (by omega)]
      · rw [if_neg h2, if_neg (by omega)]
    · rw [if_neg h1, if_neg (by omega)]
theorem p4a_0 (p : jP4) (c : Nat) : p4a p c 0 = p := by unfold p4a; rw [Int.zero_mul, Int.add_zero, p4_sg]
theorem ptk_fld (r : Nat → Nat) (w : Int) (m : Nat) : ∀ (n j c : Nat) (p : jP4), 2 ≤ c → c % 100 + n ≤ 100 → pce c < 4 → (∀ i, i < n → r (j + i) = c + i) → ptk r w (n + m) j p = ptk r w m (j + n) (p4a p c (pSl j n w))
  | 0, j, c, p, _, _, _, _ => by rw [pSl_0, p4a_0]; simp
  | n + 1, j, c, p, hc, hn, he, h => by
    have h0 := h 0 (by omega)
    simp only [Nat.add_zero] at h0
    rw [show n + 1 + m = (n + m) + 1 by omega]
    show (if r j < 2 then (if (r j : Int) = pbt w j then ptk r w (n + m) (j + 1) p else none) else ptk r w (n + m) (j + 1) (p4a p (r j) (pbt w j))) = _
    rw [if_neg (by omega), h0]
    cases n with
    | zero =>
      rw [show 0 + m = m by omega, pSl_succ, pSl_0]
      simp
    | succ n =>
      have e1 : (c + 1) / 100 = c / 100 := by omega
      have e2 : (c + 1) % 100 = c % 100 + 1 := by omega
      have e3 : pce (c + 1) = pce c := by unfold pce; rw [e1]; by_cases h5 : c < 500 <;> by_cases h6 : c + 1 < 500 <;> first | rw [if_pos h5, if_pos h6] | rw [if_neg h5, if_neg h6] | omega
      rw [ptk_fld r w m (n + 1) (j + 1) (c + 1) _ (by omega) (by omega) (by rw [e3]; exact he) (fun i hi => by
        have := h (i + 1) (by omega)
        rw [show j + 1 + i = j + (i + 1) by omega, this]; omega)]
      rw [show j + 1 + (n + 1) = j + (n + 1 + 1) by omega]
      congr 1
      rw [pSl_cons j (n + 1)]
      unfold p4a
      rw [e2, e3, p4_gs _ _ _ he, p4_ss]
      congr 1
      rw [Int.pow_succ, Int.add_mul]
      rw [Int.add_assoc]
      congr 2
      rw [Int.mul_comm (2 ^ (c % 100)) 2, ← Int.mul_assoc, Int.mul_comm _ 2]
/-- runs of bits: how many, 0 or what they tell, a number -/
def prn : List (Nat × Nat × Nat) → Int → Nat → jP4 → Option jP4
  | [], _, _, p => some p
  | g :: gs, w, j, p => if g.2.1 = 0 then (if pSl j g.1 w = g.2.2 then prn gs w (j + g.1) p else none) else prn gs w (j + g.1) (p4a p g.2.1 (pSl j g.1 w))
def prs : List (Nat × Nat × Nat) → Nat
  | [] => 0
  | g :: gs => g.1 + prs gs
/-- the row of numbers that runs tell -/
def prr : List (Nat × Nat × Nat) → Nat → Nat
  | [], _ => 0
  | g :: gs, i => if i < g.1 then (if g.2.1 = 0 then g.2.2 / 2 ^ i % 2 else g.2.1 + i) else prr gs (i - g.1)
def prk (g : Nat × Nat × Nat) : Bool := if g.2.1 = 0 then decide (g.2.2 < 2 ^ g.1) else decide (2 ≤ g.2.1 ∧ g.2.1 % 100 + g.1 ≤ 100 ∧ pce g.2.1 < 4)
theorem ptk_runs (r : Nat → Nat) (w : Int) : ∀ (gs : List (Nat × Nat × Nat)) (j : Nat) (p : jP4), (∀ g ∈ gs, prk g = true) → (∀ i, i < prs gs → r (j + i) = prr gs i) → ptk r w (prs gs) j p = prn gs w j p
  | [], j, p, _, _ => rfl
  | g :: gs, j, p, hk, h => by
    have hg := hk g List.mem_cons_self
    have ih := fun q => ptk_runs r w gs (j + g.1) q (fun q hq => hk q (List.mem_cons_of_mem _ hq)) (fun i hi => by
      have := h (g.1 + i) (by show g.1 + i < g.1 + prs gs; omega)
      rw [Nat.add_assoc, this]
      show (if g.1 + i < g.1 then _ else prr gs (g.1 + i - g.1)) = _
      rw [if_neg (by omega), Nat.add_sub_cancel_left])
    show ptk r w (g.1 + prs gs) j p = if g.2.1 = 0 then _ else _
    unfold prk at hg
    by_cases h0 : g.2.1 = 0
    · rw [if_pos h0] at hg
      rw [if_pos h0, ptk_fix r w (prs gs) g.1 j g.2.2 p (of_decide_eq_true hg) (fun i hi => by
        have := h i (by show i < g.1 + prs gs; omega)
        rw [this]
        show (if i < g.1 then (if g.2.1 = 0 then _ else _) else _) = _
        rw [if_pos hi, if_pos h0]), ih]
    · rw [if_neg h0] at hg
      have hg := of_decide_eq_true hg
      rw [if_neg h0, ptk_fld r w (prs gs) g.1 j g.2.1 p hg.1 hg.2.1 hg.2.2 (fun i hi => by
        have := h i (by show i < g.1 + prs gs; omega)
        rw [this]
        show (if i < g.1 then (if g.2.1 = 0 then _ else _) else _) = _
        rw [if_pos hi, if_neg h0]), ih]
/-- or of what does not meet -/
theorem I_or_lo {x y : Int} (j : Nat) (hj : j ≤ 32) (hx : 0 ≤ x) (hx' : x < 2 ^ j) (hy : y % 2 ^ j = 0) : I_or x y = W32 (x + y) := by
  rw [I_or_eq, W32_eq, i_or_bv]
  show (BitVec.ofInt 32 x ||| BitVec.ofInt 32 y).toInt = (BitVec.ofInt 32 (x + y)).toInt
  rw [BitVec.ofInt_add, BitVec.add_eq_or_of_and_eq_zero]
  apply BitVec.eq_of_toNat_eq
  rw [BitVec.toNat_and]
  show _ = 0
  apply Nat.eq_of_testBit_eq
  intro i
  rw [Nat.testBit_and, Nat.zero_testBit]
  have hp : (2 : Nat) ^ j ≤ 2 ^ 32 := Nat.pow_le_pow_right (by decide) hj
  have ex : (BitVec.ofInt 32 x).toNat = x.toNat := by
    rw [BitVec.toNat_ofInt]; rw [p2_nat] at hx'; omega
  rw [ex]
  by_cases hi : i < j
  · have : (BitVec.ofInt 32 y).toNat.testBit i = false := by
      rw [BitVec.toNat_ofInt]
      have hd : (2 : Nat) ^ j ∣ (y % ((2 ^ 32 : Nat) : Int)).toNat := by
        have h1 : ((2 : Int) ^ j) ∣ y := Int.dvd_of_emod_eq_zero hy
        have h2 : ((2 : Int) ^ j) ∣ ((2 ^ 32 : Nat) : Int) := by
          rw [p2_nat]; exact_mod_cast Nat.pow_dvd_pow 2 hj
        have h3 : ((2 : Int) ^ j) ∣ y % ((2 ^ 32 : Nat) : Int) := by
          have := Int.dvd_add (Int.dvd_trans h2 (Int.dvd_emod_sub_self (x := y))) h1
          rwa [Int.sub_add_cancel] at this
        have h4 : 0 ≤ y % ((2 ^ 32 : Nat) : Int) := Int.emod_nonneg _ (by decide)
        rw [p2_nat] at h3
        have : ((y % ((2 ^ 32 : Nat) : Int)).toNat : Int) = y % ((2 ^ 32 : Nat) : Int) := Int.toNat_of_nonneg h4
        rw [← this] at h3
        exact_mod_cast h3
      obtain ⟨q, hq⟩ := hd
      rw [hq, Nat.testBit_two_pow_mul]
      simp; omega
    rw [this, Bool.and_false]
  · have : x.toNat.testBit i = false := by
      apply Nat.testBit_lt_two_pow
      have : (2 : Nat) ^ j ≤ 2 ^ i := Nat.pow_le_pow_right (by decide) (by omega)
      rw [p2_nat] at hx'
      omega
    rw [this, Bool.false_and]
theorem I_or_comm (x y : Int) : I_or x y = I_or y x := by
  rw [I_or_eq, i_or_bv, i_or_bv, BitVec.or_comm]
theorem I_or_hi {x y : Int} (j : Nat) (hj : j ≤ 32) (hx : x % 2 ^ j = 0) (hy : 0 ≤ y) (hy' : y < 2 ^ j) : I_or x y = W32 (x + y) := by
  rw [I_or_comm, I_or_lo j hj hy hy' hx, Int.add_comm]
theorem I_shr_bt {w : Int} (hw : -2147483648 ≤ w ∧ w ≤ 2147483647) {j : Int} (h0 : 0 ≤ j) (h1 : j ≤ 31) : I_and (I_shr w j) 1 = pbt w j.toNat := by
  rw [I_and_1, i_shr_p hw h0 h1]; rfl
theorem W32_mod (x : Int) : W32 x % 4294967296 = x % 4294967296 := by
  rw [W32_m]; exact Int.bmod_emod
theorem W32_cong {x y : Int} (h : x % 4294967296 = y % 4294967296) : W32 x = W32 y := by
  rw [W32_m, W32_m, ← Int.emod_bmod x, ← Int.emod_bmod y]
  exact congrArg (fun z => Int.bmod z 4294967296) h
end jSlice
