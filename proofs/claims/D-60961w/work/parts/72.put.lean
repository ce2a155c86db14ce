/-! a word put together by rows, and taken apart again: printed by gen_put.py -/
set_option maxRecDepth 100000
section jPut
theorem j4e {a b c d a' b' c' d' : Int} (h1 : a = a') (h2 : b = b') (h3 : c = c') (h4 : d = d') : ((a, b, c, d) : jP4) = (a', b', c', d') := by
  subst h1 h2 h3 h4; rfl
/-- the bit that the parts give at an entry of a row -/
def pb (p : jP4) (r : Nat) : Int := if r < 2 then (r : Int) else if r < 500 then pbt (p4g p (pce r)) (r % 100) else pbt (p4g p (pce r) - 8) (r % 100)
theorem pb_01 (p : jP4) (r : Nat) : 0 ≤ pb p r ∧ pb p r ≤ 1 := by
  unfold pb
  split
  · omega
  · split
    · exact pbt_01 _ _
    · exact pbt_01 _ _
/-- a sum of bits -/
def pvv (f : Nat → Int) : Nat → Int
  | 0 => 0
  | n + 1 => pvv f n + f n * 2 ^ n
theorem pvv_lo (f : Nat → Int) (hf : ∀ i, 0 ≤ f i ∧ f i ≤ 1) (n : Nat) : 0 ≤ pvv f n ∧ pvv f n < 2 ^ n := by
  induction n with
  | zero => exact ⟨Int.le_refl 0, by show (0 : Int) < 2 ^ 0; decide⟩
  | succ n ih =>
    have h := hf n
    have hp := p2_pos n
    show 0 ≤ pvv f n + f n * 2 ^ n ∧ pvv f n + f n * 2 ^ n < 2 ^ (n + 1)
    rw [Int.pow_succ]
    rcases (show f n = 0 ∨ f n = 1 by omega) with e | e
    · rw [e, Int.zero_mul]; omega
    · rw [e, Int.one_mul]; omega
theorem pbt_add (x b : Int) (m j : Nat) (h : j < m) : pbt (x + b * 2 ^ m) j = pbt x j := by
  unfold pbt
  obtain ⟨d, rfl⟩ : ∃ d, m = j + (d + 1) := ⟨m - j - 1, by omega⟩
  have e : b * (2 : Int) ^ (j + (d + 1)) = 2 ^ j * (b * 2 ^ d * 2) := by
    rw [Int.pow_add, Int.pow_succ]; ac_rfl
  rw [e, Int.add_mul_ediv_left _ _ (Int.ne_of_gt (p2_pos j)), Int.add_mul_emod_self_right]
theorem pbt_pvv (f : Nat → Int) (hf : ∀ i, 0 ≤ f i ∧ f i ≤ 1) : ∀ m j, j < m → pbt (pvv f m) j = f j := by
  intro m
  induction m with
  | zero => intro j h; omega
  | succ m ih =>
    intro j h
    show pbt (pvv f m + f m * 2 ^ m) j = f j
    rcases Nat.lt_or_ge j m with q | q
    · rw [pbt_add _ _ _ _ q]; exact ih j q
    · have e : j = m := by omega
      subst e
      have h1 := pvv_lo f hf j
      have h2 := hf j
      unfold pbt
      rw [Int.add_mul_ediv_right _ _ (Int.ne_of_gt (p2_pos j)), Int.ediv_eq_zero_of_lt h1.1 h1.2]
      omega
theorem pSl_run (x y : Int) (lo a n : Nat) (h : ∀ i, i < n → pbt x (lo + i) = pbt y (a + i)) : pSl lo n x = pSl a n y := by
  induction n with
  | zero => rw [pSl_0, pSl_0]
  | succ n ih => rw [pSl_succ, pSl_succ, ih (fun i hi => h i (by omega)), h n (by omega)]
theorem pvv_or (f : Nat → Int) (hf : ∀ i, 0 ≤ f i ∧ f i ≤ 1) (j : Nat) (hj : j ≤ 31) : I_or (W32 (pvv f j)) (I_shl (f j) (j : Int)) = W32 (pvv f (j + 1)) := by
  have h := pvv_lo f hf j
  have h2 : (2 : Int) ^ j ≤ 2147483648 := by
    rw [p2_nat]
    have : (2 : Nat) ^ j ≤ 2 ^ 31 := Nat.pow_le_pow_right (by decide) hj
    omega
  rw [W32_in (by omega) (by omega), i_shl_p (by omega) (by omega), Int.toNat_natCast]
  rw [I_or_lo j (by omega) h.1 h.2 (by rw [W32_mod_p _ _ (by omega), Int.mul_emod_left])]
  show _ = W32 (pvv f j + f j * 2 ^ j)
  refine W32_cong ?_
  have := W32_mod (f j * 2 ^ j)
  omega
/-- a word of a kind, of its parts -/
noncomputable def pPut (k : Nat) (p : jP4) : Int := W32 (pvv (fun j => pb p (pRow (32 * k + j))) (pBits k))
theorem pPut_in (k : Nat) (p : jP4) : -2147483648 ≤ pPut k p ∧ pPut k p ≤ 2147483647 := W32_lo _
theorem pBits_le (k : Nat) : pBits k ≤ 32 := by unfold pBits; split <;> omega
theorem pbt_sl (w : Int) (j : Nat) : pbt w j = pSl j 1 w := by
  unfold pbt pSl
  rw [show (2 : Int) ^ 1 = 2 from rfl]
theorem pPut_bit (k : Nat) (p : jP4) (j : Nat) (h : j < pBits k) : pbt (pPut k p) j = pb p (pRow (32 * k + j)) := by
  have hb := pBits_le k
  unfold pPut
  rw [pbt_sl, pSl_W32 _ _ _ (by omega), ← pbt_sl, pbt_pvv _ (fun i => pb_01 p _) _ _ h]
theorem pPut_fix (k lo n v : Nat) (p : jP4) (hb : lo + n ≤ pBits k) (hv : v < 2 ^ n) (h : ∀ i, i < n → pRow (32 * k + (lo + i)) = v / 2 ^ i % 2) : pSl lo n (pPut k p) = (v : Int) := by
  have e : pSl lo n (pPut k p) = pSl 0 n (v : Int) := by
    refine pSl_run _ _ _ _ _ fun i hi => ?_
    rw [pPut_bit k p (lo + i) (by omega), h i hi]
    unfold pb
    rw [if_pos (by omega)]
    unfold pbt
    rw [Nat.zero_add]
    push_cast
    try rfl
  rw [e]
  unfold pSl
  rw [Int.pow_zero, Int.ediv_one, Int.emod_eq_of_lt (by omega) (by rw [p2_nat]; exact Int.ofNat_lt.mpr hv)]
theorem pPut_part (k lo n c : Nat) (p : jP4) (hb : lo + n ≤ pBits k) (hc : 2 ≤ c) (hc' : c + n ≤ 500) (hm : c % 100 + n ≤ 100) (h : ∀ i, i < n → pRow (32 * k + (lo + i)) = c + i) : pSl lo n (pPut k p) = pSl (c % 100) n (p4g p (pce c)) := by
  refine pSl_run _ _ _ _ _ fun i hi => ?_
  rw [pPut_bit k p (lo + i) (by omega), h i hi]
  unfold pb
  rw [if_neg (by omega), if_pos (by omega)]
  have e1 : (c + i) % 100 = c % 100 + i := by omega
  have e2 : pce (c + i) = pce c := by unfold pce; rw [if_pos (by omega), if_pos (by omega)]; omega
  rw [e1, e2]
theorem pPut_shr (k lo n c : Nat) (p : jP4) (hb : lo + n ≤ pBits k) (hc : 500 ≤ c) (hm : c % 100 + n ≤ 100) (h : ∀ i, i < n → pRow (32 * k + (lo + i)) = c + i) : pSl lo n (pPut k p) = pSl (c % 100) n (p4g p (pce c) - 8) := by
  refine pSl_run _ _ _ _ _ fun i hi => ?_
  rw [pPut_bit k p (lo + i) (by omega), h i hi]
  unfold pb
  rw [if_neg (by omega), if_neg (by omega)]
  have e1 : (c + i) % 100 = c % 100 + i := by omega
  have e2 : pce (c + i) = pce c := by unfold pce; rw [if_neg (by omega), if_neg (by omega)]; omega
  rw [e1, e2]

theorem s_X43_put (s : jS) (x0 k : Int) (p : jP4) (hR : pRows s (x0 + 1)) (hk : 0 ≤ k) (hk' : k < 75) (hp : ∀ e, e < 4 → -2147483640 ≤ p4g p e ∧ p4g p e ≤ 2147483647) : m_X43_put (pw4 s (x0 + 2) p) x0 k = some (pPut k.toNat p) := by
  rw [em_X43_put]; unfold dm_X43_put
  rw [eu_X43_put_4]; unfold du_X43_put_4
  have hb := pBits_le k.toNat
  have hf := fun i => pb_01 p (pRow (32 * k.toNat + i))
  have main : ∀ (n j : Nat), j + n = pBits k.toNat → jlpR (jc4 b_X43_put_4) [x0, k, W32 (pvv (fun i => pb p (pRow (32 * k.toNat + i))) j), (j : Int)] (pw4 s (x0 + 2) p) = some (pPut k.toNat p) := by
    intro n
    induction n with
    | zero =>
      intro j hj
      have e : j = pBits k.toNat := by omega
      subst e
      apply jlpR_r
      show b_X43_put_4 (pw4 s (x0 + 2) p) x0 k _ _ = _
      unfold b_X43_put_4
      simp only [s_X43_bitsOf _ _ hk, Option.bind_some]
      rw [if_neg (by omega)]
      rfl
    | succ n ih =>
      intro j hj
      have ih := ih (j + 1) (by omega)
      rw [← ih]
      apply jlpR_l
      show b_X43_put_4 (pw4 s (x0 + 2) p) x0 k _ _ = _
      have hr : jf (pw4 s (x0 + 2) p) 1000 (x0 + 1) (32 * k + j) = (pRow (32 * k.toNat + j) : Int) := by
        rw [jf_pw4, if_neg (by omega), hR _ (by omega) (by omega), show (32 * k + (j : Int)).toNat = 32 * k.toNat + j by omega]
      have ho := pRow_ok (32 * k.toNat + j) (by omega)
      have hor := pvv_or (fun i => pb p (pRow (32 * k.toNat + i))) hf j (by omega)
      generalize W32 (pvv (fun i => pb p (pRow (32 * k.toNat + i))) j) = X at hor ⊢
      generalize W32 (pvv (fun i => pb p (pRow (32 * k.toNat + i))) (j + 1)) = Y at hor ⊢
      unfold b_X43_put_4
      simp (disch := omega) only [s_X43_bitsOf _ _ hk, Option.bind_some, W32_in, jlt_in, hr, jlet]
      rw [if_pos (by omega)]
      generalize pRow (32 * k.toNat + j) = r at *
      have hu : ∀ t y, y = pb p r → u_X43_put_90 t x0 k X (j : Int) y = some (.inl [x0, k, Y, ((j + 1 : Nat) : Int)]) := by
        intro t y hy
        rw [eu_X43_put_90]; unfold du_X43_put_90 jlet
        rw [hy, hor, W32_in (by omega) (by omega)]
        rfl
      by_cases c1 : r < 2
      · rw [if_pos (by omega)]
        exact hu _ _ (by unfold pb; rw [if_pos c1])
      · rw [if_neg (by omega)]
        have ho := ho.resolve_left c1
        have h4 := ho.2.2.1
        have hpe := hp (pce r) ho.2.2.1
        by_cases c3 : r < 500
        · rw [if_pos (by omega)]
          have e : (r : Int) / 100 - 1 = (pce r : Int) := by unfold pce; rw [if_pos c3]; omega
          have e' : (r : Int) % 100 = ((r % 100 : Nat) : Int) := by omega
          simp (disch := omega) only [I_div_n, jdv_in, Option.bind_some, W32_in, jlt_in, I_rem_n]
          rw [jf_pw4, if_pos ⟨rfl, rfl, by omega, by omega⟩, e, Int.toNat_natCast, e', I_shr_bt (by omega) (by omega) (by omega), Int.toNat_natCast]
          exact hu _ _ (by unfold pb; rw [if_neg c1, if_pos c3])
        · rw [if_neg (by omega)]
          have e : (r : Int) / 100 - 5 = (pce r : Int) := by unfold pce; rw [if_neg c3]; omega
          have e' : (r : Int) % 100 = ((r % 100 : Nat) : Int) := by omega
          simp (disch := omega) only [I_div_n, jdv_in, Option.bind_some, W32_in, jlt_in, I_rem_n]
          rw [jf_pw4, if_pos ⟨rfl, rfl, by omega, by omega⟩, e, Int.toNat_natCast, e', W32_in (by omega) (by omega), I_shr_bt (by omega) (by omega) (by omega), Int.toNat_natCast]
          exact hu _ _ (by unfold pb; rw [if_neg c1, if_neg c3])
  have h0 : W32 (pvv (fun i => pb p (pRow (32 * k.toNat + i))) 0) = 0 := W32_in (z := 0) (by omega) (by omega)
  have := main (pBits k.toNat) 0 (by omega)
  rw [h0] at this
  exact this

theorem s_X38_put (s : jS) (x0 k : Int) (p : jP4) (hR : pRows s (x0 + 1)) (hk : 0 ≤ k) (hk' : k < 75) (hp : ∀ e, e < 4 → -2147483640 ≤ p4g p e ∧ p4g p e ≤ 2147483647) : m_X38_put (pw4 s (x0 + 2) p) x0 k = some (pPut k.toNat p) := by
  rw [em_X38_put]; unfold dm_X38_put
  rw [eu_X38_put_4]; unfold du_X38_put_4
  have hb := pBits_le k.toNat
  have hf := fun i => pb_01 p (pRow (32 * k.toNat + i))
  have main : ∀ (n j : Nat), j + n = pBits k.toNat → jlpR (jc4 b_X38_put_4) [x0, k, W32 (pvv (fun i => pb p (pRow (32 * k.toNat + i))) j), (j : Int)] (pw4 s (x0 + 2) p) = some (pPut k.toNat p) := by
    intro n
    induction n with
    | zero =>
      intro j hj
      have e : j = pBits k.toNat := by omega
      subst e
      apply jlpR_r
      show b_X38_put_4 (pw4 s (x0 + 2) p) x0 k _ _ = _
      unfold b_X38_put_4
      simp only [s_X38_bitsOf _ _ hk, Option.bind_some]
      rw [if_neg (by omega)]
      rfl
    | succ n ih =>
      intro j hj
      have ih := ih (j + 1) (by omega)
      rw [← ih]
      apply jlpR_l
      show b_X38_put_4 (pw4 s (x0 + 2) p) x0 k _ _ = _
      have hr : jf (pw4 s (x0 + 2) p) 1000 (x0 + 1) (32 * k + j) = (pRow (32 * k.toNat + j) : Int) := by
        rw [jf_pw4, if_neg (by omega), hR _ (by omega) (by omega), show (32 * k + (j : Int)).toNat = 32 * k.toNat + j by omega]
      have ho := pRow_ok (32 * k.toNat + j) (by omega)
      have hor := pvv_or (fun i => pb p (pRow (32 * k.toNat + i))) hf j (by omega)
      generalize W32 (pvv (fun i => pb p (pRow (32 * k.toNat + i))) j) = X at hor ⊢
      generalize W32 (pvv (fun i => pb p (pRow (32 * k.toNat + i))) (j + 1)) = Y at hor ⊢
      unfold b_X38_put_4
      simp (disch := omega) only [s_X38_bitsOf _ _ hk, Option.bind_some, W32_in, jlt_in, hr, jlet]
      rw [if_pos (by omega)]
      generalize pRow (32 * k.toNat + j) = r at *
      have hu : ∀ t y, y = pb p r → u_X38_put_90 t x0 k X (j : Int) y = some (.inl [x0, k, Y, ((j + 1 : Nat) : Int)]) := by
        intro t y hy
        rw [eu_X38_put_90]; unfold du_X38_put_90 jlet
        rw [hy, hor, W32_in (by omega) (by omega)]
        rfl
      by_cases c1 : r < 2
      · rw [if_pos (by omega)]
        exact hu _ _ (by unfold pb; rw [if_pos c1])
      · rw [if_neg (by omega)]
        have ho := ho.resolve_left c1
        have h4 := ho.2.2.1
        have hpe := hp (pce r) ho.2.2.1
        by_cases c3 : r < 500
        · rw [if_pos (by omega)]
          have e : (r : Int) / 100 - 1 = (pce r : Int) := by unfold pce; rw [if_pos c3]; omega
          have e' : (r : Int) % 100 = ((r % 100 : Nat) : Int) := by omega
          simp (disch := omega) only [I_div_n, jdv_in, Option.bind_some, W32_in, jlt_in, I_rem_n]
          rw [jf_pw4, if_pos ⟨rfl, rfl, by omega, by omega⟩, e, Int.toNat_natCast, e', I_shr_bt (by omega) (by omega) (by omega), Int.toNat_natCast]
          exact hu _ _ (by unfold pb; rw [if_neg c1, if_pos c3])
        · rw [if_neg (by omega)]
          have e : (r : Int) / 100 - 5 = (pce r : Int) := by unfold pce; rw [if_neg c3]; omega
          have e' : (r : Int) % 100 = ((r % 100 : Nat) : Int) := by omega
          simp (disch := omega) only [I_div_n, jdv_in, Option.bind_some, W32_in, jlt_in, I_rem_n]
          rw [jf_pw4, if_pos ⟨rfl, rfl, by omega, by omega⟩, e, Int.toNat_natCast, e', W32_in (by omega) (by omega), I_shr_bt (by omega) (by omega) (by omega), Int.toNat_natCast]
          exact hu _ _ (by unfold pb; rw [if_neg c1, if_neg c3])
  have h0 : W32 (pvv (fun i => pb p (pRow (32 * k.toNat + i))) 0) = 0 := W32_in (z := 0) (by omega) (by omega)
  have := main (pBits k.toNat) 0 (by omega)
  rw [h0] at this
  exact this

theorem pPut_0 (d a b i : Int) (h0 : 0 ≤ d ∧ d ≤ 31) (h3 : 0 ≤ i ∧ i ≤ 1048575 ∧ i % 1 = 0) : pTk 0 (pPut 0 (d, a, b, i)) = true ∧ pPt 0 (pPut 0 (d, a, b, i)) = (d, 0, 0, i) := by
  obtain ⟨t1, t2⟩ := pTk_0 (pPut 0 (d, a, b, i))
  have g0_7 : pSl 0 7 (pPut 0 (d, a, b, i)) = 55 := pPut_fix 0 0 7 55 (d, a, b, i) (by decide) (by decide) (by decide +kernel)
  have g7_5 : pSl 7 5 (pPut 0 (d, a, b, i)) = pSl 0 5 d := pPut_part 0 7 5 100 (d, a, b, i) (by decide) (by decide) (by decide) (by decide) (by decide +kernel)
  have g12_20 : pSl 12 20 (pPut 0 (d, a, b, i)) = pSl 0 20 i := pPut_part 0 12 20 400 (d, a, b, i) (by decide) (by decide) (by decide) (by decide) (by decide +kernel)
  generalize pPut 0 (d, a, b, i) = v at *
  have t : pTk 0 v = true := by
    refine t1.mpr ?_
    repeat' refine And.intro ?_ ?_
    all_goals first | assumption | (simp only [g0_7, g7_5, g12_20]; simp only [sxt_6, sxt_9, sxt_10, sxt_12, sxt_13, sxt_21, pSl, show (2 : Int) ^ 0 = 1 from rfl, show (2 : Int) ^ 1 = 2 from rfl, show (2 : Int) ^ 2 = 4 from rfl, show (2 : Int) ^ 3 = 8 from rfl, show (2 : Int) ^ 4 = 16 from rfl, show (2 : Int) ^ 5 = 32 from rfl, show (2 : Int) ^ 6 = 64 from rfl, show (2 : Int) ^ 7 = 128 from rfl, show (2 : Int) ^ 8 = 256 from rfl, show (2 : Int) ^ 9 = 512 from rfl, show (2 : Int) ^ 10 = 1024 from rfl, show (2 : Int) ^ 11 = 2048 from rfl, show (2 : Int) ^ 12 = 4096 from rfl, show (2 : Int) ^ 13 = 8192 from rfl, show (2 : Int) ^ 14 = 16384 from rfl, show (2 : Int) ^ 15 = 32768 from rfl, show (2 : Int) ^ 16 = 65536 from rfl, show (2 : Int) ^ 17 = 131072 from rfl, show (2 : Int) ^ 18 = 262144 from rfl, show (2 : Int) ^ 19 = 524288 from rfl, show (2 : Int) ^ 20 = 1048576 from rfl]; repeat' split) <;> omega
  refine ⟨t, (t2 t).trans ?_⟩
  simp only [g0_7, g7_5, g12_20]
  simp only [sxt_6, sxt_9, sxt_10, sxt_12, sxt_13, sxt_21, pSl, show (2 : Int) ^ 0 = 1 from rfl, show (2 : Int) ^ 1 = 2 from rfl, show (2 : Int) ^ 2 = 4 from rfl, show (2 : Int) ^ 3 = 8 from rfl, show (2 : Int) ^ 4 = 16 from rfl, show (2 : Int) ^ 5 = 32 from rfl, show (2 : Int) ^ 6 = 64 from rfl, show (2 : Int) ^ 7 = 128 from rfl, show (2 : Int) ^ 8 = 256 from rfl, show (2 : Int) ^ 9 = 512 from rfl, show (2 : Int) ^ 10 = 1024 from rfl, show (2 : Int) ^ 11 = 2048 from rfl, show (2 : Int) ^ 12 = 4096 from rfl, show (2 : Int) ^ 13 = 8192 from rfl, show (2 : Int) ^ 14 = 16384 from rfl, show (2 : Int) ^ 15 = 32768 from rfl, show (2 : Int) ^ 16 = 65536 from rfl, show (2 : Int) ^ 17 = 131072 from rfl, show (2 : Int) ^ 18 = 262144 from rfl, show (2 : Int) ^ 19 = 524288 from rfl, show (2 : Int) ^ 20 = 1048576 from rfl]
  refine j4e ?_ ?_ ?_ ?_
  all_goals first | rfl | (repeat' split) <;> omega
theorem pPut_1 (d a b i : Int) (h0 : 0 ≤ d ∧ d ≤ 31) (h3 : 0 ≤ i ∧ i ≤ 1048575 ∧ i % 1 = 0) : pTk 1 (pPut 1 (d, a, b, i)) = true ∧ pPt 1 (pPut 1 (d, a, b, i)) = (d, 0, 0, i) := by
  obtain ⟨t1, t2⟩ := pTk_1 (pPut 1 (d, a, b, i))
  have g0_7 : pSl 0 7 (pPut 1 (d, a, b, i)) = 23 := pPut_fix 1 0 7 23 (d, a, b, i) (by decide) (by decide) (by decide +kernel)
  have g7_5 : pSl 7 5 (pPut 1 (d, a, b, i)) = pSl 0 5 d := pPut_part 1 7 5 100 (d, a, b, i) (by decide) (by decide) (by decide) (by decide) (by decide +kernel)
  have g12_20 : pSl 12 20 (pPut 1 (d, a, b, i)) = pSl 0 20 i := pPut_part 1 12 20 400 (d, a, b, i) (by decide) (by decide) (by decide) (by decide) (by decide +kernel)
  generalize pPut 1 (d, a, b, i) = v at *
  have t : pTk 1 v = true := by
    refine t1.mpr ?_
    repeat' refine And.intro ?_ ?_
    all_goals first | assumption | (simp only [g0_7, g7_5, g12_20]; simp only [sxt_6, sxt_9, sxt_10, sxt_12, sxt_13, sxt_21, pSl, show (2 : Int) ^ 0 = 1 from rfl, show (2 : Int) ^ 1 = 2 from rfl, show (2 : Int) ^ 2 = 4 from rfl, show (2 : Int) ^ 3 = 8 from rfl, show (2 : Int) ^ 4 = 16 from rfl, show (2 : Int) ^ 5 = 32 from rfl, show (2 : Int) ^ 6 = 64 from rfl, show (2 : Int) ^ 7 = 128 from rfl, show (2 : Int) ^ 8 = 256 from rfl, show (2 : Int) ^ 9 = 512 from rfl, show (2 : Int) ^ 10 = 1024 from rfl, show (2 : Int) ^ 11 = 2048 from rfl, show (2 : Int) ^ 12 = 4096 from rfl, show (2 : Int) ^ 13 = 8192 from rfl, show (2 : Int) ^ 14 = 16384 from rfl, show (2 : Int) ^ 15 = 32768 from rfl, show (2 : Int) ^ 16 = 65536 from rfl, show (2 : Int) ^ 17 = 131072 from rfl, show (2 : Int) ^ 18 = 262144 from rfl, show (2 : Int) ^ 19 = 524288 from rfl, show (2 : Int) ^ 20 = 1048576 from rfl]; repeat' split) <;> omega
  refine ⟨t, (t2 t).trans ?_⟩
  simp only [g0_7, g7_5, g12_20]
  simp only [sxt_6, sxt_9, sxt_10, sxt_12, sxt_13, sxt_21, pSl, show (2 : Int) ^ 0 = 1 from rfl, show (2 : Int) ^ 1 = 2 from rfl, show (2 : Int) ^ 2 = 4 from rfl, show (2 : Int) ^ 3 = 8 from rfl, show (2 : Int) ^ 4 = 16 from rfl, show (2 : Int) ^ 5 = 32 from rfl, show (2 : Int) ^ 6 = 64 from rfl, show (2 : Int) ^ 7 = 128 from rfl, show (2 : Int) ^ 8 = 256 from rfl, show (2 : Int) ^ 9 = 512 from rfl, show (2 : Int) ^ 10 = 1024 from rfl, show (2 : Int) ^ 11 = 2048 from rfl, show (2 : Int) ^ 12 = 4096 from rfl, show (2 : Int) ^ 13 = 8192 from rfl, show (2 : Int) ^ 14 = 16384 from rfl, show (2 : Int) ^ 15 = 32768 from rfl, show (2 : Int) ^ 16 = 65536 from rfl, show (2 : Int) ^ 17 = 131072 from rfl, show (2 : Int) ^ 18 = 262144 from rfl, show (2 : Int) ^ 19 = 524288 from rfl, show (2 : Int) ^ 20 = 1048576 from rfl]
  refine j4e ?_ ?_ ?_ ?_
  all_goals first | rfl | (repeat' split) <;> omega
theorem pPut_2 (d a b i : Int) (h0 : 0 ≤ d ∧ d ≤ 31) (h3 : -1048576 ≤ i ∧ i ≤ 1048574 ∧ i % 2 = 0) : pTk 2 (pPut 2 (d, a, b, i)) = true ∧ pPt 2 (pPut 2 (d, a, b, i)) = (d, 0, 0, i) := by
  obtain ⟨t1, t2⟩ := pTk_2 (pPut 2 (d, a, b, i))
  have g0_7 : pSl 0 7 (pPut 2 (d, a, b, i)) = 111 := pPut_fix 2 0 7 111 (d, a, b, i) (by decide) (by decide) (by decide +kernel)
  have g7_5 : pSl 7 5 (pPut 2 (d, a, b, i)) = pSl 0 5 d := pPut_part 2 7 5 100 (d, a, b, i) (by decide) (by decide) (by decide) (by decide) (by decide +kernel)
  have g12_8 : pSl 12 8 (pPut 2 (d, a, b, i)) = pSl 12 8 i := pPut_part 2 12 8 412 (d, a, b, i) (by decide) (by decide) (by decide) (by decide) (by decide +kernel)
  have g20_1 : pSl 20 1 (pPut 2 (d, a, b, i)) = pSl 11 1 i := pPut_part 2 20 1 411 (d, a, b, i) (by decide) (by decide) (by decide) (by decide) (by decide +kernel)
  have g21_10 : pSl 21 10 (pPut 2 (d, a, b, i)) = pSl 1 10 i := pPut_part 2 21 10 401 (d, a, b, i) (by decide) (by decide) (by decide) (by decide) (by decide +kernel)
  have g31_1 : pSl 31 1 (pPut 2 (d, a, b, i)) = pSl 20 1 i := pPut_part 2 31 1 420 (d, a, b, i) (by decide) (by decide) (by decide) (by decide) (by decide +kernel)
  generalize pPut 2 (d, a, b, i) = v at *
  have t : pTk 2 v = true := by
    refine t1.mpr ?_
    repeat' refine And.intro ?_ ?_
    all_goals first | assumption | (simp only [g0_7, g7_5, g12_8, g20_1, g21_10, g31_1]; simp only [sxt_6, sxt_9, sxt_10, sxt_12, sxt_13, sxt_21, pSl, show (2 : Int) ^ 0 = 1 from rfl, show (2 : Int) ^ 1 = 2 from rfl, show (2 : Int) ^ 2 = 4 from rfl, show (2 : Int) ^ 3 = 8 from rfl, show (2 : Int) ^ 4 = 16 from rfl, show (2 : Int) ^ 5 = 32 from rfl, show (2 : Int) ^ 6 = 64 from rfl, show (2 : Int) ^ 7 = 128 from rfl, show (2 : Int) ^ 8 = 256 from rfl, show (2 : Int) ^ 9 = 512 from rfl, show (2 : Int) ^ 10 = 1024 from rfl, show (2 : Int) ^ 11 = 2048 from rfl, show (2 : Int) ^ 12 = 4096 from rfl, show (2 : Int) ^ 13 = 8192 from rfl, show (2 : Int) ^ 14 = 16384 from rfl, show (2 : Int) ^ 15 = 32768 from rfl, show (2 : Int) ^ 16 = 65536 from rfl, show (2 : Int) ^ 17 = 131072 from rfl, show (2 : Int) ^ 18 = 262144 from rfl, show (2 : Int) ^ 19 = 524288 from rfl, show (2 : Int) ^ 20 = 1048576 from rfl]; repeat' split) <;> omega
  refine ⟨t, (t2 t).trans ?_⟩
  simp only [g0_7, g7_5, g12_8, g20_1, g21_10, g31_1]
  simp only [sxt_6, sxt_9, sxt_10, sxt_12, sxt_13, sxt_21, pSl, show (2 : Int) ^ 0 = 1 from rfl, show (2 : Int) ^ 1 = 2 from rfl, show (2 : Int) ^ 2 = 4 from rfl, show (2 : Int) ^ 3 = 8 from rfl, show (2 : Int) ^ 4 = 16 from rfl, show (2 : Int) ^ 5 = 32 from rfl, show (2 : Int) ^ 6 = 64 from rfl, show (2 : Int) ^ 7 = 128 from rfl, show (2 : Int) ^ 8 = 256 from rfl, show (2 : Int) ^ 9 = 512 from rfl, show (2 : Int) ^ 10 = 1024 from rfl, show (2 : Int) ^ 11 = 2048 from rfl, show (2 : Int) ^ 12 = 4096 from rfl, show (2 : Int) ^ 13 = 8192 from rfl, show (2 : Int) ^ 14 = 16384 from rfl, show (2 : Int) ^ 15 = 32768 from rfl, show (2 : Int) ^ 16 = 65536 from rfl, show (2 : Int) ^ 17 = 131072 from rfl, show (2 : Int) ^ 18 = 262144 from rfl, show (2 : Int) ^ 19 = 524288 from rfl, show (2 : Int) ^ 20 = 1048576 from rfl]
  refine j4e ?_ ?_ ?_ ?_
  all_goals first | rfl | (repeat' split) <;> omega
theorem pPut_3 (d a b i : Int) (h0 : 0 ≤ d ∧ d ≤ 31) (h1 : 0 ≤ a ∧ a ≤ 31) (h3 : -2048 ≤ i ∧ i ≤ 2047 ∧ i % 1 = 0) : pTk 3 (pPut 3 (d, a, b, i)) = true ∧ pPt 3 (pPut 3 (d, a, b, i)) = (d, a, 0, i) := by
  obtain ⟨t1, t2⟩ := pTk_3 (pPut 3 (d, a, b, i))
  have g0_7 : pSl 0 7 (pPut 3 (d, a, b, i)) = 103 := pPut_fix 3 0 7 103 (d, a, b, i) (by decide) (by decide) (by decide +kernel)
  have g7_5 : pSl 7 5 (pPut 3 (d, a, b, i)) = pSl 0 5 d := pPut_part 3 7 5 100 (d, a, b, i) (by decide) (by decide) (by decide) (by decide) (by decide +kernel)
  have g12_3 : pSl 12 3 (pPut 3 (d, a, b, i)) = 0 := pPut_fix 3 12 3 0 (d, a, b, i) (by decide) (by decide) (by decide +kernel)
  have g15_5 : pSl 15 5 (pPut 3 (d, a, b, i)) = pSl 0 5 a := pPut_part 3 15 5 200 (d, a, b, i) (by decide) (by decide) (by decide) (by decide) (by decide +kernel)
  have g20_12 : pSl 20 12 (pPut 3 (d, a, b, i)) = pSl 0 12 i := pPut_part 3 20 12 400 (d, a, b, i) (by decide) (by decide) (by decide) (by decide) (by decide +kernel)
  generalize pPut 3 (d, a, b, i) = v at *
  have t : pTk 3 v = true := by
    refine t1.mpr ?_
    repeat' refine And.intro ?_ ?_
    all_goals first | assumption | (simp only [g0_7, g7_5, g12_3, g15_5, g20_12]; simp only [sxt_6, sxt_9, sxt_10, sxt_12, sxt_13, sxt_21, pSl, show (2 : Int) ^ 0 = 1 from rfl, show (2 : Int) ^ 1 = 2 from rfl, show (2 : Int) ^ 2 = 4 from rfl, show (2 : Int) ^ 3 = 8 from rfl, show (2 : Int) ^ 4 = 16 from rfl, show (2 : Int) ^ 5 = 32 from rfl, show (2 : Int) ^ 6 = 64 from rfl, show (2 : Int) ^ 7 = 128 from rfl, show (2 : Int) ^ 8 = 256 from rfl, show (2 : Int) ^ 9 = 512 from rfl, show (2 : Int) ^ 10 = 1024 from rfl, show (2 : Int) ^ 11 = 2048 from rfl, show (2 : Int) ^ 12 = 4096 from rfl, show (2 : Int) ^ 13 = 8192 from rfl, show (2 : Int) ^ 14 = 16384 from rfl, show (2 : Int) ^ 15 = 32768 from rfl, show (2 : Int) ^ 16 = 65536 from rfl, show (2 : Int) ^ 17 = 131072 from rfl, show (2 : Int) ^ 18 = 262144 from rfl, show (2 : Int) ^ 19 = 524288 from rfl, show (2 : Int) ^ 20 = 1048576 from rfl]; repeat' split) <;> omega
  refine ⟨t, (t2 t).trans ?_⟩
  simp only [g0_7, g7_5, g12_3, g15_5, g20_12]
  simp only [sxt_6, sxt_9, sxt_10, sxt_12, sxt_13, sxt_21, pSl, show (2 : Int) ^ 0 = 1 from rfl, show (2 : Int) ^ 1 = 2 from rfl, show (2 : Int) ^ 2 = 4 from rfl, show (2 : Int) ^ 3 = 8 from rfl, show (2 : Int) ^ 4 = 16 from rfl, show (2 : Int) ^ 5 = 32 from rfl, show (2 : Int) ^ 6 = 64 from rfl, show (2 : Int) ^ 7 = 128 from rfl, show (2 : Int) ^ 8 = 256 from rfl, show (2 : Int) ^ 9 = 512 from rfl, show (2 : Int) ^ 10 = 1024 from rfl, show (2 : Int) ^ 11 = 2048 from rfl, show (2 : Int) ^ 12 = 4096 from rfl, show (2 : Int) ^ 13 = 8192 from rfl, show (2 : Int) ^ 14 = 16384 from rfl, show (2 : Int) ^ 15 = 32768 from rfl, show (2 : Int) ^ 16 = 65536 from rfl, show (2 : Int) ^ 17 = 131072 from rfl, show (2 : Int) ^ 18 = 262144 from rfl, show (2 : Int) ^ 19 = 524288 from rfl, show (2 : Int) ^ 20 = 1048576 from rfl]
  refine j4e ?_ ?_ ?_ ?_
  all_goals first | rfl | (repeat' split) <;> omega
theorem pPut_4 (d a b i : Int) (h1 : 0 ≤ a ∧ a ≤ 31) (h2 : 0 ≤ b ∧ b ≤ 31) (h3 : -4096 ≤ i ∧ i ≤ 4094 ∧ i % 2 = 0) : pTk 4 (pPut 4 (d, a, b, i)) = true ∧ pPt 4 (pPut 4 (d, a, b, i)) = (0, a, b, i) := by
  obtain ⟨t1, t2⟩ := pTk_4 (pPut 4 (d, a, b, i))
  have g0_7 : pSl 0 7 (pPut 4 (d, a, b, i)) = 99 := pPut_fix 4 0 7 99 (d, a, b, i) (by decide) (by decide) (by decide +kernel)
  have g7_1 : pSl 7 1 (pPut 4 (d, a, b, i)) = pSl 11 1 i := pPut_part 4 7 1 411 (d, a, b, i) (by decide) (by decide) (by decide) (by decide) (by decide +kernel)
  have g8_4 : pSl 8 4 (pPut 4 (d, a, b, i)) = pSl 1 4 i := pPut_part 4 8 4 401 (d, a, b, i) (by decide) (by decide) (by decide) (by decide) (by decide +kernel)
  have g12_3 : pSl 12 3 (pPut 4 (d, a, b, i)) = 0 := pPut_fix 4 12 3 0 (d, a, b, i) (by decide) (by decide) (by decide +kernel)
  have g15_5 : pSl 15 5 (pPut 4 (d, a, b, i)) = pSl 0 5 a := pPut_part 4 15 5 200 (d, a, b, i) (by decide) (by decide) (by decide) (by decide) (by decide +kernel)
  have g20_5 : pSl 20 5 (pPut 4 (d, a, b, i)) = pSl 0 5 b := pPut_part 4 20 5 300 (d, a, b, i) (by decide) (by decide) (by decide) (by decide) (by decide +kernel)
  have g25_6 : pSl 25 6 (pPut 4 (d, a, b, i)) = pSl 5 6 i := pPut_part 4 25 6 405 (d, a, b, i) (by decide) (by decide) (by decide) (by decide) (by decide +kernel)
  have g31_1 : pSl 31 1 (pPut 4 (d, a, b, i)) = pSl 12 1 i := pPut_part 4 31 1 412 (d, a, b, i) (by decide) (by decide) (by decide) (by decide) (by decide +kernel)
  generalize pPut 4 (d, a, b, i) = v at *
  have t : pTk 4 v = true := by
    refine t1.mpr ?_
    repeat' refine And.intro ?_ ?_
    all_goals first | assumption | (simp only [g0_7, g7_1, g8_4, g12_3, g15_5, g20_5, g25_6, g31_1]; simp only [sxt_6, sxt_9, sxt_10, sxt_12, sxt_13, sxt_21, pSl, show (2 : Int) ^ 0 = 1 from rfl, show (2 : Int) ^ 1 = 2 from rfl, show (2 : Int) ^ 2 = 4 from rfl, show (2 : Int) ^ 3 = 8 from rfl, show (2 : Int) ^ 4 = 16 from rfl, show (2 : Int) ^ 5 = 32 from rfl, show (2 : Int) ^ 6 = 64 from rfl, show (2 : Int) ^ 7 = 128 from rfl, show (2 : Int) ^ 8 = 256 from rfl, show (2 : Int) ^ 9 = 512 from rfl, show (2 : Int) ^ 10 = 1024 from rfl, show (2 : Int) ^ 11 = 2048 from rfl, show (2 : Int) ^ 12 = 4096 from rfl, show (2 : Int) ^ 13 = 8192 from rfl, show (2 : Int) ^ 14 = 16384 from rfl, show (2 : Int) ^ 15 = 32768 from rfl, show (2 : Int) ^ 16 = 65536 from rfl, show (2 : Int) ^ 17 = 131072 from rfl, show (2 : Int) ^ 18 = 262144 from rfl, show (2 : Int) ^ 19 = 524288 from rfl, show (2 : Int) ^ 20 = 1048576 from rfl]; repeat' split) <;> omega
  refine ⟨t, (t2 t).trans ?_⟩
  simp only [g0_7, g7_1, g8_4, g12_3, g15_5, g20_5, g25_6, g31_1]
  simp only [sxt_6, sxt_9, sxt_10, sxt_12, sxt_13, sxt_21, pSl, show (2 : Int) ^ 0 = 1 from rfl, show (2 : Int) ^ 1 = 2 from rfl, show (2 : Int) ^ 2 = 4 from rfl, show (2 : Int) ^ 3 = 8 from rfl, show (2 : Int) ^ 4 = 16 from rfl, show (2 : Int) ^ 5 = 32 from rfl, show (2 : Int) ^ 6 = 64 from rfl, show (2 : Int) ^ 7 = 128 from rfl, show (2 : Int) ^ 8 = 256 from rfl, show (2 : Int) ^ 9 = 512 from rfl, show (2 : Int) ^ 10 = 1024 from rfl, show (2 : Int) ^ 11 = 2048 from rfl, show (2 : Int) ^ 12 = 4096 from rfl, show (2 : Int) ^ 13 = 8192 from rfl, show (2 : Int) ^ 14 = 16384 from rfl, show (2 : Int) ^ 15 = 32768 from rfl, show (2 : Int) ^ 16 = 65536 from rfl, show (2 : Int) ^ 17 = 131072 from rfl, show (2 : Int) ^ 18 = 262144 from rfl, show (2 : Int) ^ 19 = 524288 from rfl, show (2 : Int) ^ 20 = 1048576 from rfl]
  refine j4e ?_ ?_ ?_ ?_
  all_goals first | rfl | (repeat' split) <;> omega
theorem pPut_5 (d a b i : Int) (h1 : 0 ≤ a ∧ a ≤ 31) (h2 : 0 ≤ b ∧ b ≤ 31) (h3 : -4096 ≤ i ∧ i ≤ 4094 ∧ i % 2 = 0) : pTk 5 (pPut 5 (d, a, b, i)) = true ∧ pPt 5 (pPut 5 (d, a, b, i)) = (0, a, b, i) := by
  obtain ⟨t1, t2⟩ := pTk_5 (pPut 5 (d, a, b, i))
  have g0_7 : pSl 0 7 (pPut 5 (d, a, b, i)) = 99 := pPut_fix 5 0 7 99 (d, a, b, i) (by decide) (by decide) (by decide +kernel)
  have g7_1 : pSl 7 1 (pPut 5 (d, a, b, i)) = pSl 11 1 i := pPut_part 5 7 1 411 (d, a, b, i) (by decide) (by decide) (by decide) (by decide) (by decide +kernel)
  have g8_4 : pSl 8 4 (pPut 5 (d, a, b, i)) = pSl 1 4 i := pPut_part 5 8 4 401 (d, a, b, i) (by decide) (by decide) (by decide) (by decide) (by decide +kernel)
  have g12_3 : pSl 12 3 (pPut 5 (d, a, b, i)) = 1 := pPut_fix 5 12 3 1 (d, a, b, i) (by decide) (by decide) (by decide +kernel)
  have g15_5 : pSl 15 5 (pPut 5 (d, a, b, i)) = pSl 0 5 a := pPut_part 5 15 5 200 (d, a, b, i) (by decide) (by decide) (by decide) (by decide) (by decide +kernel)
  have g20_5 : pSl 20 5 (pPut 5 (d, a, b, i)) = pSl 0 5 b := pPut_part 5 20 5 300 (d, a, b, i) (by decide) (by decide) (by decide) (by decide) (by decide +kernel)
  have g25_6 : pSl 25 6 (pPut 5 (d, a, b, i)) = pSl 5 6 i := pPut_part 5 25 6 405 (d, a, b, i) (by decide) (by decide) (by decide) (by decide) (by decide +kernel)
  have g31_1 : pSl 31 1 (pPut 5 (d, a, b, i)) = pSl 12 1 i := pPut_part 5 31 1 412 (d, a, b, i) (by decide) (by decide) (by decide) (by decide) (by decide +kernel)
  generalize pPut 5 (d, a, b, i) = v at *
  have t : pTk 5 v = true := by
    refine t1.mpr ?_
    repeat' refine And.intro ?_ ?_
    all_goals first | assumption | (simp only [g0_7, g7_1, g8_4, g12_3, g15_5, g20_5, g25_6, g31_1]; simp only [sxt_6, sxt_9, sxt_10, sxt_12, sxt_13, sxt_21, pSl, show (2 : Int) ^ 0 = 1 from rfl, show (2 : Int) ^ 1 = 2 from rfl, show (2 : Int) ^ 2 = 4 from rfl, show (2 : Int) ^ 3 = 8 from rfl, show (2 : Int) ^ 4 = 16 from rfl, show (2 : Int) ^ 5 = 32 from rfl, show (2 : Int) ^ 6 = 64 from rfl, show (2 : Int) ^ 7 = 128 from rfl, show (2 : Int) ^ 8 = 256 from rfl, show (2 : Int) ^ 9 = 512 from rfl, show (2 : Int) ^ 10 = 1024 from rfl, show (2 : Int) ^ 11 = 2048 from rfl, show (2 : Int) ^ 12 = 4096 from rfl, show (2 : Int) ^ 13 = 8192 from rfl, show (2 : Int) ^ 14 = 16384 from rfl, show (2 : Int) ^ 15 = 32768 from rfl, show (2 : Int) ^ 16 = 65536 from rfl, show (2 : Int) ^ 17 = 131072 from rfl, show (2 : Int) ^ 18 = 262144 from rfl, show (2 : Int) ^ 19 = 524288 from rfl, show (2 : Int) ^ 20 = 1048576 from rfl]; repeat' split) <;> omega
  refine ⟨t, (t2 t).trans ?_⟩
  simp only [g0_7, g7_1, g8_4, g12_3, g15_5, g20_5, g25_6, g31_1]
  simp only [sxt_6, sxt_9, sxt_10, sxt_12, sxt_13, sxt_21, pSl, show (2 : Int) ^ 0 = 1 from rfl, show (2 : Int) ^ 1 = 2 from rfl, show (2 : Int) ^ 2 = 4 from rfl, show (2 : Int) ^ 3 = 8 from rfl, show (2 : Int) ^ 4 = 16 from rfl, show (2 : Int) ^ 5 = 32 from rfl, show (2 : Int) ^ 6 = 64 from rfl, show (2 : Int) ^ 7 = 128 from rfl, show (2 : Int) ^ 8 = 256 from rfl, show (2 : Int) ^ 9 = 512 from rfl, show (2 : Int) ^ 10 = 1024 from rfl, show (2 : Int) ^ 11 = 2048 from rfl, show (2 : Int) ^ 12 = 4096 from rfl, show (2 : Int) ^ 13 = 8192 from rfl, show (2 : Int) ^ 14 = 16384 from rfl, show (2 : Int) ^ 15 = 32768 from rfl, show (2 : Int) ^ 16 = 65536 from rfl, show (2 : Int) ^ 17 = 131072 from rfl, show (2 : Int) ^ 18 = 262144 from rfl, show (2 : Int) ^ 19 = 524288 from rfl, show (2 : Int) ^ 20 = 1048576 from rfl]
  refine j4e ?_ ?_ ?_ ?_
  all_goals first | rfl | (repeat' split) <;> omega
theorem pPut_6 (d a b i : Int) (h1 : 0 ≤ a ∧ a ≤ 31) (h2 : 0 ≤ b ∧ b ≤ 31) (h3 : -4096 ≤ i ∧ i ≤ 4094 ∧ i % 2 = 0) : pTk 6 (pPut 6 (d, a, b, i)) = true ∧ pPt 6 (pPut 6 (d, a, b, i)) = (0, a, b, i) := by
  obtain ⟨t1, t2⟩ := pTk_6 (pPut 6 (d, a, b, i))
  have g0_7 : pSl 0 7 (pPut 6 (d, a, b, i)) = 99 := pPut_fix 6 0 7 99 (d, a, b, i) (by decide) (by decide) (by decide +kernel)
  have g7_1 : pSl 7 1 (pPut 6 (d, a, b, i)) = pSl 11 1 i := pPut_part 6 7 1 411 (d, a, b, i) (by decide) (by decide) (by decide) (by decide) (by decide +kernel)
  have g8_4 : pSl 8 4 (pPut 6 (d, a, b, i)) = pSl 1 4 i := pPut_part 6 8 4 401 (d, a, b, i) (by decide) (by decide) (by decide) (by decide) (by decide +kernel)
  have g12_3 : pSl 12 3 (pPut 6 (d, a, b, i)) = 4 := pPut_fix 6 12 3 4 (d, a, b, i) (by decide) (by decide) (by decide +kernel)
  have g15_5 : pSl 15 5 (pPut 6 (d, a, b, i)) = pSl 0 5 a := pPut_part 6 15 5 200 (d, a, b, i) (by decide) (by decide) (by decide) (by decide) (by decide +kernel)
  have g20_5 : pSl 20 5 (pPut 6 (d, a, b, i)) = pSl 0 5 b := pPut_part 6 20 5 300 (d, a, b, i) (by decide) (by decide) (by decide) (by decide) (by decide +kernel)
  have g25_6 : pSl 25 6 (pPut 6 (d, a, b, i)) = pSl 5 6 i := pPut_part 6 25 6 405 (d, a, b, i) (by decide) (by decide) (by decide) (by decide) (by decide +kernel)
  have g31_1 : pSl 31 1 (pPut 6 (d, a, b, i)) = pSl 12 1 i := pPut_part 6 31 1 412 (d, a, b, i) (by decide) (by decide) (by decide) (by decide) (by decide +kernel)
  generalize pPut 6 (d, a, b, i) = v at *
  have t : pTk 6 v = true := by
    refine t1.mpr ?_
    repeat' refine And.intro ?_ ?_
    all_goals first | assumption | (simp only [g0_7, g7_1, g8_4, g12_3, g15_5, g20_5, g25_6, g31_1]; simp only [sxt_6, sxt_9, sxt_10, sxt_12, sxt_13, sxt_21, pSl, show (2 : Int) ^ 0 = 1 from rfl, show (2 : Int) ^ 1 = 2 from rfl, show (2 : Int) ^ 2 = 4 from rfl, show (2 : Int) ^ 3 = 8 from rfl, show (2 : Int) ^ 4 = 16 from rfl, show (2 : Int) ^ 5 = 32 from rfl, show (2 : Int) ^ 6 = 64 from rfl, show (2 : Int) ^ 7 = 128 from rfl, show (2 : Int) ^ 8 = 256 from rfl, show (2 : Int) ^ 9 = 512 from rfl, show (2 : Int) ^ 10 = 1024 from rfl, show (2 : Int) ^ 11 = 2048 from rfl, show (2 : Int) ^ 12 = 4096 from rfl, show (2 : Int) ^ 13 = 8192 from rfl, show (2 : Int) ^ 14 = 16384 from rfl, show (2 : Int) ^ 15 = 32768 from rfl, show (2 : Int) ^ 16 = 65536 from rfl, show (2 : Int) ^ 17 = 131072 from rfl, show (2 : Int) ^ 18 = 262144 from rfl, show (2 : Int) ^ 19 = 524288 from rfl, show (2 : Int) ^ 20 = 1048576 from rfl]; repeat' split) <;> omega
  refine ⟨t, (t2 t).trans ?_⟩
  simp only [g0_7, g7_1, g8_4, g12_3, g15_5, g20_5, g25_6, g31_1]
  simp only [sxt_6, sxt_9, sxt_10, sxt_12, sxt_13, sxt_21, pSl, show (2 : Int) ^ 0 = 1 from rfl, show (2 : Int) ^ 1 = 2 from rfl, show (2 : Int) ^ 2 = 4 from rfl, show (2 : Int) ^ 3 = 8 from rfl, show (2 : Int) ^ 4 = 16 from rfl, show (2 : Int) ^ 5 = 32 from rfl, show (2 : Int) ^ 6 = 64 from rfl, show (2 : Int) ^ 7 = 128 from rfl, show (2 : Int) ^ 8 = 256 from rfl, show (2 : Int) ^ 9 = 512 from rfl, show (2 : Int) ^ 10 = 1024 from rfl, show (2 : Int) ^ 11 = 2048 from rfl, show (2 : Int) ^ 12 = 4096 from rfl, show (2 : Int) ^ 13 = 8192 from rfl, show (2 : Int) ^ 14 = 16384 from rfl, show (2 : Int) ^ 15 = 32768 from rfl, show (2 : Int) ^ 16 = 65536 from rfl, show (2 : Int) ^ 17 = 131072 from rfl, show (2 : Int) ^ 18 = 262144 from rfl, show (2 : Int) ^ 19 = 524288 from rfl, show (2 : Int) ^ 20 = 1048576 from rfl]
  refine j4e ?_ ?_ ?_ ?_
  all_goals first | rfl | (repeat' split) <;> omega
theorem pPut_7 (d a b i : Int) (h1 : 0 ≤ a ∧ a ≤ 31) (h2 : 0 ≤ b ∧ b ≤ 31) (h3 : -4096 ≤ i ∧ i ≤ 4094 ∧ i % 2 = 0) : pTk 7 (pPut 7 (d, a, b, i)) = true ∧ pPt 7 (pPut 7 (d, a, b, i)) = (0, a, b, i) := by
  obtain ⟨t1, t2⟩ := pTk_7 (pPut 7 (d, a, b, i))
  have g0_7 : pSl 0 7 (pPut 7 (d, a, b, i)) = 99 := pPut_fix 7 0 7 99 (d, a, b, i) (by decide) (by decide) (by decide +kernel)
  have g7_1 : pSl 7 1 (pPut 7 (d, a, b, i)) = pSl 11 1 i := pPut_part 7 7 1 411 (d, a, b, i) (by decide) (by decide) (by decide) (by decide) (by decide +kernel)
  have g8_4 : pSl 8 4 (pPut 7 (d, a, b, i)) = pSl 1 4 i := pPut_part 7 8 4 401 (d, a, b, i) (by decide) (by decide) (by decide) (by decide) (by decide +kernel)
  have g12_3 : pSl 12 3 (pPut 7 (d, a, b, i)) = 5 := pPut_fix 7 12 3 5 (d, a, b, i) (by decide) (by decide) (by decide +kernel)
  have g15_5 : pSl 15 5 (pPut 7 (d, a, b, i)) = pSl 0 5 a := pPut_part 7 15 5 200 (d, a, b, i) (by decide) (by decide) (by decide) (by decide) (by decide +kernel)
  have g20_5 : pSl 20 5 (pPut 7 (d, a, b, i)) = pSl 0 5 b := pPut_part 7 20 5 300 (d, a, b, i) (by decide) (by decide) (by decide) (by decide) (by decide +kernel)
  have g25_6 : pSl 25 6 (pPut 7 (d, a, b, i)) = pSl 5 6 i := pPut_part 7 25 6 405 (d, a, b, i) (by decide) (by decide) (by decide) (by decide) (by decide +kernel)
  have g31_1 : pSl 31 1 (pPut 7 (d, a, b, i)) = pSl 12 1 i := pPut_part 7 31 1 412 (d, a, b, i) (by decide) (by decide) (by decide) (by decide) (by decide +kernel)
  generalize pPut 7 (d, a, b, i) = v at *
  have t : pTk 7 v = true := by
    refine t1.mpr ?_
    repeat' refine And.intro ?_ ?_
    all_goals first | assumption | (simp only [g0_7, g7_1, g8_4, g12_3, g15_5, g20_5, g25_6, g31_1]; simp only [sxt_6, sxt_9, sxt_10, sxt_12, sxt_13, sxt_21, pSl, show (2 : Int) ^ 0 = 1 from rfl, show (2 : Int) ^ 1 = 2 from rfl, show (2 : Int) ^ 2 = 4 from rfl, show (2 : Int) ^ 3 = 8 from rfl, show (2 : Int) ^ 4 = 16 from rfl, show (2 : Int) ^ 5 = 32 from rfl, show (2 : Int) ^ 6 = 64 from rfl, show (2 : Int) ^ 7 = 128 from rfl, show (2 : Int) ^ 8 = 256 from rfl, show (2 : Int) ^ 9 = 512 from rfl, show (2 : Int) ^ 10 = 1024 from rfl, show (2 : Int) ^ 11 = 2048 from rfl, show (2 : Int) ^ 12 = 4096 from rfl, show (2 : Int) ^ 13 = 8192 from rfl, show (2 : Int) ^ 14 = 16384 from rfl, show (2 : Int) ^ 15 = 32768 from rfl, show (2 : Int) ^ 16 = 65536 from rfl, show (2 : Int) ^ 17 = 131072 from rfl, show (2 : Int) ^ 18 = 262144 from rfl, show (2 : Int) ^ 19 = 524288 from rfl, show (2 : Int) ^ 20 = 1048576 from rfl]; repeat' split) <;> omega
  refine ⟨t, (t2 t).trans ?_⟩
  simp only [g0_7, g7_1, g8_4, g12_3, g15_5, g20_5, g25_6, g31_1]
  simp only [sxt_6, sxt_9, sxt_10, sxt_12, sxt_13, sxt_21, pSl, show (2 : Int) ^ 0 = 1 from rfl, show (2 : Int) ^ 1 = 2 from rfl, show (2 : Int) ^ 2 = 4 from rfl, show (2 : Int) ^ 3 = 8 from rfl, show (2 : Int) ^ 4 = 16 from rfl, show (2 : Int) ^ 5 = 32 from rfl, show (2 : Int) ^ 6 = 64 from rfl, show (2 : Int) ^ 7 = 128 from rfl, show (2 : Int) ^ 8 = 256 from rfl, show (2 : Int) ^ 9 = 512 from rfl, show (2 : Int) ^ 10 = 1024 from rfl, show (2 : Int) ^ 11 = 2048 from rfl, show (2 : Int) ^ 12 = 4096 from rfl, show (2 : Int) ^ 13 = 8192 from rfl, show (2 : Int) ^ 14 = 16384 from rfl, show (2 : Int) ^ 15 = 32768 from rfl, show (2 : Int) ^ 16 = 65536 from rfl, show (2 : Int) ^ 17 = 131072 from rfl, show (2 : Int) ^ 18 = 262144 from rfl, show (2 : Int) ^ 19 = 524288 from rfl, show (2 : Int) ^ 20 = 1048576 from rfl]
  refine j4e ?_ ?_ ?_ ?_
  all_goals first | rfl | (repeat' split) <;> omega
theorem pPut_8 (d a b i : Int) (h1 : 0 ≤ a ∧ a ≤ 31) (h2 : 0 ≤ b ∧ b ≤ 31) (h3 : -4096 ≤ i ∧ i ≤ 4094 ∧ i % 2 = 0) : pTk 8 (pPut 8 (d, a, b, i)) = true ∧ pPt 8 (pPut 8 (d, a, b, i)) = (0, a, b, i) := by
  obtain ⟨t1, t2⟩ := pTk_8 (pPut 8 (d, a, b, i))
  have g0_7 : pSl 0 7 (pPut 8 (d, a, b, i)) = 99 := pPut_fix 8 0 7 99 (d, a, b, i) (by decide) (by decide) (by decide +kernel)
  have g7_1 : pSl 7 1 (pPut 8 (d, a, b, i)) = pSl 11 1 i := pPut_part 8 7 1 411 (d, a, b, i) (by decide) (by decide) (by decide) (by decide) (by decide +kernel)
  have g8_4 : pSl 8 4 (pPut 8 (d, a, b, i)) = pSl 1 4 i := pPut_part 8 8 4 401 (d, a, b, i) (by decide) (by decide) (by decide) (by decide) (by decide +kernel)
  have g12_3 : pSl 12 3 (pPut 8 (d, a, b, i)) = 6 := pPut_fix 8 12 3 6 (d, a, b, i) (by decide) (by decide) (by decide +kernel)
  have g15_5 : pSl 15 5 (pPut 8 (d, a, b, i)) = pSl 0 5 a := pPut_part 8 15 5 200 (d, a, b, i) (by decide) (by decide) (by decide) (by decide) (by decide +kernel)
  have g20_5 : pSl 20 5 (pPut 8 (d, a, b, i)) = pSl 0 5 b := pPut_part 8 20 5 300 (d, a, b, i) (by decide) (by decide) (by decide) (by decide) (by decide +kernel)
  have g25_6 : pSl 25 6 (pPut 8 (d, a, b, i)) = pSl 5 6 i := pPut_part 8 25 6 405 (d, a, b, i) (by decide) (by decide) (by decide) (by decide) (by decide +kernel)
  have g31_1 : pSl 31 1 (pPut 8 (d, a, b, i)) = pSl 12 1 i := pPut_part 8 31 1 412 (d, a, b, i) (by decide) (by decide) (by decide) (by decide) (by decide +kernel)
  generalize pPut 8 (d, a, b, i) = v at *
  have t : pTk 8 v = true := by
    refine t1.mpr ?_
    repeat' refine And.intro ?_ ?_
    all_goals first | assumption | (simp only [g0_7, g7_1, g8_4, g12_3, g15_5, g20_5, g25_6, g31_1]; simp only [sxt_6, sxt_9, sxt_10, sxt_12, sxt_13, sxt_21, pSl, show (2 : Int) ^ 0 = 1 from rfl, show (2 : Int) ^ 1 = 2 from rfl, show (2 : Int) ^ 2 = 4 from rfl, show (2 : Int) ^ 3 = 8 from rfl, show (2 : Int) ^ 4 = 16 from rfl, show (2 : Int) ^ 5 = 32 from rfl, show (2 : Int) ^ 6 = 64 from rfl, show (2 : Int) ^ 7 = 128 from rfl, show (2 : Int) ^ 8 = 256 from rfl, show (2 : Int) ^ 9 = 512 from rfl, show (2 : Int) ^ 10 = 1024 from rfl, show (2 : Int) ^ 11 = 2048 from rfl, show (2 : Int) ^ 12 = 4096 from rfl, show (2 : Int) ^ 13 = 8192 from rfl, show (2 : Int) ^ 14 = 16384 from rfl, show (2 : Int) ^ 15 = 32768 from rfl, show (2 : Int) ^ 16 = 65536 from rfl, show (2 : Int) ^ 17 = 131072 from rfl, show (2 : Int) ^ 18 = 262144 from rfl, show (2 : Int) ^ 19 = 524288 from rfl, show (2 : Int) ^ 20 = 1048576 from rfl]; repeat' split) <;> omega
  refine ⟨t, (t2 t).trans ?_⟩
  simp only [g0_7, g7_1, g8_4, g12_3, g15_5, g20_5, g25_6, g31_1]
  simp only [sxt_6, sxt_9, sxt_10, sxt_12, sxt_13, sxt_21, pSl, show (2 : Int) ^ 0 = 1 from rfl, show (2 : Int) ^ 1 = 2 from rfl, show (2 : Int) ^ 2 = 4 from rfl, show (2 : Int) ^ 3 = 8 from rfl, show (2 : Int) ^ 4 = 16 from rfl, show (2 : Int) ^ 5 = 32 from rfl, show (2 : Int) ^ 6 = 64 from rfl, show (2 : Int) ^ 7 = 128 from rfl, show (2 : Int) ^ 8 = 256 from rfl, show (2 : Int) ^ 9 = 512 from rfl, show (2 : Int) ^ 10 = 1024 from rfl, show (2 : Int) ^ 11 = 2048 from rfl, show (2 : Int) ^ 12 = 4096 from rfl, show (2 : Int) ^ 13 = 8192 from rfl, show (2 : Int) ^ 14 = 16384 from rfl, show (2 : Int) ^ 15 = 32768 from rfl, show (2 : Int) ^ 16 = 65536 from rfl, show (2 : Int) ^ 17 = 131072 from rfl, show (2 : Int) ^ 18 = 262144 from rfl, show (2 : Int) ^ 19 = 524288 from rfl, show (2 : Int) ^ 20 = 1048576 from rfl]
  refine j4e ?_ ?_ ?_ ?_
  all_goals first | rfl | (repeat' split) <;> omega
theorem pPut_9 (d a b i : Int) (h1 : 0 ≤ a ∧ a ≤ 31) (h2 : 0 ≤ b ∧ b ≤ 31) (h3 : -4096 ≤ i ∧ i ≤ 4094 ∧ i % 2 = 0) : pTk 9 (pPut 9 (d, a, b, i)) = true ∧ pPt 9 (pPut 9 (d, a, b, i)) = (0, a, b, i) := by
  obtain ⟨t1, t2⟩ := pTk_9 (pPut 9 (d, a, b, i))
  have g0_7 : pSl 0 7 (pPut 9 (d, a, b, i)) = 99 := pPut_fix 9 0 7 99 (d, a, b, i) (by decide) (by decide) (by decide +kernel)
  have g7_1 : pSl 7 1 (pPut 9 (d, a, b, i)) = pSl 11 1 i := pPut_part 9 7 1 411 (d, a, b, i) (by decide) (by decide) (by decide) (by decide) (by decide +kernel)
  have g8_4 : pSl 8 4 (pPut 9 (d, a, b, i)) = pSl 1 4 i := pPut_part 9 8 4 401 (d, a, b, i) (by decide) (by decide) (by decide) (by decide) (by decide +kernel)
  have g12_3 : pSl 12 3 (pPut 9 (d, a, b, i)) = 7 := pPut_fix 9 12 3 7 (d, a, b, i) (by decide) (by decide) (by decide +kernel)
  have g15_5 : pSl 15 5 (pPut 9 (d, a, b, i)) = pSl 0 5 a := pPut_part 9 15 5 200 (d, a, b, i) (by decide) (by decide) (by decide) (by decide) (by decide +kernel)
  have g20_5 : pSl 20 5 (pPut 9 (d, a, b, i)) = pSl 0 5 b := pPut_part 9 20 5 300 (d, a, b, i) (by decide) (by decide) (by decide) (by decide) (by decide +kernel)
  have g25_6 : pSl 25 6 (pPut 9 (d, a, b, i)) = pSl 5 6 i := pPut_part 9 25 6 405 (d, a, b, i) (by decide) (by decide) (by decide) (by decide) (by decide +kernel)
  have g31_1 : pSl 31 1 (pPut 9 (d, a, b, i)) = pSl 12 1 i := pPut_part 9 31 1 412 (d, a, b, i) (by decide) (by decide) (by decide) (by decide) (by decide +kernel)
  generalize pPut 9 (d, a, b, i) = v at *
  have t : pTk 9 v = true := by
    refine t1.mpr ?_
    repeat' refine And.intro ?_ ?_
    all_goals first | assumption | (simp only [g0_7, g7_1, g8_4, g12_3, g15_5, g20_5, g25_6, g31_1]; simp only [sxt_6, sxt_9, sxt_10, sxt_12, sxt_13, sxt_21, pSl, show (2 : Int) ^ 0 = 1 from rfl, show (2 : Int) ^ 1 = 2 from rfl, show (2 : Int) ^ 2 = 4 from rfl, show (2 : Int) ^ 3 = 8 from rfl, show (2 : Int) ^ 4 = 16 from rfl, show (2 : Int) ^ 5 = 32 from rfl, show (2 : Int) ^ 6 = 64 from rfl, show (2 : Int) ^ 7 = 128 from rfl, show (2 : Int) ^ 8 = 256 from rfl, show (2 : Int) ^ 9 = 512 from rfl, show (2 : Int) ^ 10 = 1024 from rfl, show (2 : Int) ^ 11 = 2048 from rfl, show (2 : Int) ^ 12 = 4096 from rfl, show (2 : Int) ^ 13 = 8192 from rfl, show (2 : Int) ^ 14 = 16384 from rfl, show (2 : Int) ^ 15 = 32768 from rfl, show (2 : Int) ^ 16 = 65536 from rfl, show (2 : Int) ^ 17 = 131072 from rfl, show (2 : Int) ^ 18 = 262144 from rfl, show (2 : Int) ^ 19 = 524288 from rfl, show (2 : Int) ^ 20 = 1048576 from rfl]; repeat' split) <;> omega
  refine ⟨t, (t2 t).trans ?_⟩
  simp only [g0_7, g7_1, g8_4, g12_3, g15_5, g20_5, g25_6, g31_1]
  simp only [sxt_6, sxt_9, sxt_10, sxt_12, sxt_13, sxt_21, pSl, show (2 : Int) ^ 0 = 1 from rfl, show (2 : Int) ^ 1 = 2 from rfl, show (2 : Int) ^ 2 = 4 from rfl, show (2 : Int) ^ 3 = 8 from rfl, show (2 : Int) ^ 4 = 16 from rfl, show (2 : Int) ^ 5 = 32 from rfl, show (2 : Int) ^ 6 = 64 from rfl, show (2 : Int) ^ 7 = 128 from rfl, show (2 : Int) ^ 8 = 256 from rfl, show (2 : Int) ^ 9 = 512 from rfl, show (2 : Int) ^ 10 = 1024 from rfl, show (2 : Int) ^ 11 = 2048 from rfl, show (2 : Int) ^ 12 = 4096 from rfl, show (2 : Int) ^ 13 = 8192 from rfl, show (2 : Int) ^ 14 = 16384 from rfl, show (2 : Int) ^ 15 = 32768 from rfl, show (2 : Int) ^ 16 = 65536 from rfl, show (2 : Int) ^ 17 = 131072 from rfl, show (2 : Int) ^ 18 = 262144 from rfl, show (2 : Int) ^ 19 = 524288 from rfl, show (2 : Int) ^ 20 = 1048576 from rfl]
  refine j4e ?_ ?_ ?_ ?_
  all_goals first | rfl | (repeat' split) <;> omega
theorem pPut_10 (d a b i : Int) (h0 : 0 ≤ d ∧ d ≤ 31) (h1 : 0 ≤ a ∧ a ≤ 31) (h3 : -2048 ≤ i ∧ i ≤ 2047 ∧ i % 1 = 0) : pTk 10 (pPut 10 (d, a, b, i)) = true ∧ pPt 10 (pPut 10 (d, a, b, i)) = (d, a, 0, i) := by
  obtain ⟨t1, t2⟩ := pTk_10 (pPut 10 (d, a, b, i))
  have g0_7 : pSl 0 7 (pPut 10 (d, a, b, i)) = 3 := pPut_fix 10 0 7 3 (d, a, b, i) (by decide) (by decide) (by decide +kernel)
  have g7_5 : pSl 7 5 (pPut 10 (d, a, b, i)) = pSl 0 5 d := pPut_part 10 7 5 100 (d, a, b, i) (by decide) (by decide) (by decide) (by decide) (by decide +kernel)
  have g12_3 : pSl 12 3 (pPut 10 (d, a, b, i)) = 0 := pPut_fix 10 12 3 0 (d, a, b, i) (by decide) (by decide) (by decide +kernel)
  have g15_5 : pSl 15 5 (pPut 10 (d, a, b, i)) = pSl 0 5 a := pPut_part 10 15 5 200 (d, a, b, i) (by decide) (by decide) (by decide) (by decide) (by decide +kernel)
  have g20_12 : pSl 20 12 (pPut 10 (d, a, b, i)) = pSl 0 12 i := pPut_part 10 20 12 400 (d, a, b, i) (by decide) (by decide) (by decide) (by decide) (by decide +kernel)
  generalize pPut 10 (d, a, b, i) = v at *
  have t : pTk 10 v = true := by
    refine t1.mpr ?_
    repeat' refine And.intro ?_ ?_
    all_goals first | assumption | (simp only [g0_7, g7_5, g12_3, g15_5, g20_12]; simp only [sxt_6, sxt_9, sxt_10, sxt_12, sxt_13, sxt_21, pSl, show (2 : Int) ^ 0 = 1 from rfl, show (2 : Int) ^ 1 = 2 from rfl, show (2 : Int) ^ 2 = 4 from rfl, show (2 : Int) ^ 3 = 8 from rfl, show (2 : Int) ^ 4 = 16 from rfl, show (2 : Int) ^ 5 = 32 from rfl, show (2 : Int) ^ 6 = 64 from rfl, show (2 : Int) ^ 7 = 128 from rfl, show (2 : Int) ^ 8 = 256 from rfl, show (2 : Int) ^ 9 = 512 from rfl, show (2 : Int) ^ 10 = 1024 from rfl, show (2 : Int) ^ 11 = 2048 from rfl, show (2 : Int) ^ 12 = 4096 from rfl, show (2 : Int) ^ 13 = 8192 from rfl, show (2 : Int) ^ 14 = 16384 from rfl, show (2 : Int) ^ 15 = 32768 from rfl, show (2 : Int) ^ 16 = 65536 from rfl, show (2 : Int) ^ 17 = 131072 from rfl, show (2 : Int) ^ 18 = 262144 from rfl, show (2 : Int) ^ 19 = 524288 from rfl, show (2 : Int) ^ 20 = 1048576 from rfl]; repeat' split) <;> omega
  refine ⟨t, (t2 t).trans ?_⟩
  simp only [g0_7, g7_5, g12_3, g15_5, g20_12]
  simp only [sxt_6, sxt_9, sxt_10, sxt_12, sxt_13, sxt_21, pSl, show (2 : Int) ^ 0 = 1 from rfl, show (2 : Int) ^ 1 = 2 from rfl, show (2 : Int) ^ 2 = 4 from rfl, show (2 : Int) ^ 3 = 8 from rfl, show (2 : Int) ^ 4 = 16 from rfl, show (2 : Int) ^ 5 = 32 from rfl, show (2 : Int) ^ 6 = 64 from rfl, show (2 : Int) ^ 7 = 128 from rfl, show (2 : Int) ^ 8 = 256 from rfl, show (2 : Int) ^ 9 = 512 from rfl, show (2 : Int) ^ 10 = 1024 from rfl, show (2 : Int) ^ 11 = 2048 from rfl, show (2 : Int) ^ 12 = 4096 from rfl, show (2 : Int) ^ 13 = 8192 from rfl, show (2 : Int) ^ 14 = 16384 from rfl, show (2 : Int) ^ 15 = 32768 from rfl, show (2 : Int) ^ 16 = 65536 from rfl, show (2 : Int) ^ 17 = 131072 from rfl, show (2 : Int) ^ 18 = 262144 from rfl, show (2 : Int) ^ 19 = 524288 from rfl, show (2 : Int) ^ 20 = 1048576 from rfl]
  refine j4e ?_ ?_ ?_ ?_
  all_goals first | rfl | (repeat' split) <;> omega
theorem pPut_11 (d a b i : Int) (h0 : 0 ≤ d ∧ d ≤ 31) (h1 : 0 ≤ a ∧ a ≤ 31) (h3 : -2048 ≤ i ∧ i ≤ 2047 ∧ i % 1 = 0) : pTk 11 (pPut 11 (d, a, b, i)) = true ∧ pPt 11 (pPut 11 (d, a, b, i)) = (d, a, 0, i) := by
  obtain ⟨t1, t2⟩ := pTk_11 (pPut 11 (d, a, b, i))
  have g0_7 : pSl 0 7 (pPut 11 (d, a, b, i)) = 3 := pPut_fix 11 0 7 3 (d, a, b, i) (by decide) (by decide) (by decide +kernel)
  have g7_5 : pSl 7 5 (pPut 11 (d, a, b, i)) = pSl 0 5 d := pPut_part 11 7 5 100 (d, a, b, i) (by decide) (by decide) (by decide) (by decide) (by decide +kernel)
  have g12_3 : pSl 12 3 (pPut 11 (d, a, b, i)) = 1 := pPut_fix 11 12 3 1 (d, a, b, i) (by decide) (by decide) (by decide +kernel)
  have g15_5 : pSl 15 5 (pPut 11 (d, a, b, i)) = pSl 0 5 a := pPut_part 11 15 5 200 (d, a, b, i) (by decide) (by decide) (by decide) (by decide) (by decide +kernel)
  have g20_12 : pSl 20 12 (pPut 11 (d, a, b, i)) = pSl 0 12 i := pPut_part 11 20 12 400 (d, a, b, i) (by decide) (by decide) (by decide) (by decide) (by decide +kernel)
  generalize pPut 11 (d, a, b, i) = v at *
  have t : pTk 11 v = true := by
    refine t1.mpr ?_
    repeat' refine And.intro ?_ ?_
    all_goals first | assumption | (simp only [g0_7, g7_5, g12_3, g15_5, g20_12]; simp only [sxt_6, sxt_9, sxt_10, sxt_12, sxt_13, sxt_21, pSl, show (2 : Int) ^ 0 = 1 from rfl, show (2 : Int) ^ 1 = 2 from rfl, show (2 : Int) ^ 2 = 4 from rfl, show (2 : Int) ^ 3 = 8 from rfl, show (2 : Int) ^ 4 = 16 from rfl, show (2 : Int) ^ 5 = 32 from rfl, show (2 : Int) ^ 6 = 64 from rfl, show (2 : Int) ^ 7 = 128 from rfl, show (2 : Int) ^ 8 = 256 from rfl, show (2 : Int) ^ 9 = 512 from rfl, show (2 : Int) ^ 10 = 1024 from rfl, show (2 : Int) ^ 11 = 2048 from rfl, show (2 : Int) ^ 12 = 4096 from rfl, show (2 : Int) ^ 13 = 8192 from rfl, show (2 : Int) ^ 14 = 16384 from rfl, show (2 : Int) ^ 15 = 32768 from rfl, show (2 : Int) ^ 16 = 65536 from rfl, show (2 : Int) ^ 17 = 131072 from rfl, show (2 : Int) ^ 18 = 262144 from rfl, show (2 : Int) ^ 19 = 524288 from rfl, show (2 : Int) ^ 20 = 1048576 from rfl]; repeat' split) <;> omega
  refine ⟨t, (t2 t).trans ?_⟩
  simp only [g0_7, g7_5, g12_3, g15_5, g20_12]
  simp only [sxt_6, sxt_9, sxt_10, sxt_12, sxt_13, sxt_21, pSl, show (2 : Int) ^ 0 = 1 from rfl, show (2 : Int) ^ 1 = 2 from rfl, show (2 : Int) ^ 2 = 4 from rfl, show (2 : Int) ^ 3 = 8 from rfl, show (2 : Int) ^ 4 = 16 from rfl, show (2 : Int) ^ 5 = 32 from rfl, show (2 : Int) ^ 6 = 64 from rfl, show (2 : Int) ^ 7 = 128 from rfl, show (2 : Int) ^ 8 = 256 from rfl, show (2 : Int) ^ 9 = 512 from rfl, show (2 : Int) ^ 10 = 1024 from rfl, show (2 : Int) ^ 11 = 2048 from rfl, show (2 : Int) ^ 12 = 4096 from rfl, show (2 : Int) ^ 13 = 8192 from rfl, show (2 : Int) ^ 14 = 16384 from rfl, show (2 : Int) ^ 15 = 32768 from rfl, show (2 : Int) ^ 16 = 65536 from rfl, show (2 : Int) ^ 17 = 131072 from rfl, show (2 : Int) ^ 18 = 262144 from rfl, show (2 : Int) ^ 19 = 524288 from rfl, show (2 : Int) ^ 20 = 1048576 from rfl]
  refine j4e ?_ ?_ ?_ ?_
  all_goals first | rfl | (repeat' split) <;> omega
theorem pPut_12 (d a b i : Int) (h0 : 0 ≤ d ∧ d ≤ 31) (h1 : 0 ≤ a ∧ a ≤ 31) (h3 : -2048 ≤ i ∧ i ≤ 2047 ∧ i % 1 = 0) : pTk 12 (pPut 12 (d, a, b, i)) = true ∧ pPt 12 (pPut 12 (d, a, b, i)) = (d, a, 0, i) := by
  obtain ⟨t1, t2⟩ := pTk_12 (pPut 12 (d, a, b, i))
  have g0_7 : pSl 0 7 (pPut 12 (d, a, b, i)) = 3 := pPut_fix 12 0 7 3 (d, a, b, i) (by decide) (by decide) (by decide +kernel)
  have g7_5 : pSl 7 5 (pPut 12 (d, a, b, i)) = pSl 0 5 d := pPut_part 12 7 5 100 (d, a, b, i) (by decide) (by decide) (by decide) (by decide) (by decide +kernel)
  have g12_3 : pSl 12 3 (pPut 12 (d, a, b, i)) = 2 := pPut_fix 12 12 3 2 (d, a, b, i) (by decide) (by decide) (by decide +kernel)
  have g15_5 : pSl 15 5 (pPut 12 (d, a, b, i)) = pSl 0 5 a := pPut_part 12 15 5 200 (d, a, b, i) (by decide) (by decide) (by decide) (by decide) (by decide +kernel)
  have g20_12 : pSl 20 12 (pPut 12 (d, a, b, i)) = pSl 0 12 i := pPut_part 12 20 12 400 (d, a, b, i) (by decide) (by decide) (by decide) (by decide) (by decide +kernel)
  generalize pPut 12 (d, a, b, i) = v at *
  have t : pTk 12 v = true := by
    refine t1.mpr ?_
    repeat' refine And.intro ?_ ?_
    all_goals first | assumption | (simp only [g0_7, g7_5, g12_3, g15_5, g20_12]; simp only [sxt_6, sxt_9, sxt_10, sxt_12, sxt_13, sxt_21, pSl, show (2 : Int) ^ 0 = 1 from rfl, show (2 : Int) ^ 1 = 2 from rfl, show (2 : Int) ^ 2 = 4 from rfl, show (2 : Int) ^ 3 = 8 from rfl, show (2 : Int) ^ 4 = 16 from rfl, show (2 : Int) ^ 5 = 32 from rfl, show (2 : Int) ^ 6 = 64 from rfl, show (2 : Int) ^ 7 = 128 from rfl, show (2 : Int) ^ 8 = 256 from rfl, show (2 : Int) ^ 9 = 512 from rfl, show (2 : Int) ^ 10 = 1024 from rfl, show (2 : Int) ^ 11 = 2048 from rfl, show (2 : Int) ^ 12 = 4096 from rfl, show (2 : Int) ^ 13 = 8192 from rfl, show (2 : Int) ^ 14 = 16384 from rfl, show (2 : Int) ^ 15 = 32768 from rfl, show (2 : Int) ^ 16 = 65536 from rfl, show (2 : Int) ^ 17 = 131072 from rfl, show (2 : Int) ^ 18 = 262144 from rfl, show (2 : Int) ^ 19 = 524288 from rfl, show (2 : Int) ^ 20 = 1048576 from rfl]; repeat' split) <;> omega
  refine ⟨t, (t2 t).trans ?_⟩
  simp only [g0_7, g7_5, g12_3, g15_5, g20_12]
  simp only [sxt_6, sxt_9, sxt_10, sxt_12, sxt_13, sxt_21, pSl, show (2 : Int) ^ 0 = 1 from rfl, show (2 : Int) ^ 1 = 2 from rfl, show (2 : Int) ^ 2 = 4 from rfl, show (2 : Int) ^ 3 = 8 from rfl, show (2 : Int) ^ 4 = 16 from rfl, show (2 : Int) ^ 5 = 32 from rfl, show (2 : Int) ^ 6 = 64 from rfl, show (2 : Int) ^ 7 = 128 from rfl, show (2 : Int) ^ 8 = 256 from rfl, show (2 : Int) ^ 9 = 512 from rfl, show (2 : Int) ^ 10 = 1024 from rfl, show (2 : Int) ^ 11 = 2048 from rfl, show (2 : Int) ^ 12 = 4096 from rfl, show (2 : Int) ^ 13 = 8192 from rfl, show (2 : Int) ^ 14 = 16384 from rfl, show (2 : Int) ^ 15 = 32768 from rfl, show (2 : Int) ^ 16 = 65536 from rfl, show (2 : Int) ^ 17 = 131072 from rfl, show (2 : Int) ^ 18 = 262144 from rfl, show (2 : Int) ^ 19 = 524288 from rfl, show (2 : Int) ^ 20 = 1048576 from rfl]
  refine j4e ?_ ?_ ?_ ?_
  all_goals first | rfl | (repeat' split) <;> omega
theorem pPut_13 (d a b i : Int) (h0 : 0 ≤ d ∧ d ≤ 31) (h1 : 0 ≤ a ∧ a ≤ 31) (h3 : -2048 ≤ i ∧ i ≤ 2047 ∧ i % 1 = 0) : pTk 13 (pPut 13 (d, a, b, i)) = true ∧ pPt 13 (pPut 13 (d, a, b, i)) = (d, a, 0, i) := by
  obtain ⟨t1, t2⟩ := pTk_13 (pPut 13 (d, a, b, i))
  have g0_7 : pSl 0 7 (pPut 13 (d, a, b, i)) = 3 := pPut_fix 13 0 7 3 (d, a, b, i) (by decide) (by decide) (by decide +kernel)
  have g7_5 : pSl 7 5 (pPut 13 (d, a, b, i)) = pSl 0 5 d := pPut_part 13 7 5 100 (d, a, b, i) (by decide) (by decide) (by decide) (by decide) (by decide +kernel)
  have g12_3 : pSl 12 3 (pPut 13 (d, a, b, i)) = 4 := pPut_fix 13 12 3 4 (d, a, b, i) (by decide) (by decide) (by decide +kernel)
  have g15_5 : pSl 15 5 (pPut 13 (d, a, b, i)) = pSl 0 5 a := pPut_part 13 15 5 200 (d, a, b, i) (by decide) (by decide) (by decide) (by decide) (by decide +kernel)
  have g20_12 : pSl 20 12 (pPut 13 (d, a, b, i)) = pSl 0 12 i := pPut_part 13 20 12 400 (d, a, b, i) (by decide) (by decide) (by decide) (by decide) (by decide +kernel)
  generalize pPut 13 (d, a, b, i) = v at *
  have t : pTk 13 v = true := by
    refine t1.mpr ?_
    repeat' refine And.intro ?_ ?_
    all_goals first | assumption | (simp only [g0_7, g7_5, g12_3, g15_5, g20_12]; simp only [sxt_6, sxt_9, sxt_10, sxt_12, sxt_13, sxt_21, pSl, show (2 : Int) ^ 0 = 1 from rfl, show (2 : Int) ^ 1 = 2 from rfl, show (2 : Int) ^ 2 = 4 from rfl, show (2 : Int) ^ 3 = 8 from rfl, show (2 : Int) ^ 4 = 16 from rfl, show (2 : Int) ^ 5 = 32 from rfl, show (2 : Int) ^ 6 = 64 from rfl, show (2 : Int) ^ 7 = 128 from rfl, show (2 : Int) ^ 8 = 256 from rfl, show (2 : Int) ^ 9 = 512 from rfl, show (2 : Int) ^ 10 = 1024 from rfl, show (2 : Int) ^ 11 = 2048 from rfl, show (2 : Int) ^ 12 = 4096 from rfl, show (2 : Int) ^ 13 = 8192 from rfl, show (2 : Int) ^ 14 = 16384 from rfl, show (2 : Int) ^ 15 = 32768 from rfl, show (2 : Int) ^ 16 = 65536 from rfl, show (2 : Int) ^ 17 = 131072 from rfl, show (2 : Int) ^ 18 = 262144 from rfl, show (2 : Int) ^ 19 = 524288 from rfl, show (2 : Int) ^ 20 = 1048576 from rfl]; repeat' split) <;> omega
  refine ⟨t, (t2 t).trans ?_⟩
  simp only [g0_7, g7_5, g12_3, g15_5, g20_12]
  simp only [sxt_6, sxt_9, sxt_10, sxt_12, sxt_13, sxt_21, pSl, show (2 : Int) ^ 0 = 1 from rfl, show (2 : Int) ^ 1 = 2 from rfl, show (2 : Int) ^ 2 = 4 from rfl, show (2 : Int) ^ 3 = 8 from rfl, show (2 : Int) ^ 4 = 16 from rfl, show (2 : Int) ^ 5 = 32 from rfl, show (2 : Int) ^ 6 = 64 from rfl, show (2 : Int) ^ 7 = 128 from rfl, show (2 : Int) ^ 8 = 256 from rfl, show (2 : Int) ^ 9 = 512 from rfl, show (2 : Int) ^ 10 = 1024 from rfl, show (2 : Int) ^ 11 = 2048 from rfl, show (2 : Int) ^ 12 = 4096 from rfl, show (2 : Int) ^ 13 = 8192 from rfl, show (2 : Int) ^ 14 = 16384 from rfl, show (2 : Int) ^ 15 = 32768 from rfl, show (2 : Int) ^ 16 = 65536 from rfl, show (2 : Int) ^ 17 = 131072 from rfl, show (2 : Int) ^ 18 = 262144 from rfl, show (2 : Int) ^ 19 = 524288 from rfl, show (2 : Int) ^ 20 = 1048576 from rfl]
  refine j4e ?_ ?_ ?_ ?_
  all_goals first | rfl | (repeat' split) <;> omega
theorem pPut_14 (d a b i : Int) (h0 : 0 ≤ d ∧ d ≤ 31) (h1 : 0 ≤ a ∧ a ≤ 31) (h3 : -2048 ≤ i ∧ i ≤ 2047 ∧ i % 1 = 0) : pTk 14 (pPut 14 (d, a, b, i)) = true ∧ pPt 14 (pPut 14 (d, a, b, i)) = (d, a, 0, i) := by
  obtain ⟨t1, t2⟩ := pTk_14 (pPut 14 (d, a, b, i))
  have g0_7 : pSl 0 7 (pPut 14 (d, a, b, i)) = 3 := pPut_fix 14 0 7 3 (d, a, b, i) (by decide) (by decide) (by decide +kernel)
  have g7_5 : pSl 7 5 (pPut 14 (d, a, b, i)) = pSl 0 5 d := pPut_part 14 7 5 100 (d, a, b, i) (by decide) (by decide) (by decide) (by decide) (by decide +kernel)
  have g12_3 : pSl 12 3 (pPut 14 (d, a, b, i)) = 5 := pPut_fix 14 12 3 5 (d, a, b, i) (by decide) (by decide) (by decide +kernel)
  have g15_5 : pSl 15 5 (pPut 14 (d, a, b, i)) = pSl 0 5 a := pPut_part 14 15 5 200 (d, a, b, i) (by decide) (by decide) (by decide) (by decide) (by decide +kernel)
  have g20_12 : pSl 20 12 (pPut 14 (d, a, b, i)) = pSl 0 12 i := pPut_part 14 20 12 400 (d, a, b, i) (by decide) (by decide) (by decide) (by decide) (by decide +kernel)
  generalize pPut 14 (d, a, b, i) = v at *
  have t : pTk 14 v = true := by
    refine t1.mpr ?_
    repeat' refine And.intro ?_ ?_
    all_goals first | assumption | (simp only [g0_7, g7_5, g12_3, g15_5, g20_12]; simp only [sxt_6, sxt_9, sxt_10, sxt_12, sxt_13, sxt_21, pSl, show (2 : Int) ^ 0 = 1 from rfl, show (2 : Int) ^ 1 = 2 from rfl, show (2 : Int) ^ 2 = 4 from rfl, show (2 : Int) ^ 3 = 8 from rfl, show (2 : Int) ^ 4 = 16 from rfl, show (2 : Int) ^ 5 = 32 from rfl, show (2 : Int) ^ 6 = 64 from rfl, show (2 : Int) ^ 7 = 128 from rfl, show (2 : Int) ^ 8 = 256 from rfl, show (2 : Int) ^ 9 = 512 from rfl, show (2 : Int) ^ 10 = 1024 from rfl, show (2 : Int) ^ 11 = 2048 from rfl, show (2 : Int) ^ 12 = 4096 from rfl, show (2 : Int) ^ 13 = 8192 from rfl, show (2 : Int) ^ 14 = 16384 from rfl, show (2 : Int) ^ 15 = 32768 from rfl, show (2 : Int) ^ 16 = 65536 from rfl, show (2 : Int) ^ 17 = 131072 from rfl, show (2 : Int) ^ 18 = 262144 from rfl, show (2 : Int) ^ 19 = 524288 from rfl, show (2 : Int) ^ 20 = 1048576 from rfl]; repeat' split) <;> omega
  refine ⟨t, (t2 t).trans ?_⟩
  simp only [g0_7, g7_5, g12_3, g15_5, g20_12]
  simp only [sxt_6, sxt_9, sxt_10, sxt_12, sxt_13, sxt_21, pSl, show (2 : Int) ^ 0 = 1 from rfl, show (2 : Int) ^ 1 = 2 from rfl, show (2 : Int) ^ 2 = 4 from rfl, show (2 : Int) ^ 3 = 8 from rfl, show (2 : Int) ^ 4 = 16 from rfl, show (2 : Int) ^ 5 = 32 from rfl, show (2 : Int) ^ 6 = 64 from rfl, show (2 : Int) ^ 7 = 128 from rfl, show (2 : Int) ^ 8 = 256 from rfl, show (2 : Int) ^ 9 = 512 from rfl, show (2 : Int) ^ 10 = 1024 from rfl, show (2 : Int) ^ 11 = 2048 from rfl, show (2 : Int) ^ 12 = 4096 from rfl, show (2 : Int) ^ 13 = 8192 from rfl, show (2 : Int) ^ 14 = 16384 from rfl, show (2 : Int) ^ 15 = 32768 from rfl, show (2 : Int) ^ 16 = 65536 from rfl, show (2 : Int) ^ 17 = 131072 from rfl, show (2 : Int) ^ 18 = 262144 from rfl, show (2 : Int) ^ 19 = 524288 from rfl, show (2 : Int) ^ 20 = 1048576 from rfl]
  refine j4e ?_ ?_ ?_ ?_
  all_goals first | rfl | (repeat' split) <;> omega
theorem pPut_15 (d a b i : Int) (h1 : 0 ≤ a ∧ a ≤ 31) (h2 : 0 ≤ b ∧ b ≤ 31) (h3 : -2048 ≤ i ∧ i ≤ 2047 ∧ i % 1 = 0) : pTk 15 (pPut 15 (d, a, b, i)) = true ∧ pPt 15 (pPut 15 (d, a, b, i)) = (0, a, b, i) := by
  obtain ⟨t1, t2⟩ := pTk_15 (pPut 15 (d, a, b, i))
  have g0_7 : pSl 0 7 (pPut 15 (d, a, b, i)) = 35 := pPut_fix 15 0 7 35 (d, a, b, i) (by decide) (by decide) (by decide +kernel)
  have g7_5 : pSl 7 5 (pPut 15 (d, a, b, i)) = pSl 0 5 i := pPut_part 15 7 5 400 (d, a, b, i) (by decide) (by decide) (by decide) (by decide) (by decide +kernel)
  have g12_3 : pSl 12 3 (pPut 15 (d, a, b, i)) = 0 := pPut_fix 15 12 3 0 (d, a, b, i) (by decide) (by decide) (by decide +kernel)
  have g15_5 : pSl 15 5 (pPut 15 (d, a, b, i)) = pSl 0 5 a := pPut_part 15 15 5 200 (d, a, b, i) (by decide) (by decide) (by decide) (by decide) (by decide +kernel)
  have g20_5 : pSl 20 5 (pPut 15 (d, a, b, i)) = pSl 0 5 b := pPut_part 15 20 5 300 (d, a, b, i) (by decide) (by decide) (by decide) (by decide) (by decide +kernel)
  have g25_7 : pSl 25 7 (pPut 15 (d, a, b, i)) = pSl 5 7 i := pPut_part 15 25 7 405 (d, a, b, i) (by decide) (by decide) (by decide) (by decide) (by decide +kernel)
  generalize pPut 15 (d, a, b, i) = v at *
  have t : pTk 15 v = true := by
    refine t1.mpr ?_
    repeat' refine And.intro ?_ ?_
    all_goals first | assumption | (simp only [g0_7, g7_5, g12_3, g15_5, g20_5, g25_7]; simp only [sxt_6, sxt_9, sxt_10, sxt_12, sxt_13, sxt_21, pSl, show (2 : Int) ^ 0 = 1 from rfl, show (2 : Int) ^ 1 = 2 from rfl, show (2 : Int) ^ 2 = 4 from rfl, show (2 : Int) ^ 3 = 8 from rfl, show (2 : Int) ^ 4 = 16 from rfl, show (2 : Int) ^ 5 = 32 from rfl, show (2 : Int) ^ 6 = 64 from rfl, show (2 : Int) ^ 7 = 128 from rfl, show (2 : Int) ^ 8 = 256 from rfl, show (2 : Int) ^ 9 = 512 from rfl, show (2 : Int) ^ 10 = 1024 from rfl, show (2 : Int) ^ 11 = 2048 from rfl, show (2 : Int) ^ 12 = 4096 from rfl, show (2 : Int) ^ 13 = 8192 from rfl, show (2 : Int) ^ 14 = 16384 from rfl, show (2 : Int) ^ 15 = 32768 from rfl, show (2 : Int) ^ 16 = 65536 from rfl, show (2 : Int) ^ 17 = 131072 from rfl, show (2 : Int) ^ 18 = 262144 from rfl, show (2 : Int) ^ 19 = 524288 from rfl, show (2 : Int) ^ 20 = 1048576 from rfl]; repeat' split) <;> omega
  refine ⟨t, (t2 t).trans ?_⟩
  simp only [g0_7, g7_5, g12_3, g15_5, g20_5, g25_7]
  simp only [sxt_6, sxt_9, sxt_10, sxt_12, sxt_13, sxt_21, pSl, show (2 : Int) ^ 0 = 1 from rfl, show (2 : Int) ^ 1 = 2 from rfl, show (2 : Int) ^ 2 = 4 from rfl, show (2 : Int) ^ 3 = 8 from rfl, show (2 : Int) ^ 4 = 16 from rfl, show (2 : Int) ^ 5 = 32 from rfl, show (2 : Int) ^ 6 = 64 from rfl, show (2 : Int) ^ 7 = 128 from rfl, show (2 : Int) ^ 8 = 256 from rfl, show (2 : Int) ^ 9 = 512 from rfl, show (2 : Int) ^ 10 = 1024 from rfl, show (2 : Int) ^ 11 = 2048 from rfl, show (2 : Int) ^ 12 = 4096 from rfl, show (2 : Int) ^ 13 = 8192 from rfl, show (2 : Int) ^ 14 = 16384 from rfl, show (2 : Int) ^ 15 = 32768 from rfl, show (2 : Int) ^ 16 = 65536 from rfl, show (2 : Int) ^ 17 = 131072 from rfl, show (2 : Int) ^ 18 = 262144 from rfl, show (2 : Int) ^ 19 = 524288 from rfl, show (2 : Int) ^ 20 = 1048576 from rfl]
  refine j4e ?_ ?_ ?_ ?_
  all_goals first | rfl | (repeat' split) <;> omega
theorem pPut_16 (d a b i : Int) (h1 : 0 ≤ a ∧ a ≤ 31) (h2 : 0 ≤ b ∧ b ≤ 31) (h3 : -2048 ≤ i ∧ i ≤ 2047 ∧ i % 1 = 0) : pTk 16 (pPut 16 (d, a, b, i)) = true ∧ pPt 16 (pPut 16 (d, a, b, i)) = (0, a, b, i) := by
  obtain ⟨t1, t2⟩ := pTk_16 (pPut 16 (d, a, b, i))
  have g0_7 : pSl 0 7 (pPut 16 (d, a, b, i)) = 35 := pPut_fix 16 0 7 35 (d, a, b, i) (by decide) (by decide) (by decide +kernel)
  have g7_5 : pSl 7 5 (pPut 16 (d, a, b, i)) = pSl 0 5 i := pPut_part 16 7 5 400 (d, a, b, i) (by decide) (by decide) (by decide) (by decide) (by decide +kernel)
  have g12_3 : pSl 12 3 (pPut 16 (d, a, b, i)) = 1 := pPut_fix 16 12 3 1 (d, a, b, i) (by decide) (by decide) (by decide +kernel)
  have g15_5 : pSl 15 5 (pPut 16 (d, a, b, i)) = pSl 0 5 a := pPut_part 16 15 5 200 (d, a, b, i) (by decide) (by decide) (by decide) (by decide) (by decide +kernel)
  have g20_5 : pSl 20 5 (pPut 16 (d, a, b, i)) = pSl 0 5 b := pPut_part 16 20 5 300 (d, a, b, i) (by decide) (by decide) (by decide) (by decide) (by decide +kernel)
  have g25_7 : pSl 25 7 (pPut 16 (d, a, b, i)) = pSl 5 7 i := pPut_part 16 25 7 405 (d, a, b, i) (by decide) (by decide) (by decide) (by decide) (by decide +kernel)
  generalize pPut 16 (d, a, b, i) = v at *
  have t : pTk 16 v = true := by
    refine t1.mpr ?_
    repeat' refine And.intro ?_ ?_
    all_goals first | assumption | (simp only [g0_7, g7_5, g12_3, g15_5, g20_5, g25_7]; simp only [sxt_6, sxt_9, sxt_10, sxt_12, sxt_13, sxt_21, pSl, show (2 : Int) ^ 0 = 1 from rfl, show (2 : Int) ^ 1 = 2 from rfl, show (2 : Int) ^ 2 = 4 from rfl, show (2 : Int) ^ 3 = 8 from rfl, show (2 : Int) ^ 4 = 16 from rfl, show (2 : Int) ^ 5 = 32 from rfl, show (2 : Int) ^ 6 = 64 from rfl, show (2 : Int) ^ 7 = 128 from rfl, show (2 : Int) ^ 8 = 256 from rfl, show (2 : Int) ^ 9 = 512 from rfl, show (2 : Int) ^ 10 = 1024 from rfl, show (2 : Int) ^ 11 = 2048 from rfl, show (2 : Int) ^ 12 = 4096 from rfl, show (2 : Int) ^ 13 = 8192 from rfl, show (2 : Int) ^ 14 = 16384 from rfl, show (2 : Int) ^ 15 = 32768 from rfl, show (2 : Int) ^ 16 = 65536 from rfl, show (2 : Int) ^ 17 = 131072 from rfl, show (2 : Int) ^ 18 = 262144 from rfl, show (2 : Int) ^ 19 = 524288 from rfl, show (2 : Int) ^ 20 = 1048576 from rfl]; repeat' split) <;> omega
  refine ⟨t, (t2 t).trans ?_⟩
  simp only [g0_7, g7_5, g12_3, g15_5, g20_5, g25_7]
  simp only [sxt_6, sxt_9, sxt_10, sxt_12, sxt_13, sxt_21, pSl, show (2 : Int) ^ 0 = 1 from rfl, show (2 : Int) ^ 1 = 2 from rfl, show (2 : Int) ^ 2 = 4 from rfl, show (2 : Int) ^ 3 = 8 from rfl, show (2 : Int) ^ 4 = 16 from rfl, show (2 : Int) ^ 5 = 32 from rfl, show (2 : Int) ^ 6 = 64 from rfl, show (2 : Int) ^ 7 = 128 from rfl, show (2 : Int) ^ 8 = 256 from rfl, show (2 : Int) ^ 9 = 512 from rfl, show (2 : Int) ^ 10 = 1024 from rfl, show (2 : Int) ^ 11 = 2048 from rfl, show (2 : Int) ^ 12 = 4096 from rfl, show (2 : Int) ^ 13 = 8192 from rfl, show (2 : Int) ^ 14 = 16384 from rfl, show (2 : Int) ^ 15 = 32768 from rfl, show (2 : Int) ^ 16 = 65536 from rfl, show (2 : Int) ^ 17 = 131072 from rfl, show (2 : Int) ^ 18 = 262144 from rfl, show (2 : Int) ^ 19 = 524288 from rfl, show (2 : Int) ^ 20 = 1048576 from rfl]
  refine j4e ?_ ?_ ?_ ?_
  all_goals first | rfl | (repeat' split) <;> omega
theorem pPut_17 (d a b i : Int) (h1 : 0 ≤ a ∧ a ≤ 31) (h2 : 0 ≤ b ∧ b ≤ 31) (h3 : -2048 ≤ i ∧ i ≤ 2047 ∧ i % 1 = 0) : pTk 17 (pPut 17 (d, a, b, i)) = true ∧ pPt 17 (pPut 17 (d, a, b, i)) = (0, a, b, i) := by
  obtain ⟨t1, t2⟩ := pTk_17 (pPut 17 (d, a, b, i))
  have g0_7 : pSl 0 7 (pPut 17 (d, a, b, i)) = 35 := pPut_fix 17 0 7 35 (d, a, b, i) (by decide) (by decide) (by decide +kernel)
  have g7_5 : pSl 7 5 (pPut 17 (d, a, b, i)) = pSl 0 5 i := pPut_part 17 7 5 400 (d, a, b, i) (by decide) (by decide) (by decide) (by decide) (by decide +kernel)
  have g12_3 : pSl 12 3 (pPut 17 (d, a, b, i)) = 2 := pPut_fix 17 12 3 2 (d, a, b, i) (by decide) (by decide) (by decide +kernel)
  have g15_5 : pSl 15 5 (pPut 17 (d, a, b, i)) = pSl 0 5 a := pPut_part 17 15 5 200 (d, a, b, i) (by decide) (by decide) (by decide) (by decide) (by decide +kernel)
  have g20_5 : pSl 20 5 (pPut 17 (d, a, b, i)) = pSl 0 5 b := pPut_part 17 20 5 300 (d, a, b, i) (by decide) (by decide) (by decide) (by decide) (by decide +kernel)
  have g25_7 : pSl 25 7 (pPut 17 (d, a, b, i)) = pSl 5 7 i := pPut_part 17 25 7 405 (d, a, b, i) (by decide) (by decide) (by decide) (by decide) (by decide +kernel)
  generalize pPut 17 (d, a, b, i) = v at *
  have t : pTk 17 v = true := by
    refine t1.mpr ?_
    repeat' refine And.intro ?_ ?_
    all_goals first | assumption | (simp only [g0_7, g7_5, g12_3, g15_5, g20_5, g25_7]; simp only [sxt_6, sxt_9, sxt_10, sxt_12, sxt_13, sxt_21, pSl, show (2 : Int) ^ 0 = 1 from rfl, show (2 : Int) ^ 1 = 2 from rfl, show (2 : Int) ^ 2 = 4 from rfl, show (2 : Int) ^ 3 = 8 from rfl, show (2 : Int) ^ 4 = 16 from rfl, show (2 : Int) ^ 5 = 32 from rfl, show (2 : Int) ^ 6 = 64 from rfl, show (2 : Int) ^ 7 = 128 from rfl, show (2 : Int) ^ 8 = 256 from rfl, show (2 : Int) ^ 9 = 512 from rfl, show (2 : Int) ^ 10 = 1024 from rfl, show (2 : Int) ^ 11 = 2048 from rfl, show (2 : Int) ^ 12 = 4096 from rfl, show (2 : Int) ^ 13 = 8192 from rfl, show (2 : Int) ^ 14 = 16384 from rfl, show (2 : Int) ^ 15 = 32768 from rfl, show (2 : Int) ^ 16 = 65536 from rfl, show (2 : Int) ^ 17 = 131072 from rfl, show (2 : Int) ^ 18 = 262144 from rfl, show (2 : Int) ^ 19 = 524288 from rfl, show (2 : Int) ^ 20 = 1048576 from rfl]; repeat' split) <;> omega
  refine ⟨t, (t2 t).trans ?_⟩
  simp only [g0_7, g7_5, g12_3, g15_5, g20_5, g25_7]
  simp only [sxt_6, sxt_9, sxt_10, sxt_12, sxt_13, sxt_21, pSl, show (2 : Int) ^ 0 = 1 from rfl, show (2 : Int) ^ 1 = 2 from rfl, show (2 : Int) ^ 2 = 4 from rfl, show (2 : Int) ^ 3 = 8 from rfl, show (2 : Int) ^ 4 = 16 from rfl, show (2 : Int) ^ 5 = 32 from rfl, show (2 : Int) ^ 6 = 64 from rfl, show (2 : Int) ^ 7 = 128 from rfl, show (2 : Int) ^ 8 = 256 from rfl, show (2 : Int) ^ 9 = 512 from rfl, show (2 : Int) ^ 10 = 1024 from rfl, show (2 : Int) ^ 11 = 2048 from rfl, show (2 : Int) ^ 12 = 4096 from rfl, show (2 : Int) ^ 13 = 8192 from rfl, show (2 : Int) ^ 14 = 16384 from rfl, show (2 : Int) ^ 15 = 32768 from rfl, show (2 : Int) ^ 16 = 65536 from rfl, show (2 : Int) ^ 17 = 131072 from rfl, show (2 : Int) ^ 18 = 262144 from rfl, show (2 : Int) ^ 19 = 524288 from rfl, show (2 : Int) ^ 20 = 1048576 from rfl]
  refine j4e ?_ ?_ ?_ ?_
  all_goals first | rfl | (repeat' split) <;> omega
theorem pPut_18 (d a b i : Int) (h0 : 0 ≤ d ∧ d ≤ 31) (h1 : 0 ≤ a ∧ a ≤ 31) (h3 : -2048 ≤ i ∧ i ≤ 2047 ∧ i % 1 = 0) : pTk 18 (pPut 18 (d, a, b, i)) = true ∧ pPt 18 (pPut 18 (d, a, b, i)) = (d, a, 0, i) := by
  obtain ⟨t1, t2⟩ := pTk_18 (pPut 18 (d, a, b, i))
  have g0_7 : pSl 0 7 (pPut 18 (d, a, b, i)) = 19 := pPut_fix 18 0 7 19 (d, a, b, i) (by decide) (by decide) (by decide +kernel)
  have g7_5 : pSl 7 5 (pPut 18 (d, a, b, i)) = pSl 0 5 d := pPut_part 18 7 5 100 (d, a, b, i) (by decide) (by decide) (by decide) (by decide) (by decide +kernel)
  have g12_3 : pSl 12 3 (pPut 18 (d, a, b, i)) = 0 := pPut_fix 18 12 3 0 (d, a, b, i) (by decide) (by decide) (by decide +kernel)
  have g15_5 : pSl 15 5 (pPut 18 (d, a, b, i)) = pSl 0 5 a := pPut_part 18 15 5 200 (d, a, b, i) (by decide) (by decide) (by decide) (by decide) (by decide +kernel)
  have g20_12 : pSl 20 12 (pPut 18 (d, a, b, i)) = pSl 0 12 i := pPut_part 18 20 12 400 (d, a, b, i) (by decide) (by decide) (by decide) (by decide) (by decide +kernel)
  generalize pPut 18 (d, a, b, i) = v at *
  have t : pTk 18 v = true := by
    refine t1.mpr ?_
    repeat' refine And.intro ?_ ?_
    all_goals first | assumption | (simp only [g0_7, g7_5, g12_3, g15_5, g20_12]; simp only [sxt_6, sxt_9, sxt_10, sxt_12, sxt_13, sxt_21, pSl, show (2 : Int) ^ 0 = 1 from rfl, show (2 : Int) ^ 1 = 2 from rfl, show (2 : Int) ^ 2 = 4 from rfl, show (2 : Int) ^ 3 = 8 from rfl, show (2 : Int) ^ 4 = 16 from rfl, show (2 : Int) ^ 5 = 32 from rfl, show (2 : Int) ^ 6 = 64 from rfl, show (2 : Int) ^ 7 = 128 from rfl, show (2 : Int) ^ 8 = 256 from rfl, show (2 : Int) ^ 9 = 512 from rfl, show (2 : Int) ^ 10 = 1024 from rfl, show (2 : Int) ^ 11 = 2048 from rfl, show (2 : Int) ^ 12 = 4096 from rfl, show (2 : Int) ^ 13 = 8192 from rfl, show (2 : Int) ^ 14 = 16384 from rfl, show (2 : Int) ^ 15 = 32768 from rfl, show (2 : Int) ^ 16 = 65536 from rfl, show (2 : Int) ^ 17 = 131072 from rfl, show (2 : Int) ^ 18 = 262144 from rfl, show (2 : Int) ^ 19 = 524288 from rfl, show (2 : Int) ^ 20 = 1048576 from rfl]; repeat' split) <;> omega
  refine ⟨t, (t2 t).trans ?_⟩
  simp only [g0_7, g7_5, g12_3, g15_5, g20_12]
  simp only [sxt_6, sxt_9, sxt_10, sxt_12, sxt_13, sxt_21, pSl, show (2 : Int) ^ 0 = 1 from rfl, show (2 : Int) ^ 1 = 2 from rfl, show (2 : Int) ^ 2 = 4 from rfl, show (2 : Int) ^ 3 = 8 from rfl, show (2 : Int) ^ 4 = 16 from rfl, show (2 : Int) ^ 5 = 32 from rfl, show (2 : Int) ^ 6 = 64 from rfl, show (2 : Int) ^ 7 = 128 from rfl, show (2 : Int) ^ 8 = 256 from rfl, show (2 : Int) ^ 9 = 512 from rfl, show (2 : Int) ^ 10 = 1024 from rfl, show (2 : Int) ^ 11 = 2048 from rfl, show (2 : Int) ^ 12 = 4096 from rfl, show (2 : Int) ^ 13 = 8192 from rfl, show (2 : Int) ^ 14 = 16384 from rfl, show (2 : Int) ^ 15 = 32768 from rfl, show (2 : Int) ^ 16 = 65536 from rfl, show (2 : Int) ^ 17 = 131072 from rfl, show (2 : Int) ^ 18 = 262144 from rfl, show (2 : Int) ^ 19 = 524288 from rfl, show (2 : Int) ^ 20 = 1048576 from rfl]
  refine j4e ?_ ?_ ?_ ?_
  all_goals first | rfl | (repeat' split) <;> omega
theorem pPut_19 (d a b i : Int) (h0 : 0 ≤ d ∧ d ≤ 31) (h1 : 0 ≤ a ∧ a ≤ 31) (h3 : -2048 ≤ i ∧ i ≤ 2047 ∧ i % 1 = 0) : pTk 19 (pPut 19 (d, a, b, i)) = true ∧ pPt 19 (pPut 19 (d, a, b, i)) = (d, a, 0, i) := by
  obtain ⟨t1, t2⟩ := pTk_19 (pPut 19 (d, a, b, i))
  have g0_7 : pSl 0 7 (pPut 19 (d, a, b, i)) = 19 := pPut_fix 19 0 7 19 (d, a, b, i) (by decide) (by decide) (by decide +kernel)
  have g7_5 : pSl 7 5 (pPut 19 (d, a, b, i)) = pSl 0 5 d := pPut_part 19 7 5 100 (d, a, b, i) (by decide) (by decide) (by decide) (by decide) (by decide +kernel)
  have g12_3 : pSl 12 3 (pPut 19 (d, a, b, i)) = 2 := pPut_fix 19 12 3 2 (d, a, b, i) (by decide) (by decide) (by decide +kernel)
  have g15_5 : pSl 15 5 (pPut 19 (d, a, b, i)) = pSl 0 5 a := pPut_part 19 15 5 200 (d, a, b, i) (by decide) (by decide) (by decide) (by decide) (by decide +kernel)
  have g20_12 : pSl 20 12 (pPut 19 (d, a, b, i)) = pSl 0 12 i := pPut_part 19 20 12 400 (d, a, b, i) (by decide) (by decide) (by decide) (by decide) (by decide +kernel)
  generalize pPut 19 (d, a, b, i) = v at *
  have t : pTk 19 v = true := by
    refine t1.mpr ?_
    repeat' refine And.intro ?_ ?_
    all_goals first | assumption | (simp only [g0_7, g7_5, g12_3, g15_5, g20_12]; simp only [sxt_6, sxt_9, sxt_10, sxt_12, sxt_13, sxt_21, pSl, show (2 : Int) ^ 0 = 1 from rfl, show (2 : Int) ^ 1 = 2 from rfl, show (2 : Int) ^ 2 = 4 from rfl, show (2 : Int) ^ 3 = 8 from rfl, show (2 : Int) ^ 4 = 16 from rfl, show (2 : Int) ^ 5 = 32 from rfl, show (2 : Int) ^ 6 = 64 from rfl, show (2 : Int) ^ 7 = 128 from rfl, show (2 : Int) ^ 8 = 256 from rfl, show (2 : Int) ^ 9 = 512 from rfl, show (2 : Int) ^ 10 = 1024 from rfl, show (2 : Int) ^ 11 = 2048 from rfl, show (2 : Int) ^ 12 = 4096 from rfl, show (2 : Int) ^ 13 = 8192 from rfl, show (2 : Int) ^ 14 = 16384 from rfl, show (2 : Int) ^ 15 = 32768 from rfl, show (2 : Int) ^ 16 = 65536 from rfl, show (2 : Int) ^ 17 = 131072 from rfl, show (2 : Int) ^ 18 = 262144 from rfl, show (2 : Int) ^ 19 = 524288 from rfl, show (2 : Int) ^ 20 = 1048576 from rfl]; repeat' split) <;> omega
  refine ⟨t, (t2 t).trans ?_⟩
  simp only [g0_7, g7_5, g12_3, g15_5, g20_12]
  simp only [sxt_6, sxt_9, sxt_10, sxt_12, sxt_13, sxt_21, pSl, show (2 : Int) ^ 0 = 1 from rfl, show (2 : Int) ^ 1 = 2 from rfl, show (2 : Int) ^ 2 = 4 from rfl, show (2 : Int) ^ 3 = 8 from rfl, show (2 : Int) ^ 4 = 16 from rfl, show (2 : Int) ^ 5 = 32 from rfl, show (2 : Int) ^ 6 = 64 from rfl, show (2 : Int) ^ 7 = 128 from rfl, show (2 : Int) ^ 8 = 256 from rfl, show (2 : Int) ^ 9 = 512 from rfl, show (2 : Int) ^ 10 = 1024 from rfl, show (2 : Int) ^ 11 = 2048 from rfl, show (2 : Int) ^ 12 = 4096 from rfl, show (2 : Int) ^ 13 = 8192 from rfl, show (2 : Int) ^ 14 = 16384 from rfl, show (2 : Int) ^ 15 = 32768 from rfl, show (2 : Int) ^ 16 = 65536 from rfl, show (2 : Int) ^ 17 = 131072 from rfl, show (2 : Int) ^ 18 = 262144 from rfl, show (2 : Int) ^ 19 = 524288 from rfl, show (2 : Int) ^ 20 = 1048576 from rfl]
  refine j4e ?_ ?_ ?_ ?_
  all_goals first | rfl | (repeat' split) <;> omega
theorem pPut_20 (d a b i : Int) (h0 : 0 ≤ d ∧ d ≤ 31) (h1 : 0 ≤ a ∧ a ≤ 31) (h3 : -2048 ≤ i ∧ i ≤ 2047 ∧ i % 1 = 0) : pTk 20 (pPut 20 (d, a, b, i)) = true ∧ pPt 20 (pPut 20 (d, a, b, i)) = (d, a, 0, i) := by
  obtain ⟨t1, t2⟩ := pTk_20 (pPut 20 (d, a, b, i))
  have g0_7 : pSl 0 7 (pPut 20 (d, a, b, i)) = 19 := pPut_fix 20 0 7 19 (d, a, b, i) (by decide) (by decide) (by decide +kernel)
  have g7_5 : pSl 7 5 (pPut 20 (d, a, b, i)) = pSl 0 5 d := pPut_part 20 7 5 100 (d, a, b, i) (by decide) (by decide) (by decide) (by decide) (by decide +kernel)
  have g12_3 : pSl 12 3 (pPut 20 (d, a, b, i)) = 3 := pPut_fix 20 12 3 3 (d, a, b, i) (by decide) (by decide) (by decide +kernel)
  have g15_5 : pSl 15 5 (pPut 20 (d, a, b, i)) = pSl 0 5 a := pPut_part 20 15 5 200 (d, a, b, i) (by decide) (by decide) (by decide) (by decide) (by decide +kernel)
  have g20_12 : pSl 20 12 (pPut 20 (d, a, b, i)) = pSl 0 12 i := pPut_part 20 20 12 400 (d, a, b, i) (by decide) (by decide) (by decide) (by decide) (by decide +kernel)
  generalize pPut 20 (d, a, b, i) = v at *
  have t : pTk 20 v = true := by
    refine t1.mpr ?_
    repeat' refine And.intro ?_ ?_
    all_goals first | assumption | (simp only [g0_7, g7_5, g12_3, g15_5, g20_12]; simp only [sxt_6, sxt_9, sxt_10, sxt_12, sxt_13, sxt_21, pSl, show (2 : Int) ^ 0 = 1 from rfl, show (2 : Int) ^ 1 = 2 from rfl, show (2 : Int) ^ 2 = 4 from rfl, show (2 : Int) ^ 3 = 8 from rfl, show (2 : Int) ^ 4 = 16 from rfl, show (2 : Int) ^ 5 = 32 from rfl, show (2 : Int) ^ 6 = 64 from rfl, show (2 : Int) ^ 7 = 128 from rfl, show (2 : Int) ^ 8 = 256 from rfl, show (2 : Int) ^ 9 = 512 from rfl, show (2 : Int) ^ 10 = 1024 from rfl, show (2 : Int) ^ 11 = 2048 from rfl, show (2 : Int) ^ 12 = 4096 from rfl, show (2 : Int) ^ 13 = 8192 from rfl, show (2 : Int) ^ 14 = 16384 from rfl, show (2 : Int) ^ 15 = 32768 from rfl, show (2 : Int) ^ 16 = 65536 from rfl, show (2 : Int) ^ 17 = 131072 from rfl, show (2 : Int) ^ 18 = 262144 from rfl, show (2 : Int) ^ 19 = 524288 from rfl, show (2 : Int) ^ 20 = 1048576 from rfl]; repeat' split) <;> omega
  refine ⟨t, (t2 t).trans ?_⟩
  simp only [g0_7, g7_5, g12_3, g15_5, g20_12]
  simp only [sxt_6, sxt_9, sxt_10, sxt_12, sxt_13, sxt_21, pSl, show (2 : Int) ^ 0 = 1 from rfl, show (2 : Int) ^ 1 = 2 from rfl, show (2 : Int) ^ 2 = 4 from rfl, show (2 : Int) ^ 3 = 8 from rfl, show (2 : Int) ^ 4 = 16 from rfl, show (2 : Int) ^ 5 = 32 from rfl, show (2 : Int) ^ 6 = 64 from rfl, show (2 : Int) ^ 7 = 128 from rfl, show (2 : Int) ^ 8 = 256 from rfl, show (2 : Int) ^ 9 = 512 from rfl, show (2 : Int) ^ 10 = 1024 from rfl, show (2 : Int) ^ 11 = 2048 from rfl, show (2 : Int) ^ 12 = 4096 from rfl, show (2 : Int) ^ 13 = 8192 from rfl, show (2 : Int) ^ 14 = 16384 from rfl, show (2 : Int) ^ 15 = 32768 from rfl, show (2 : Int) ^ 16 = 65536 from rfl, show (2 : Int) ^ 17 = 131072 from rfl, show (2 : Int) ^ 18 = 262144 from rfl, show (2 : Int) ^ 19 = 524288 from rfl, show (2 : Int) ^ 20 = 1048576 from rfl]
  refine j4e ?_ ?_ ?_ ?_
  all_goals first | rfl | (repeat' split) <;> omega
theorem pPut_21 (d a b i : Int) (h0 : 0 ≤ d ∧ d ≤ 31) (h1 : 0 ≤ a ∧ a ≤ 31) (h3 : -2048 ≤ i ∧ i ≤ 2047 ∧ i % 1 = 0) : pTk 21 (pPut 21 (d, a, b, i)) = true ∧ pPt 21 (pPut 21 (d, a, b, i)) = (d, a, 0, i) := by
  obtain ⟨t1, t2⟩ := pTk_21 (pPut 21 (d, a, b, i))
  have g0_7 : pSl 0 7 (pPut 21 (d, a, b, i)) = 19 := pPut_fix 21 0 7 19 (d, a, b, i) (by decide) (by decide) (by decide +kernel)
  have g7_5 : pSl 7 5 (pPut 21 (d, a, b, i)) = pSl 0 5 d := pPut_part 21 7 5 100 (d, a, b, i) (by decide) (by decide) (by decide) (by decide) (by decide +kernel)
  have g12_3 : pSl 12 3 (pPut 21 (d, a, b, i)) = 4 := pPut_fix 21 12 3 4 (d, a, b, i) (by decide) (by decide) (by decide +kernel)
  have g15_5 : pSl 15 5 (pPut 21 (d, a, b, i)) = pSl 0 5 a := pPut_part 21 15 5 200 (d, a, b, i) (by decide) (by decide) (by decide) (by decide) (by decide +kernel)
  have g20_12 : pSl 20 12 (pPut 21 (d, a, b, i)) = pSl 0 12 i := pPut_part 21 20 12 400 (d, a, b, i) (by decide) (by decide) (by decide) (by decide) (by decide +kernel)
  generalize pPut 21 (d, a, b, i) = v at *
  have t : pTk 21 v = true := by
    refine t1.mpr ?_
    repeat' refine And.intro ?_ ?_
    all_goals first | assumption | (simp only [g0_7, g7_5, g12_3, g15_5, g20_12]; simp only [sxt_6, sxt_9, sxt_10, sxt_12, sxt_13, sxt_21, pSl, show (2 : Int) ^ 0 = 1 from rfl, show (2 : Int) ^ 1 = 2 from rfl, show (2 : Int) ^ 2 = 4 from rfl, show (2 : Int) ^ 3 = 8 from rfl, show (2 : Int) ^ 4 = 16 from rfl, show (2 : Int) ^ 5 = 32 from rfl, show (2 : Int) ^ 6 = 64 from rfl, show (2 : Int) ^ 7 = 128 from rfl, show (2 : Int) ^ 8 = 256 from rfl, show (2 : Int) ^ 9 = 512 from rfl, show (2 : Int) ^ 10 = 1024 from rfl, show (2 : Int) ^ 11 = 2048 from rfl, show (2 : Int) ^ 12 = 4096 from rfl, show (2 : Int) ^ 13 = 8192 from rfl, show (2 : Int) ^ 14 = 16384 from rfl, show (2 : Int) ^ 15 = 32768 from rfl, show (2 : Int) ^ 16 = 65536 from rfl, show (2 : Int) ^ 17 = 131072 from rfl, show (2 : Int) ^ 18 = 262144 from rfl, show (2 : Int) ^ 19 = 524288 from rfl, show (2 : Int) ^ 20 = 1048576 from rfl]; repeat' split) <;> omega
  refine ⟨t, (t2 t).trans ?_⟩
  simp only [g0_7, g7_5, g12_3, g15_5, g20_12]
  simp only [sxt_6, sxt_9, sxt_10, sxt_12, sxt_13, sxt_21, pSl, show (2 : Int) ^ 0 = 1 from rfl, show (2 : Int) ^ 1 = 2 from rfl, show (2 : Int) ^ 2 = 4 from rfl, show (2 : Int) ^ 3 = 8 from rfl, show (2 : Int) ^ 4 = 16 from rfl, show (2 : Int) ^ 5 = 32 from rfl, show (2 : Int) ^ 6 = 64 from rfl, show (2 : Int) ^ 7 = 128 from rfl, show (2 : Int) ^ 8 = 256 from rfl, show (2 : Int) ^ 9 = 512 from rfl, show (2 : Int) ^ 10 = 1024 from rfl, show (2 : Int) ^ 11 = 2048 from rfl, show (2 : Int) ^ 12 = 4096 from rfl, show (2 : Int) ^ 13 = 8192 from rfl, show (2 : Int) ^ 14 = 16384 from rfl, show (2 : Int) ^ 15 = 32768 from rfl, show (2 : Int) ^ 16 = 65536 from rfl, show (2 : Int) ^ 17 = 131072 from rfl, show (2 : Int) ^ 18 = 262144 from rfl, show (2 : Int) ^ 19 = 524288 from rfl, show (2 : Int) ^ 20 = 1048576 from rfl]
  refine j4e ?_ ?_ ?_ ?_
  all_goals first | rfl | (repeat' split) <;> omega
theorem pPut_22 (d a b i : Int) (h0 : 0 ≤ d ∧ d ≤ 31) (h1 : 0 ≤ a ∧ a ≤ 31) (h3 : -2048 ≤ i ∧ i ≤ 2047 ∧ i % 1 = 0) : pTk 22 (pPut 22 (d, a, b, i)) = true ∧ pPt 22 (pPut 22 (d, a, b, i)) = (d, a, 0, i) := by
  obtain ⟨t1, t2⟩ := pTk_22 (pPut 22 (d, a, b, i))
  have g0_7 : pSl 0 7 (pPut 22 (d, a, b, i)) = 19 := pPut_fix 22 0 7 19 (d, a, b, i) (by decide) (by decide) (by decide +kernel)
  have g7_5 : pSl 7 5 (pPut 22 (d, a, b, i)) = pSl 0 5 d := pPut_part 22 7 5 100 (d, a, b, i) (by decide) (by decide) (by decide) (by decide) (by decide +kernel)
  have g12_3 : pSl 12 3 (pPut 22 (d, a, b, i)) = 6 := pPut_fix 22 12 3 6 (d, a, b, i) (by decide) (by decide) (by decide +kernel)
  have g15_5 : pSl 15 5 (pPut 22 (d, a, b, i)) = pSl 0 5 a := pPut_part 22 15 5 200 (d, a, b, i) (by decide) (by decide) (by decide) (by decide) (by decide +kernel)
  have g20_12 : pSl 20 12 (pPut 22 (d, a, b, i)) = pSl 0 12 i := pPut_part 22 20 12 400 (d, a, b, i) (by decide) (by decide) (by decide) (by decide) (by decide +kernel)
  generalize pPut 22 (d, a, b, i) = v at *
  have t : pTk 22 v = true := by
    refine t1.mpr ?_
    repeat' refine And.intro ?_ ?_
    all_goals first | assumption | (simp only [g0_7, g7_5, g12_3, g15_5, g20_12]; simp only [sxt_6, sxt_9, sxt_10, sxt_12, sxt_13, sxt_21, pSl, show (2 : Int) ^ 0 = 1 from rfl, show (2 : Int) ^ 1 = 2 from rfl, show (2 : Int) ^ 2 = 4 from rfl, show (2 : Int) ^ 3 = 8 from rfl, show (2 : Int) ^ 4 = 16 from rfl, show (2 : Int) ^ 5 = 32 from rfl, show (2 : Int) ^ 6 = 64 from rfl, show (2 : Int) ^ 7 = 128 from rfl, show (2 : Int) ^ 8 = 256 from rfl, show (2 : Int) ^ 9 = 512 from rfl, show (2 : Int) ^ 10 = 1024 from rfl, show (2 : Int) ^ 11 = 2048 from rfl, show (2 : Int) ^ 12 = 4096 from rfl, show (2 : Int) ^ 13 = 8192 from rfl, show (2 : Int) ^ 14 = 16384 from rfl, show (2 : Int) ^ 15 = 32768 from rfl, show (2 : Int) ^ 16 = 65536 from rfl, show (2 : Int) ^ 17 = 131072 from rfl, show (2 : Int) ^ 18 = 262144 from rfl, show (2 : Int) ^ 19 = 524288 from rfl, show (2 : Int) ^ 20 = 1048576 from rfl]; repeat' split) <;> omega
  refine ⟨t, (t2 t).trans ?_⟩
  simp only [g0_7, g7_5, g12_3, g15_5, g20_12]
  simp only [sxt_6, sxt_9, sxt_10, sxt_12, sxt_13, sxt_21, pSl, show (2 : Int) ^ 0 = 1 from rfl, show (2 : Int) ^ 1 = 2 from rfl, show (2 : Int) ^ 2 = 4 from rfl, show (2 : Int) ^ 3 = 8 from rfl, show (2 : Int) ^ 4 = 16 from rfl, show (2 : Int) ^ 5 = 32 from rfl, show (2 : Int) ^ 6 = 64 from rfl, show (2 : Int) ^ 7 = 128 from rfl, show (2 : Int) ^ 8 = 256 from rfl, show (2 : Int) ^ 9 = 512 from rfl, show (2 : Int) ^ 10 = 1024 from rfl, show (2 : Int) ^ 11 = 2048 from rfl, show (2 : Int) ^ 12 = 4096 from rfl, show (2 : Int) ^ 13 = 8192 from rfl, show (2 : Int) ^ 14 = 16384 from rfl, show (2 : Int) ^ 15 = 32768 from rfl, show (2 : Int) ^ 16 = 65536 from rfl, show (2 : Int) ^ 17 = 131072 from rfl, show (2 : Int) ^ 18 = 262144 from rfl, show (2 : Int) ^ 19 = 524288 from rfl, show (2 : Int) ^ 20 = 1048576 from rfl]
  refine j4e ?_ ?_ ?_ ?_
  all_goals first | rfl | (repeat' split) <;> omega
theorem pPut_23 (d a b i : Int) (h0 : 0 ≤ d ∧ d ≤ 31) (h1 : 0 ≤ a ∧ a ≤ 31) (h3 : -2048 ≤ i ∧ i ≤ 2047 ∧ i % 1 = 0) : pTk 23 (pPut 23 (d, a, b, i)) = true ∧ pPt 23 (pPut 23 (d, a, b, i)) = (d, a, 0, i) := by
  obtain ⟨t1, t2⟩ := pTk_23 (pPut 23 (d, a, b, i))
  have g0_7 : pSl 0 7 (pPut 23 (d, a, b, i)) = 19 := pPut_fix 23 0 7 19 (d, a, b, i) (by decide) (by decide) (by decide +kernel)
  have g7_5 : pSl 7 5 (pPut 23 (d, a, b, i)) = pSl 0 5 d := pPut_part 23 7 5 100 (d, a, b, i) (by decide) (by decide) (by decide) (by decide) (by decide +kernel)
  have g12_3 : pSl 12 3 (pPut 23 (d, a, b, i)) = 7 := pPut_fix 23 12 3 7 (d, a, b, i) (by decide) (by decide) (by decide +kernel)
  have g15_5 : pSl 15 5 (pPut 23 (d, a, b, i)) = pSl 0 5 a := pPut_part 23 15 5 200 (d, a, b, i) (by decide) (by decide) (by decide) (by decide) (by decide +kernel)
  have g20_12 : pSl 20 12 (pPut 23 (d, a, b, i)) = pSl 0 12 i := pPut_part 23 20 12 400 (d, a, b, i) (by decide) (by decide) (by decide) (by decide) (by decide +kernel)
  generalize pPut 23 (d, a, b, i) = v at *
  have t : pTk 23 v = true := by
    refine t1.mpr ?_
    repeat' refine And.intro ?_ ?_
    all_goals first | assumption | (simp only [g0_7, g7_5, g12_3, g15_5, g20_12]; simp only [sxt_6, sxt_9, sxt_10, sxt_12, sxt_13, sxt_21, pSl, show (2 : Int) ^ 0 = 1 from rfl, show (2 : Int) ^ 1 = 2 from rfl, show (2 : Int) ^ 2 = 4 from rfl, show (2 : Int) ^ 3 = 8 from rfl, show (2 : Int) ^ 4 = 16 from rfl, show (2 : Int) ^ 5 = 32 from rfl, show (2 : Int) ^ 6 = 64 from rfl, show (2 : Int) ^ 7 = 128 from rfl, show (2 : Int) ^ 8 = 256 from rfl, show (2 : Int) ^ 9 = 512 from rfl, show (2 : Int) ^ 10 = 1024 from rfl, show (2 : Int) ^ 11 = 2048 from rfl, show (2 : Int) ^ 12 = 4096 from rfl, show (2 : Int) ^ 13 = 8192 from rfl, show (2 : Int) ^ 14 = 16384 from rfl, show (2 : Int) ^ 15 = 32768 from rfl, show (2 : Int) ^ 16 = 65536 from rfl, show (2 : Int) ^ 17 = 131072 from rfl, show (2 : Int) ^ 18 = 262144 from rfl, show (2 : Int) ^ 19 = 524288 from rfl, show (2 : Int) ^ 20 = 1048576 from rfl]; repeat' split) <;> omega
  refine ⟨t, (t2 t).trans ?_⟩
  simp only [g0_7, g7_5, g12_3, g15_5, g20_12]
  simp only [sxt_6, sxt_9, sxt_10, sxt_12, sxt_13, sxt_21, pSl, show (2 : Int) ^ 0 = 1 from rfl, show (2 : Int) ^ 1 = 2 from rfl, show (2 : Int) ^ 2 = 4 from rfl, show (2 : Int) ^ 3 = 8 from rfl, show (2 : Int) ^ 4 = 16 from rfl, show (2 : Int) ^ 5 = 32 from rfl, show (2 : Int) ^ 6 = 64 from rfl, show (2 : Int) ^ 7 = 128 from rfl, show (2 : Int) ^ 8 = 256 from rfl, show (2 : Int) ^ 9 = 512 from rfl, show (2 : Int) ^ 10 = 1024 from rfl, show (2 : Int) ^ 11 = 2048 from rfl, show (2 : Int) ^ 12 = 4096 from rfl, show (2 : Int) ^ 13 = 8192 from rfl, show (2 : Int) ^ 14 = 16384 from rfl, show (2 : Int) ^ 15 = 32768 from rfl, show (2 : Int) ^ 16 = 65536 from rfl, show (2 : Int) ^ 17 = 131072 from rfl, show (2 : Int) ^ 18 = 262144 from rfl, show (2 : Int) ^ 19 = 524288 from rfl, show (2 : Int) ^ 20 = 1048576 from rfl]
  refine j4e ?_ ?_ ?_ ?_
  all_goals first | rfl | (repeat' split) <;> omega
theorem pPut_24 (d a b i : Int) (h0 : 0 ≤ d ∧ d ≤ 31) (h1 : 0 ≤ a ∧ a ≤ 31) (h3 : 0 ≤ i ∧ i ≤ 31 ∧ i % 1 = 0) : pTk 24 (pPut 24 (d, a, b, i)) = true ∧ pPt 24 (pPut 24 (d, a, b, i)) = (d, a, 0, i) := by
  obtain ⟨t1, t2⟩ := pTk_24 (pPut 24 (d, a, b, i))
  have g0_7 : pSl 0 7 (pPut 24 (d, a, b, i)) = 19 := pPut_fix 24 0 7 19 (d, a, b, i) (by decide) (by decide) (by decide +kernel)
  have g7_5 : pSl 7 5 (pPut 24 (d, a, b, i)) = pSl 0 5 d := pPut_part 24 7 5 100 (d, a, b, i) (by decide) (by decide) (by decide) (by decide) (by decide +kernel)
  have g12_3 : pSl 12 3 (pPut 24 (d, a, b, i)) = 1 := pPut_fix 24 12 3 1 (d, a, b, i) (by decide) (by decide) (by decide +kernel)
  have g15_5 : pSl 15 5 (pPut 24 (d, a, b, i)) = pSl 0 5 a := pPut_part 24 15 5 200 (d, a, b, i) (by decide) (by decide) (by decide) (by decide) (by decide +kernel)
  have g20_5 : pSl 20 5 (pPut 24 (d, a, b, i)) = pSl 0 5 i := pPut_part 24 20 5 400 (d, a, b, i) (by decide) (by decide) (by decide) (by decide) (by decide +kernel)
  have g25_7 : pSl 25 7 (pPut 24 (d, a, b, i)) = 0 := pPut_fix 24 25 7 0 (d, a, b, i) (by decide) (by decide) (by decide +kernel)
  generalize pPut 24 (d, a, b, i) = v at *
  have t : pTk 24 v = true := by
    refine t1.mpr ?_
    repeat' refine And.intro ?_ ?_
    all_goals first | assumption | (simp only [g0_7, g7_5, g12_3, g15_5, g20_5, g25_7]; simp only [sxt_6, sxt_9, sxt_10, sxt_12, sxt_13, sxt_21, pSl, show (2 : Int) ^ 0 = 1 from rfl, show (2 : Int) ^ 1 = 2 from rfl, show (2 : Int) ^ 2 = 4 from rfl, show (2 : Int) ^ 3 = 8 from rfl, show (2 : Int) ^ 4 = 16 from rfl, show (2 : Int) ^ 5 = 32 from rfl, show (2 : Int) ^ 6 = 64 from rfl, show (2 : Int) ^ 7 = 128 from rfl, show (2 : Int) ^ 8 = 256 from rfl, show (2 : Int) ^ 9 = 512 from rfl, show (2 : Int) ^ 10 = 1024 from rfl, show (2 : Int) ^ 11 = 2048 from rfl, show (2 : Int) ^ 12 = 4096 from rfl, show (2 : Int) ^ 13 = 8192 from rfl, show (2 : Int) ^ 14 = 16384 from rfl, show (2 : Int) ^ 15 = 32768 from rfl, show (2 : Int) ^ 16 = 65536 from rfl, show (2 : Int) ^ 17 = 131072 from rfl, show (2 : Int) ^ 18 = 262144 from rfl, show (2 : Int) ^ 19 = 524288 from rfl, show (2 : Int) ^ 20 = 1048576 from rfl]; repeat' split) <;> omega
  refine ⟨t, (t2 t).trans ?_⟩
  simp only [g0_7, g7_5, g12_3, g15_5, g20_5, g25_7]
  simp only [sxt_6, sxt_9, sxt_10, sxt_12, sxt_13, sxt_21, pSl, show (2 : Int) ^ 0 = 1 from rfl, show (2 : Int) ^ 1 = 2 from rfl, show (2 : Int) ^ 2 = 4 from rfl, show (2 : Int) ^ 3 = 8 from rfl, show (2 : Int) ^ 4 = 16 from rfl, show (2 : Int) ^ 5 = 32 from rfl, show (2 : Int) ^ 6 = 64 from rfl, show (2 : Int) ^ 7 = 128 from rfl, show (2 : Int) ^ 8 = 256 from rfl, show (2 : Int) ^ 9 = 512 from rfl, show (2 : Int) ^ 10 = 1024 from rfl, show (2 : Int) ^ 11 = 2048 from rfl, show (2 : Int) ^ 12 = 4096 from rfl, show (2 : Int) ^ 13 = 8192 from rfl, show (2 : Int) ^ 14 = 16384 from rfl, show (2 : Int) ^ 15 = 32768 from rfl, show (2 : Int) ^ 16 = 65536 from rfl, show (2 : Int) ^ 17 = 131072 from rfl, show (2 : Int) ^ 18 = 262144 from rfl, show (2 : Int) ^ 19 = 524288 from rfl, show (2 : Int) ^ 20 = 1048576 from rfl]
  refine j4e ?_ ?_ ?_ ?_
  all_goals first | rfl | (repeat' split) <;> omega
theorem pPut_25 (d a b i : Int) (h0 : 0 ≤ d ∧ d ≤ 31) (h1 : 0 ≤ a ∧ a ≤ 31) (h3 : 0 ≤ i ∧ i ≤ 31 ∧ i % 1 = 0) : pTk 25 (pPut 25 (d, a, b, i)) = true ∧ pPt 25 (pPut 25 (d, a, b, i)) = (d, a, 0, i) := by
  obtain ⟨t1, t2⟩ := pTk_25 (pPut 25 (d, a, b, i))
  have g0_7 : pSl 0 7 (pPut 25 (d, a, b, i)) = 19 := pPut_fix 25 0 7 19 (d, a, b, i) (by decide) (by decide) (by decide +kernel)
  have g7_5 : pSl 7 5 (pPut 25 (d, a, b, i)) = pSl 0 5 d := pPut_part 25 7 5 100 (d, a, b, i) (by decide) (by decide) (by decide) (by decide) (by decide +kernel)
  have g12_3 : pSl 12 3 (pPut 25 (d, a, b, i)) = 5 := pPut_fix 25 12 3 5 (d, a, b, i) (by decide) (by decide) (by decide +kernel)
  have g15_5 : pSl 15 5 (pPut 25 (d, a, b, i)) = pSl 0 5 a := pPut_part 25 15 5 200 (d, a, b, i) (by decide) (by decide) (by decide) (by decide) (by decide +kernel)
  have g20_5 : pSl 20 5 (pPut 25 (d, a, b, i)) = pSl 0 5 i := pPut_part 25 20 5 400 (d, a, b, i) (by decide) (by decide) (by decide) (by decide) (by decide +kernel)
  have g25_7 : pSl 25 7 (pPut 25 (d, a, b, i)) = 0 := pPut_fix 25 25 7 0 (d, a, b, i) (by decide) (by decide) (by decide +kernel)
  generalize pPut 25 (d, a, b, i) = v at *
  have t : pTk 25 v = true := by
    refine t1.mpr ?_
    repeat' refine And.intro ?_ ?_
    all_goals first | assumption | (simp only [g0_7, g7_5, g12_3, g15_5, g20_5, g25_7]; simp only [sxt_6, sxt_9, sxt_10, sxt_12, sxt_13, sxt_21, pSl, show (2 : Int) ^ 0 = 1 from rfl, show (2 : Int) ^ 1 = 2 from rfl, show (2 : Int) ^ 2 = 4 from rfl, show (2 : Int) ^ 3 = 8 from rfl, show (2 : Int) ^ 4 = 16 from rfl, show (2 : Int) ^ 5 = 32 from rfl, show (2 : Int) ^ 6 = 64 from rfl, show (2 : Int) ^ 7 = 128 from rfl, show (2 : Int) ^ 8 = 256 from rfl, show (2 : Int) ^ 9 = 512 from rfl, show (2 : Int) ^ 10 = 1024 from rfl, show (2 : Int) ^ 11 = 2048 from rfl, show (2 : Int) ^ 12 = 4096 from rfl, show (2 : Int) ^ 13 = 8192 from rfl, show (2 : Int) ^ 14 = 16384 from rfl, show (2 : Int) ^ 15 = 32768 from rfl, show (2 : Int) ^ 16 = 65536 from rfl, show (2 : Int) ^ 17 = 131072 from rfl, show (2 : Int) ^ 18 = 262144 from rfl, show (2 : Int) ^ 19 = 524288 from rfl, show (2 : Int) ^ 20 = 1048576 from rfl]; repeat' split) <;> omega
  refine ⟨t, (t2 t).trans ?_⟩
  simp only [g0_7, g7_5, g12_3, g15_5, g20_5, g25_7]
  simp only [sxt_6, sxt_9, sxt_10, sxt_12, sxt_13, sxt_21, pSl, show (2 : Int) ^ 0 = 1 from rfl, show (2 : Int) ^ 1 = 2 from rfl, show (2 : Int) ^ 2 = 4 from rfl, show (2 : Int) ^ 3 = 8 from rfl, show (2 : Int) ^ 4 = 16 from rfl, show (2 : Int) ^ 5 = 32 from rfl, show (2 : Int) ^ 6 = 64 from rfl, show (2 : Int) ^ 7 = 128 from rfl, show (2 : Int) ^ 8 = 256 from rfl, show (2 : Int) ^ 9 = 512 from rfl, show (2 : Int) ^ 10 = 1024 from rfl, show (2 : Int) ^ 11 = 2048 from rfl, show (2 : Int) ^ 12 = 4096 from rfl, show (2 : Int) ^ 13 = 8192 from rfl, show (2 : Int) ^ 14 = 16384 from rfl, show (2 : Int) ^ 15 = 32768 from rfl, show (2 : Int) ^ 16 = 65536 from rfl, show (2 : Int) ^ 17 = 131072 from rfl, show (2 : Int) ^ 18 = 262144 from rfl, show (2 : Int) ^ 19 = 524288 from rfl, show (2 : Int) ^ 20 = 1048576 from rfl]
  refine j4e ?_ ?_ ?_ ?_
  all_goals first | rfl | (repeat' split) <;> omega
theorem pPut_26 (d a b i : Int) (h0 : 0 ≤ d ∧ d ≤ 31) (h1 : 0 ≤ a ∧ a ≤ 31) (h3 : 0 ≤ i ∧ i ≤ 31 ∧ i % 1 = 0) : pTk 26 (pPut 26 (d, a, b, i)) = true ∧ pPt 26 (pPut 26 (d, a, b, i)) = (d, a, 0, i) := by
  obtain ⟨t1, t2⟩ := pTk_26 (pPut 26 (d, a, b, i))
  have g0_7 : pSl 0 7 (pPut 26 (d, a, b, i)) = 19 := pPut_fix 26 0 7 19 (d, a, b, i) (by decide) (by decide) (by decide +kernel)
  have g7_5 : pSl 7 5 (pPut 26 (d, a, b, i)) = pSl 0 5 d := pPut_part 26 7 5 100 (d, a, b, i) (by decide) (by decide) (by decide) (by decide) (by decide +kernel)
  have g12_3 : pSl 12 3 (pPut 26 (d, a, b, i)) = 5 := pPut_fix 26 12 3 5 (d, a, b, i) (by decide) (by decide) (by decide +kernel)
  have g15_5 : pSl 15 5 (pPut 26 (d, a, b, i)) = pSl 0 5 a := pPut_part 26 15 5 200 (d, a, b, i) (by decide) (by decide) (by decide) (by decide) (by decide +kernel)
  have g20_5 : pSl 20 5 (pPut 26 (d, a, b, i)) = pSl 0 5 i := pPut_part 26 20 5 400 (d, a, b, i) (by decide) (by decide) (by decide) (by decide) (by decide +kernel)
  have g25_7 : pSl 25 7 (pPut 26 (d, a, b, i)) = 32 := pPut_fix 26 25 7 32 (d, a, b, i) (by decide) (by decide) (by decide +kernel)
  generalize pPut 26 (d, a, b, i) = v at *
  have t : pTk 26 v = true := by
    refine t1.mpr ?_
    repeat' refine And.intro ?_ ?_
    all_goals first | assumption | (simp only [g0_7, g7_5, g12_3, g15_5, g20_5, g25_7]; simp only [sxt_6, sxt_9, sxt_10, sxt_12, sxt_13, sxt_21, pSl, show (2 : Int) ^ 0 = 1 from rfl, show (2 : Int) ^ 1 = 2 from rfl, show (2 : Int) ^ 2 = 4 from rfl, show (2 : Int) ^ 3 = 8 from rfl, show (2 : Int) ^ 4 = 16 from rfl, show (2 : Int) ^ 5 = 32 from rfl, show (2 : Int) ^ 6 = 64 from rfl, show (2 : Int) ^ 7 = 128 from rfl, show (2 : Int) ^ 8 = 256 from rfl, show (2 : Int) ^ 9 = 512 from rfl, show (2 : Int) ^ 10 = 1024 from rfl, show (2 : Int) ^ 11 = 2048 from rfl, show (2 : Int) ^ 12 = 4096 from rfl, show (2 : Int) ^ 13 = 8192 from rfl, show (2 : Int) ^ 14 = 16384 from rfl, show (2 : Int) ^ 15 = 32768 from rfl, show (2 : Int) ^ 16 = 65536 from rfl, show (2 : Int) ^ 17 = 131072 from rfl, show (2 : Int) ^ 18 = 262144 from rfl, show (2 : Int) ^ 19 = 524288 from rfl, show (2 : Int) ^ 20 = 1048576 from rfl]; repeat' split) <;> omega
  refine ⟨t, (t2 t).trans ?_⟩
  simp only [g0_7, g7_5, g12_3, g15_5, g20_5, g25_7]
  simp only [sxt_6, sxt_9, sxt_10, sxt_12, sxt_13, sxt_21, pSl, show (2 : Int) ^ 0 = 1 from rfl, show (2 : Int) ^ 1 = 2 from rfl, show (2 : Int) ^ 2 = 4 from rfl, show (2 : Int) ^ 3 = 8 from rfl, show (2 : Int) ^ 4 = 16 from rfl, show (2 : Int) ^ 5 = 32 from rfl, show (2 : Int) ^ 6 = 64 from rfl, show (2 : Int) ^ 7 = 128 from rfl, show (2 : Int) ^ 8 = 256 from rfl, show (2 : Int) ^ 9 = 512 from rfl, show (2 : Int) ^ 10 = 1024 from rfl, show (2 : Int) ^ 11 = 2048 from rfl, show (2 : Int) ^ 12 = 4096 from rfl, show (2 : Int) ^ 13 = 8192 from rfl, show (2 : Int) ^ 14 = 16384 from rfl, show (2 : Int) ^ 15 = 32768 from rfl, show (2 : Int) ^ 16 = 65536 from rfl, show (2 : Int) ^ 17 = 131072 from rfl, show (2 : Int) ^ 18 = 262144 from rfl, show (2 : Int) ^ 19 = 524288 from rfl, show (2 : Int) ^ 20 = 1048576 from rfl]
  refine j4e ?_ ?_ ?_ ?_
  all_goals first | rfl | (repeat' split) <;> omega
theorem pPut_27 (d a b i : Int) (h0 : 0 ≤ d ∧ d ≤ 31) (h1 : 0 ≤ a ∧ a ≤ 31) (h2 : 0 ≤ b ∧ b ≤ 31) : pTk 27 (pPut 27 (d, a, b, i)) = true ∧ pPt 27 (pPut 27 (d, a, b, i)) = (d, a, b, 0) := by
  obtain ⟨t1, t2⟩ := pTk_27 (pPut 27 (d, a, b, i))
  have g0_7 : pSl 0 7 (pPut 27 (d, a, b, i)) = 51 := pPut_fix 27 0 7 51 (d, a, b, i) (by decide) (by decide) (by decide +kernel)
  have g7_5 : pSl 7 5 (pPut 27 (d, a, b, i)) = pSl 0 5 d := pPut_part 27 7 5 100 (d, a, b, i) (by decide) (by decide) (by decide) (by decide) (by decide +kernel)
  have g12_3 : pSl 12 3 (pPut 27 (d, a, b, i)) = 0 := pPut_fix 27 12 3 0 (d, a, b, i) (by decide) (by decide) (by decide +kernel)
  have g15_5 : pSl 15 5 (pPut 27 (d, a, b, i)) = pSl 0 5 a := pPut_part 27 15 5 200 (d, a, b, i) (by decide) (by decide) (by decide) (by decide) (by decide +kernel)
  have g20_5 : pSl 20 5 (pPut 27 (d, a, b, i)) = pSl 0 5 b := pPut_part 27 20 5 300 (d, a, b, i) (by decide) (by decide) (by decide) (by decide) (by decide +kernel)
  have g25_7 : pSl 25 7 (pPut 27 (d, a, b, i)) = 0 := pPut_fix 27 25 7 0 (d, a, b, i) (by decide) (by decide) (by decide +kernel)
  generalize pPut 27 (d, a, b, i) = v at *
  have t : pTk 27 v = true := by
    refine t1.mpr ?_
    repeat' refine And.intro ?_ ?_
    all_goals first | assumption | (simp only [g0_7, g7_5, g12_3, g15_5, g20_5, g25_7]; simp only [sxt_6, sxt_9, sxt_10, sxt_12, sxt_13, sxt_21, pSl, show (2 : Int) ^ 0 = 1 from rfl, show (2 : Int) ^ 1 = 2 from rfl, show (2 : Int) ^ 2 = 4 from rfl, show (2 : Int) ^ 3 = 8 from rfl, show (2 : Int) ^ 4 = 16 from rfl, show (2 : Int) ^ 5 = 32 from rfl, show (2 : Int) ^ 6 = 64 from rfl, show (2 : Int) ^ 7 = 128 from rfl, show (2 : Int) ^ 8 = 256 from rfl, show (2 : Int) ^ 9 = 512 from rfl, show (2 : Int) ^ 10 = 1024 from rfl, show (2 : Int) ^ 11 = 2048 from rfl, show (2 : Int) ^ 12 = 4096 from rfl, show (2 : Int) ^ 13 = 8192 from rfl, show (2 : Int) ^ 14 = 16384 from rfl, show (2 : Int) ^ 15 = 32768 from rfl, show (2 : Int) ^ 16 = 65536 from rfl, show (2 : Int) ^ 17 = 131072 from rfl, show (2 : Int) ^ 18 = 262144 from rfl, show (2 : Int) ^ 19 = 524288 from rfl, show (2 : Int) ^ 20 = 1048576 from rfl]; repeat' split) <;> omega
  refine ⟨t, (t2 t).trans ?_⟩
  simp only [g0_7, g7_5, g12_3, g15_5, g20_5, g25_7]
  simp only [sxt_6, sxt_9, sxt_10, sxt_12, sxt_13, sxt_21, pSl, show (2 : Int) ^ 0 = 1 from rfl, show (2 : Int) ^ 1 = 2 from rfl, show (2 : Int) ^ 2 = 4 from rfl, show (2 : Int) ^ 3 = 8 from rfl, show (2 : Int) ^ 4 = 16 from rfl, show (2 : Int) ^ 5 = 32 from rfl, show (2 : Int) ^ 6 = 64 from rfl, show (2 : Int) ^ 7 = 128 from rfl, show (2 : Int) ^ 8 = 256 from rfl, show (2 : Int) ^ 9 = 512 from rfl, show (2 : Int) ^ 10 = 1024 from rfl, show (2 : Int) ^ 11 = 2048 from rfl, show (2 : Int) ^ 12 = 4096 from rfl, show (2 : Int) ^ 13 = 8192 from rfl, show (2 : Int) ^ 14 = 16384 from rfl, show (2 : Int) ^ 15 = 32768 from rfl, show (2 : Int) ^ 16 = 65536 from rfl, show (2 : Int) ^ 17 = 131072 from rfl, show (2 : Int) ^ 18 = 262144 from rfl, show (2 : Int) ^ 19 = 524288 from rfl, show (2 : Int) ^ 20 = 1048576 from rfl]
  refine j4e ?_ ?_ ?_ ?_
  all_goals first | rfl | (repeat' split) <;> omega
theorem pPut_28 (d a b i : Int) (h0 : 0 ≤ d ∧ d ≤ 31) (h1 : 0 ≤ a ∧ a ≤ 31) (h2 : 0 ≤ b ∧ b ≤ 31) : pTk 28 (pPut 28 (d, a, b, i)) = true ∧ pPt 28 (pPut 28 (d, a, b, i)) = (d, a, b, 0) := by
  obtain ⟨t1, t2⟩ := pTk_28 (pPut 28 (d, a, b, i))
  have g0_7 : pSl 0 7 (pPut 28 (d, a, b, i)) = 51 := pPut_fix 28 0 7 51 (d, a, b, i) (by decide) (by decide) (by decide +kernel)
  have g7_5 : pSl 7 5 (pPut 28 (d, a, b, i)) = pSl 0 5 d := pPut_part 28 7 5 100 (d, a, b, i) (by decide) (by decide) (by decide) (by decide) (by decide +kernel)
  have g12_3 : pSl 12 3 (pPut 28 (d, a, b, i)) = 0 := pPut_fix 28 12 3 0 (d, a, b, i) (by decide) (by decide) (by decide +kernel)
  have g15_5 : pSl 15 5 (pPut 28 (d, a, b, i)) = pSl 0 5 a := pPut_part 28 15 5 200 (d, a, b, i) (by decide) (by decide) (by decide) (by decide) (by decide +kernel)
  have g20_5 : pSl 20 5 (pPut 28 (d, a, b, i)) = pSl 0 5 b := pPut_part 28 20 5 300 (d, a, b, i) (by decide) (by decide) (by decide) (by decide) (by decide +kernel)
  have g25_7 : pSl 25 7 (pPut 28 (d, a, b, i)) = 32 := pPut_fix 28 25 7 32 (d, a, b, i) (by decide) (by decide) (by decide +kernel)
  generalize pPut 28 (d, a, b, i) = v at *
  have t : pTk 28 v = true := by
    refine t1.mpr ?_
    repeat' refine And.intro ?_ ?_
    all_goals first | assumption | (simp only [g0_7, g7_5, g12_3, g15_5, g20_5, g25_7]; simp only [sxt_6, sxt_9, sxt_10, sxt_12, sxt_13, sxt_21, pSl, show (2 : Int) ^ 0 = 1 from rfl, show (2 : Int) ^ 1 = 2 from rfl, show (2 : Int) ^ 2 = 4 from rfl, show (2 : Int) ^ 3 = 8 from rfl, show (2 : Int) ^ 4 = 16 from rfl, show (2 : Int) ^ 5 = 32 from rfl, show (2 : Int) ^ 6 = 64 from rfl, show (2 : Int) ^ 7 = 128 from rfl, show (2 : Int) ^ 8 = 256 from rfl, show (2 : Int) ^ 9 = 512 from rfl, show (2 : Int) ^ 10 = 1024 from rfl, show (2 : Int) ^ 11 = 2048 from rfl, show (2 : Int) ^ 12 = 4096 from rfl, show (2 : Int) ^ 13 = 8192 from rfl, show (2 : Int) ^ 14 = 16384 from rfl, show (2 : Int) ^ 15 = 32768 from rfl, show (2 : Int) ^ 16 = 65536 from rfl, show (2 : Int) ^ 17 = 131072 from rfl, show (2 : Int) ^ 18 = 262144 from rfl, show (2 : Int) ^ 19 = 524288 from rfl, show (2 : Int) ^ 20 = 1048576 from rfl]; repeat' split) <;> omega
  refine ⟨t, (t2 t).trans ?_⟩
  simp only [g0_7, g7_5, g12_3, g15_5, g20_5, g25_7]
  simp only [sxt_6, sxt_9, sxt_10, sxt_12, sxt_13, sxt_21, pSl, show (2 : Int) ^ 0 = 1 from rfl, show (2 : Int) ^ 1 = 2 from rfl, show (2 : Int) ^ 2 = 4 from rfl, show (2 : Int) ^ 3 = 8 from rfl, show (2 : Int) ^ 4 = 16 from rfl, show (2 : Int) ^ 5 = 32 from rfl, show (2 : Int) ^ 6 = 64 from rfl, show (2 : Int) ^ 7 = 128 from rfl, show (2 : Int) ^ 8 = 256 from rfl, show (2 : Int) ^ 9 = 512 from rfl, show (2 : Int) ^ 10 = 1024 from rfl, show (2 : Int) ^ 11 = 2048 from rfl, show (2 : Int) ^ 12 = 4096 from rfl, show (2 : Int) ^ 13 = 8192 from rfl, show (2 : Int) ^ 14 = 16384 from rfl, show (2 : Int) ^ 15 = 32768 from rfl, show (2 : Int) ^ 16 = 65536 from rfl, show (2 : Int) ^ 17 = 131072 from rfl, show (2 : Int) ^ 18 = 262144 from rfl, show (2 : Int) ^ 19 = 524288 from rfl, show (2 : Int) ^ 20 = 1048576 from rfl]
  refine j4e ?_ ?_ ?_ ?_
  all_goals first | rfl | (repeat' split) <;> omega
theorem pPut_29 (d a b i : Int) (h0 : 0 ≤ d ∧ d ≤ 31) (h1 : 0 ≤ a ∧ a ≤ 31) (h2 : 0 ≤ b ∧ b ≤ 31) : pTk 29 (pPut 29 (d, a, b, i)) = true ∧ pPt 29 (pPut 29 (d, a, b, i)) = (d, a, b, 0) := by
  obtain ⟨t1, t2⟩ := pTk_29 (pPut 29 (d, a, b, i))
  have g0_7 : pSl 0 7 (pPut 29 (d, a, b, i)) = 51 := pPut_fix 29 0 7 51 (d, a, b, i) (by decide) (by decide) (by decide +kernel)
  have g7_5 : pSl 7 5 (pPut 29 (d, a, b, i)) = pSl 0 5 d := pPut_part 29 7 5 100 (d, a, b, i) (by decide) (by decide) (by decide) (by decide) (by decide +kernel)
  have g12_3 : pSl 12 3 (pPut 29 (d, a, b, i)) = 1 := pPut_fix 29 12 3 1 (d, a, b, i) (by decide) (by decide) (by decide +kernel)
  have g15_5 : pSl 15 5 (pPut 29 (d, a, b, i)) = pSl 0 5 a := pPut_part 29 15 5 200 (d, a, b, i) (by decide) (by decide) (by decide) (by decide) (by decide +kernel)
  have g20_5 : pSl 20 5 (pPut 29 (d, a, b, i)) = pSl 0 5 b := pPut_part 29 20 5 300 (d, a, b, i) (by decide) (by decide) (by decide) (by decide) (by decide +kernel)
  have g25_7 : pSl 25 7 (pPut 29 (d, a, b, i)) = 0 := pPut_fix 29 25 7 0 (d, a, b, i) (by decide) (by decide) (by decide +kernel)
  generalize pPut 29 (d, a, b, i) = v at *
  have t : pTk 29 v = true := by
    refine t1.mpr ?_
    repeat' refine And.intro ?_ ?_
    all_goals first | assumption | (simp only [g0_7, g7_5, g12_3, g15_5, g20_5, g25_7]; simp only [sxt_6, sxt_9, sxt_10, sxt_12, sxt_13, sxt_21, pSl, show (2 : Int) ^ 0 = 1 from rfl, show (2 : Int) ^ 1 = 2 from rfl, show (2 : Int) ^ 2 = 4 from rfl, show (2 : Int) ^ 3 = 8 from rfl, show (2 : Int) ^ 4 = 16 from rfl, show (2 : Int) ^ 5 = 32 from rfl, show (2 : Int) ^ 6 = 64 from rfl, show (2 : Int) ^ 7 = 128 from rfl, show (2 : Int) ^ 8 = 256 from rfl, show (2 : Int) ^ 9 = 512 from rfl, show (2 : Int) ^ 10 = 1024 from rfl, show (2 : Int) ^ 11 = 2048 from rfl, show (2 : Int) ^ 12 = 4096 from rfl, show (2 : Int) ^ 13 = 8192 from rfl, show (2 : Int) ^ 14 = 16384 from rfl, show (2 : Int) ^ 15 = 32768 from rfl, show (2 : Int) ^ 16 = 65536 from rfl, show (2 : Int) ^ 17 = 131072 from rfl, show (2 : Int) ^ 18 = 262144 from rfl, show (2 : Int) ^ 19 = 524288 from rfl, show (2 : Int) ^ 20 = 1048576 from rfl]; repeat' split) <;> omega
  refine ⟨t, (t2 t).trans ?_⟩
  simp only [g0_7, g7_5, g12_3, g15_5, g20_5, g25_7]
  simp only [sxt_6, sxt_9, sxt_10, sxt_12, sxt_13, sxt_21, pSl, show (2 : Int) ^ 0 = 1 from rfl, show (2 : Int) ^ 1 = 2 from rfl, show (2 : Int) ^ 2 = 4 from rfl, show (2 : Int) ^ 3 = 8 from rfl, show (2 : Int) ^ 4 = 16 from rfl, show (2 : Int) ^ 5 = 32 from rfl, show (2 : Int) ^ 6 = 64 from rfl, show (2 : Int) ^ 7 = 128 from rfl, show (2 : Int) ^ 8 = 256 from rfl, show (2 : Int) ^ 9 = 512 from rfl, show (2 : Int) ^ 10 = 1024 from rfl, show (2 : Int) ^ 11 = 2048 from rfl, show (2 : Int) ^ 12 = 4096 from rfl, show (2 : Int) ^ 13 = 8192 from rfl, show (2 : Int) ^ 14 = 16384 from rfl, show (2 : Int) ^ 15 = 32768 from rfl, show (2 : Int) ^ 16 = 65536 from rfl, show (2 : Int) ^ 17 = 131072 from rfl, show (2 : Int) ^ 18 = 262144 from rfl, show (2 : Int) ^ 19 = 524288 from rfl, show (2 : Int) ^ 20 = 1048576 from rfl]
  refine j4e ?_ ?_ ?_ ?_
  all_goals first | rfl | (repeat' split) <;> omega
theorem pPut_30 (d a b i : Int) (h0 : 0 ≤ d ∧ d ≤ 31) (h1 : 0 ≤ a ∧ a ≤ 31) (h2 : 0 ≤ b ∧ b ≤ 31) : pTk 30 (pPut 30 (d, a, b, i)) = true ∧ pPt 30 (pPut 30 (d, a, b, i)) = (d, a, b, 0) := by
  obtain ⟨t1, t2⟩ := pTk_30 (pPut 30 (d, a, b, i))
  have g0_7 : pSl 0 7 (pPut 30 (d, a, b, i)) = 51 := pPut_fix 30 0 7 51 (d, a, b, i) (by decide) (by decide) (by decide +kernel)
  have g7_5 : pSl 7 5 (pPut 30 (d, a, b, i)) = pSl 0 5 d := pPut_part 30 7 5 100 (d, a, b, i) (by decide) (by decide) (by decide) (by decide) (by decide +kernel)
  have g12_3 : pSl 12 3 (pPut 30 (d, a, b, i)) = 2 := pPut_fix 30 12 3 2 (d, a, b, i) (by decide) (by decide) (by decide +kernel)
  have g15_5 : pSl 15 5 (pPut 30 (d, a, b, i)) = pSl 0 5 a := pPut_part 30 15 5 200 (d, a, b, i) (by decide) (by decide) (by decide) (by decide) (by decide +kernel)
  have g20_5 : pSl 20 5 (pPut 30 (d, a, b, i)) = pSl 0 5 b := pPut_part 30 20 5 300 (d, a, b, i) (by decide) (by decide) (by decide) (by decide) (by decide +kernel)
  have g25_7 : pSl 25 7 (pPut 30 (d, a, b, i)) = 0 := pPut_fix 30 25 7 0 (d, a, b, i) (by decide) (by decide) (by decide +kernel)
  generalize pPut 30 (d, a, b, i) = v at *
  have t : pTk 30 v = true := by
    refine t1.mpr ?_
    repeat' refine And.intro ?_ ?_
    all_goals first | assumption | (simp only [g0_7, g7_5, g12_3, g15_5, g20_5, g25_7]; simp only [sxt_6, sxt_9, sxt_10, sxt_12, sxt_13, sxt_21, pSl, show (2 : Int) ^ 0 = 1 from rfl, show (2 : Int) ^ 1 = 2 from rfl, show (2 : Int) ^ 2 = 4 from rfl, show (2 : Int) ^ 3 = 8 from rfl, show (2 : Int) ^ 4 = 16 from rfl, show (2 : Int) ^ 5 = 32 from rfl, show (2 : Int) ^ 6 = 64 from rfl, show (2 : Int) ^ 7 = 128 from rfl, show (2 : Int) ^ 8 = 256 from rfl, show (2 : Int) ^ 9 = 512 from rfl, show (2 : Int) ^ 10 = 1024 from rfl, show (2 : Int) ^ 11 = 2048 from rfl, show (2 : Int) ^ 12 = 4096 from rfl, show (2 : Int) ^ 13 = 8192 from rfl, show (2 : Int) ^ 14 = 16384 from rfl, show (2 : Int) ^ 15 = 32768 from rfl, show (2 : Int) ^ 16 = 65536 from rfl, show (2 : Int) ^ 17 = 131072 from rfl, show (2 : Int) ^ 18 = 262144 from rfl, show (2 : Int) ^ 19 = 524288 from rfl, show (2 : Int) ^ 20 = 1048576 from rfl]; repeat' split) <;> omega
  refine ⟨t, (t2 t).trans ?_⟩
  simp only [g0_7, g7_5, g12_3, g15_5, g20_5, g25_7]
  simp only [sxt_6, sxt_9, sxt_10, sxt_12, sxt_13, sxt_21, pSl, show (2 : Int) ^ 0 = 1 from rfl, show (2 : Int) ^ 1 = 2 from rfl, show (2 : Int) ^ 2 = 4 from rfl, show (2 : Int) ^ 3 = 8 from rfl, show (2 : Int) ^ 4 = 16 from rfl, show (2 : Int) ^ 5 = 32 from rfl, show (2 : Int) ^ 6 = 64 from rfl, show (2 : Int) ^ 7 = 128 from rfl, show (2 : Int) ^ 8 = 256 from rfl, show (2 : Int) ^ 9 = 512 from rfl, show (2 : Int) ^ 10 = 1024 from rfl, show (2 : Int) ^ 11 = 2048 from rfl, show (2 : Int) ^ 12 = 4096 from rfl, show (2 : Int) ^ 13 = 8192 from rfl, show (2 : Int) ^ 14 = 16384 from rfl, show (2 : Int) ^ 15 = 32768 from rfl, show (2 : Int) ^ 16 = 65536 from rfl, show (2 : Int) ^ 17 = 131072 from rfl, show (2 : Int) ^ 18 = 262144 from rfl, show (2 : Int) ^ 19 = 524288 from rfl, show (2 : Int) ^ 20 = 1048576 from rfl]
  refine j4e ?_ ?_ ?_ ?_
  all_goals first | rfl | (repeat' split) <;> omega
theorem pPut_31 (d a b i : Int) (h0 : 0 ≤ d ∧ d ≤ 31) (h1 : 0 ≤ a ∧ a ≤ 31) (h2 : 0 ≤ b ∧ b ≤ 31) : pTk 31 (pPut 31 (d, a, b, i)) = true ∧ pPt 31 (pPut 31 (d, a, b, i)) = (d, a, b, 0) := by
  obtain ⟨t1, t2⟩ := pTk_31 (pPut 31 (d, a, b, i))
  have g0_7 : pSl 0 7 (pPut 31 (d, a, b, i)) = 51 := pPut_fix 31 0 7 51 (d, a, b, i) (by decide) (by decide) (by decide +kernel)
  have g7_5 : pSl 7 5 (pPut 31 (d, a, b, i)) = pSl 0 5 d := pPut_part 31 7 5 100 (d, a, b, i) (by decide) (by decide) (by decide) (by decide) (by decide +kernel)
  have g12_3 : pSl 12 3 (pPut 31 (d, a, b, i)) = 3 := pPut_fix 31 12 3 3 (d, a, b, i) (by decide) (by decide) (by decide +kernel)
  have g15_5 : pSl 15 5 (pPut 31 (d, a, b, i)) = pSl 0 5 a := pPut_part 31 15 5 200 (d, a, b, i) (by decide) (by decide) (by decide) (by decide) (by decide +kernel)
  have g20_5 : pSl 20 5 (pPut 31 (d, a, b, i)) = pSl 0 5 b := pPut_part 31 20 5 300 (d, a, b, i) (by decide) (by decide) (by decide) (by decide) (by decide +kernel)
  have g25_7 : pSl 25 7 (pPut 31 (d, a, b, i)) = 0 := pPut_fix 31 25 7 0 (d, a, b, i) (by decide) (by decide) (by decide +kernel)
  generalize pPut 31 (d, a, b, i) = v at *
  have t : pTk 31 v = true := by
    refine t1.mpr ?_
    repeat' refine And.intro ?_ ?_
    all_goals first | assumption | (simp only [g0_7, g7_5, g12_3, g15_5, g20_5, g25_7]; simp only [sxt_6, sxt_9, sxt_10, sxt_12, sxt_13, sxt_21, pSl, show (2 : Int) ^ 0 = 1 from rfl, show (2 : Int) ^ 1 = 2 from rfl, show (2 : Int) ^ 2 = 4 from rfl, show (2 : Int) ^ 3 = 8 from rfl, show (2 : Int) ^ 4 = 16 from rfl, show (2 : Int) ^ 5 = 32 from rfl, show (2 : Int) ^ 6 = 64 from rfl, show (2 : Int) ^ 7 = 128 from rfl, show (2 : Int) ^ 8 = 256 from rfl, show (2 : Int) ^ 9 = 512 from rfl, show (2 : Int) ^ 10 = 1024 from rfl, show (2 : Int) ^ 11 = 2048 from rfl, show (2 : Int) ^ 12 = 4096 from rfl, show (2 : Int) ^ 13 = 8192 from rfl, show (2 : Int) ^ 14 = 16384 from rfl, show (2 : Int) ^ 15 = 32768 from rfl, show (2 : Int) ^ 16 = 65536 from rfl, show (2 : Int) ^ 17 = 131072 from rfl, show (2 : Int) ^ 18 = 262144 from rfl, show (2 : Int) ^ 19 = 524288 from rfl, show (2 : Int) ^ 20 = 1048576 from rfl]; repeat' split) <;> omega
  refine ⟨t, (t2 t).trans ?_⟩
  simp only [g0_7, g7_5, g12_3, g15_5, g20_5, g25_7]
  simp only [sxt_6, sxt_9, sxt_10, sxt_12, sxt_13, sxt_21, pSl, show (2 : Int) ^ 0 = 1 from rfl, show (2 : Int) ^ 1 = 2 from rfl, show (2 : Int) ^ 2 = 4 from rfl, show (2 : Int) ^ 3 = 8 from rfl, show (2 : Int) ^ 4 = 16 from rfl, show (2 : Int) ^ 5 = 32 from rfl, show (2 : Int) ^ 6 = 64 from rfl, show (2 : Int) ^ 7 = 128 from rfl, show (2 : Int) ^ 8 = 256 from rfl, show (2 : Int) ^ 9 = 512 from rfl, show (2 : Int) ^ 10 = 1024 from rfl, show (2 : Int) ^ 11 = 2048 from rfl, show (2 : Int) ^ 12 = 4096 from rfl, show (2 : Int) ^ 13 = 8192 from rfl, show (2 : Int) ^ 14 = 16384 from rfl, show (2 : Int) ^ 15 = 32768 from rfl, show (2 : Int) ^ 16 = 65536 from rfl, show (2 : Int) ^ 17 = 131072 from rfl, show (2 : Int) ^ 18 = 262144 from rfl, show (2 : Int) ^ 19 = 524288 from rfl, show (2 : Int) ^ 20 = 1048576 from rfl]
  refine j4e ?_ ?_ ?_ ?_
  all_goals first | rfl | (repeat' split) <;> omega
theorem pPut_32 (d a b i : Int) (h0 : 0 ≤ d ∧ d ≤ 31) (h1 : 0 ≤ a ∧ a ≤ 31) (h2 : 0 ≤ b ∧ b ≤ 31) : pTk 32 (pPut 32 (d, a, b, i)) = true ∧ pPt 32 (pPut 32 (d, a, b, i)) = (d, a, b, 0) := by
  obtain ⟨t1, t2⟩ := pTk_32 (pPut 32 (d, a, b, i))
  have g0_7 : pSl 0 7 (pPut 32 (d, a, b, i)) = 51 := pPut_fix 32 0 7 51 (d, a, b, i) (by decide) (by decide) (by decide +kernel)
  have g7_5 : pSl 7 5 (pPut 32 (d, a, b, i)) = pSl 0 5 d := pPut_part 32 7 5 100 (d, a, b, i) (by decide) (by decide) (by decide) (by decide) (by decide +kernel)
  have g12_3 : pSl 12 3 (pPut 32 (d, a, b, i)) = 4 := pPut_fix 32 12 3 4 (d, a, b, i) (by decide) (by decide) (by decide +kernel)
  have g15_5 : pSl 15 5 (pPut 32 (d, a, b, i)) = pSl 0 5 a := pPut_part 32 15 5 200 (d, a, b, i) (by decide) (by decide) (by decide) (by decide) (by decide +kernel)
  have g20_5 : pSl 20 5 (pPut 32 (d, a, b, i)) = pSl 0 5 b := pPut_part 32 20 5 300 (d, a, b, i) (by decide) (by decide) (by decide) (by decide) (by decide +kernel)
  have g25_7 : pSl 25 7 (pPut 32 (d, a, b, i)) = 0 := pPut_fix 32 25 7 0 (d, a, b, i) (by decide) (by decide) (by decide +kernel)
  generalize pPut 32 (d, a, b, i) = v at *
  have t : pTk 32 v = true := by
    refine t1.mpr ?_
    repeat' refine And.intro ?_ ?_
    all_goals first | assumption | (simp only [g0_7, g7_5, g12_3, g15_5, g20_5, g25_7]; simp only [sxt_6, sxt_9, sxt_10, sxt_12, sxt_13, sxt_21, pSl, show (2 : Int) ^ 0 = 1 from rfl, show (2 : Int) ^ 1 = 2 from rfl, show (2 : Int) ^ 2 = 4 from rfl, show (2 : Int) ^ 3 = 8 from rfl, show (2 : Int) ^ 4 = 16 from rfl, show (2 : Int) ^ 5 = 32 from rfl, show (2 : Int) ^ 6 = 64 from rfl, show (2 : Int) ^ 7 = 128 from rfl, show (2 : Int) ^ 8 = 256 from rfl, show (2 : Int) ^ 9 = 512 from rfl, show (2 : Int) ^ 10 = 1024 from rfl, show (2 : Int) ^ 11 = 2048 from rfl, show (2 : Int) ^ 12 = 4096 from rfl, show (2 : Int) ^ 13 = 8192 from rfl, show (2 : Int) ^ 14 = 16384 from rfl, show (2 : Int) ^ 15 = 32768 from rfl, show (2 : Int) ^ 16 = 65536 from rfl, show (2 : Int) ^ 17 = 131072 from rfl, show (2 : Int) ^ 18 = 262144 from rfl, show (2 : Int) ^ 19 = 524288 from rfl, show (2 : Int) ^ 20 = 1048576 from rfl]; repeat' split) <;> omega
  refine ⟨t, (t2 t).trans ?_⟩
  simp only [g0_7, g7_5, g12_3, g15_5, g20_5, g25_7]
  simp only [sxt_6, sxt_9, sxt_10, sxt_12, sxt_13, sxt_21, pSl, show (2 : Int) ^ 0 = 1 from rfl, show (2 : Int) ^ 1 = 2 from rfl, show (2 : Int) ^ 2 = 4 from rfl, show (2 : Int) ^ 3 = 8 from rfl, show (2 : Int) ^ 4 = 16 from rfl, show (2 : Int) ^ 5 = 32 from rfl, show (2 : Int) ^ 6 = 64 from rfl, show (2 : Int) ^ 7 = 128 from rfl, show (2 : Int) ^ 8 = 256 from rfl, show (2 : Int) ^ 9 = 512 from rfl, show (2 : Int) ^ 10 = 1024 from rfl, show (2 : Int) ^ 11 = 2048 from rfl, show (2 : Int) ^ 12 = 4096 from rfl, show (2 : Int) ^ 13 = 8192 from rfl, show (2 : Int) ^ 14 = 16384 from rfl, show (2 : Int) ^ 15 = 32768 from rfl, show (2 : Int) ^ 16 = 65536 from rfl, show (2 : Int) ^ 17 = 131072 from rfl, show (2 : Int) ^ 18 = 262144 from rfl, show (2 : Int) ^ 19 = 524288 from rfl, show (2 : Int) ^ 20 = 1048576 from rfl]
  refine j4e ?_ ?_ ?_ ?_
  all_goals first | rfl | (repeat' split) <;> omega
theorem pPut_33 (d a b i : Int) (h0 : 0 ≤ d ∧ d ≤ 31) (h1 : 0 ≤ a ∧ a ≤ 31) (h2 : 0 ≤ b ∧ b ≤ 31) : pTk 33 (pPut 33 (d, a, b, i)) = true ∧ pPt 33 (pPut 33 (d, a, b, i)) = (d, a, b, 0) := by
  obtain ⟨t1, t2⟩ := pTk_33 (pPut 33 (d, a, b, i))
  have g0_7 : pSl 0 7 (pPut 33 (d, a, b, i)) = 51 := pPut_fix 33 0 7 51 (d, a, b, i) (by decide) (by decide) (by decide +kernel)
  have g7_5 : pSl 7 5 (pPut 33 (d, a, b, i)) = pSl 0 5 d := pPut_part 33 7 5 100 (d, a, b, i) (by decide) (by decide) (by decide) (by decide) (by decide +kernel)
  have g12_3 : pSl 12 3 (pPut 33 (d, a, b, i)) = 5 := pPut_fix 33 12 3 5 (d, a, b, i) (by decide) (by decide) (by decide +kernel)
  have g15_5 : pSl 15 5 (pPut 33 (d, a, b, i)) = pSl 0 5 a := pPut_part 33 15 5 200 (d, a, b, i) (by decide) (by decide) (by decide) (by decide) (by decide +kernel)
  have g20_5 : pSl 20 5 (pPut 33 (d, a, b, i)) = pSl 0 5 b := pPut_part 33 20 5 300 (d, a, b, i) (by decide) (by decide) (by decide) (by decide) (by decide +kernel)
  have g25_7 : pSl 25 7 (pPut 33 (d, a, b, i)) = 0 := pPut_fix 33 25 7 0 (d, a, b, i) (by decide) (by decide) (by decide +kernel)
  generalize pPut 33 (d, a, b, i) = v at *
  have t : pTk 33 v = true := by
    refine t1.mpr ?_
    repeat' refine And.intro ?_ ?_
    all_goals first | assumption | (simp only [g0_7, g7_5, g12_3, g15_5, g20_5, g25_7]; simp only [sxt_6, sxt_9, sxt_10, sxt_12, sxt_13, sxt_21, pSl, show (2 : Int) ^ 0 = 1 from rfl, show (2 : Int) ^ 1 = 2 from rfl, show (2 : Int) ^ 2 = 4 from rfl, show (2 : Int) ^ 3 = 8 from rfl, show (2 : Int) ^ 4 = 16 from rfl, show (2 : Int) ^ 5 = 32 from rfl, show (2 : Int) ^ 6 = 64 from rfl, show (2 : Int) ^ 7 = 128 from rfl, show (2 : Int) ^ 8 = 256 from rfl, show (2 : Int) ^ 9 = 512 from rfl, show (2 : Int) ^ 10 = 1024 from rfl, show (2 : Int) ^ 11 = 2048 from rfl, show (2 : Int) ^ 12 = 4096 from rfl, show (2 : Int) ^ 13 = 8192 from rfl, show (2 : Int) ^ 14 = 16384 from rfl, show (2 : Int) ^ 15 = 32768 from rfl, show (2 : Int) ^ 16 = 65536 from rfl, show (2 : Int) ^ 17 = 131072 from rfl, show (2 : Int) ^ 18 = 262144 from rfl, show (2 : Int) ^ 19 = 524288 from rfl, show (2 : Int) ^ 20 = 1048576 from rfl]; repeat' split) <;> omega
  refine ⟨t, (t2 t).trans ?_⟩
  simp only [g0_7, g7_5, g12_3, g15_5, g20_5, g25_7]
  simp only [sxt_6, sxt_9, sxt_10, sxt_12, sxt_13, sxt_21, pSl, show (2 : Int) ^ 0 = 1 from rfl, show (2 : Int) ^ 1 = 2 from rfl, show (2 : Int) ^ 2 = 4 from rfl, show (2 : Int) ^ 3 = 8 from rfl, show (2 : Int) ^ 4 = 16 from rfl, show (2 : Int) ^ 5 = 32 from rfl, show (2 : Int) ^ 6 = 64 from rfl, show (2 : Int) ^ 7 = 128 from rfl, show (2 : Int) ^ 8 = 256 from rfl, show (2 : Int) ^ 9 = 512 from rfl, show (2 : Int) ^ 10 = 1024 from rfl, show (2 : Int) ^ 11 = 2048 from rfl, show (2 : Int) ^ 12 = 4096 from rfl, show (2 : Int) ^ 13 = 8192 from rfl, show (2 : Int) ^ 14 = 16384 from rfl, show (2 : Int) ^ 15 = 32768 from rfl, show (2 : Int) ^ 16 = 65536 from rfl, show (2 : Int) ^ 17 = 131072 from rfl, show (2 : Int) ^ 18 = 262144 from rfl, show (2 : Int) ^ 19 = 524288 from rfl, show (2 : Int) ^ 20 = 1048576 from rfl]
  refine j4e ?_ ?_ ?_ ?_
  all_goals first | rfl | (repeat' split) <;> omega
theorem pPut_34 (d a b i : Int) (h0 : 0 ≤ d ∧ d ≤ 31) (h1 : 0 ≤ a ∧ a ≤ 31) (h2 : 0 ≤ b ∧ b ≤ 31) : pTk 34 (pPut 34 (d, a, b, i)) = true ∧ pPt 34 (pPut 34 (d, a, b, i)) = (d, a, b, 0) := by
  obtain ⟨t1, t2⟩ := pTk_34 (pPut 34 (d, a, b, i))
  have g0_7 : pSl 0 7 (pPut 34 (d, a, b, i)) = 51 := pPut_fix 34 0 7 51 (d, a, b, i) (by decide) (by decide) (by decide +kernel)
  have g7_5 : pSl 7 5 (pPut 34 (d, a, b, i)) = pSl 0 5 d := pPut_part 34 7 5 100 (d, a, b, i) (by decide) (by decide) (by decide) (by decide) (by decide +kernel)
  have g12_3 : pSl 12 3 (pPut 34 (d, a, b, i)) = 5 := pPut_fix 34 12 3 5 (d, a, b, i) (by decide) (by decide) (by decide +kernel)
  have g15_5 : pSl 15 5 (pPut 34 (d, a, b, i)) = pSl 0 5 a := pPut_part 34 15 5 200 (d, a, b, i) (by decide) (by decide) (by decide) (by decide) (by decide +kernel)
  have g20_5 : pSl 20 5 (pPut 34 (d, a, b, i)) = pSl 0 5 b := pPut_part 34 20 5 300 (d, a, b, i) (by decide) (by decide) (by decide) (by decide) (by decide +kernel)
  have g25_7 : pSl 25 7 (pPut 34 (d, a, b, i)) = 32 := pPut_fix 34 25 7 32 (d, a, b, i) (by decide) (by decide) (by decide +kernel)
  generalize pPut 34 (d, a, b, i) = v at *
  have t : pTk 34 v = true := by
    refine t1.mpr ?_
    repeat' refine And.intro ?_ ?_
    all_goals first | assumption | (simp only [g0_7, g7_5, g12_3, g15_5, g20_5, g25_7]; simp only [sxt_6, sxt_9, sxt_10, sxt_12, sxt_13, sxt_21, pSl, show (2 : Int) ^ 0 = 1 from rfl, show (2 : Int) ^ 1 = 2 from rfl, show (2 : Int) ^ 2 = 4 from rfl, show (2 : Int) ^ 3 = 8 from rfl, show (2 : Int) ^ 4 = 16 from rfl, show (2 : Int) ^ 5 = 32 from rfl, show (2 : Int) ^ 6 = 64 from rfl, show (2 : Int) ^ 7 = 128 from rfl, show (2 : Int) ^ 8 = 256 from rfl, show (2 : Int) ^ 9 = 512 from rfl, show (2 : Int) ^ 10 = 1024 from rfl, show (2 : Int) ^ 11 = 2048 from rfl, show (2 : Int) ^ 12 = 4096 from rfl, show (2 : Int) ^ 13 = 8192 from rfl, show (2 : Int) ^ 14 = 16384 from rfl, show (2 : Int) ^ 15 = 32768 from rfl, show (2 : Int) ^ 16 = 65536 from rfl, show (2 : Int) ^ 17 = 131072 from rfl, show (2 : Int) ^ 18 = 262144 from rfl, show (2 : Int) ^ 19 = 524288 from rfl, show (2 : Int) ^ 20 = 1048576 from rfl]; repeat' split) <;> omega
  refine ⟨t, (t2 t).trans ?_⟩
  simp only [g0_7, g7_5, g12_3, g15_5, g20_5, g25_7]
  simp only [sxt_6, sxt_9, sxt_10, sxt_12, sxt_13, sxt_21, pSl, show (2 : Int) ^ 0 = 1 from rfl, show (2 : Int) ^ 1 = 2 from rfl, show (2 : Int) ^ 2 = 4 from rfl, show (2 : Int) ^ 3 = 8 from rfl, show (2 : Int) ^ 4 = 16 from rfl, show (2 : Int) ^ 5 = 32 from rfl, show (2 : Int) ^ 6 = 64 from rfl, show (2 : Int) ^ 7 = 128 from rfl, show (2 : Int) ^ 8 = 256 from rfl, show (2 : Int) ^ 9 = 512 from rfl, show (2 : Int) ^ 10 = 1024 from rfl, show (2 : Int) ^ 11 = 2048 from rfl, show (2 : Int) ^ 12 = 4096 from rfl, show (2 : Int) ^ 13 = 8192 from rfl, show (2 : Int) ^ 14 = 16384 from rfl, show (2 : Int) ^ 15 = 32768 from rfl, show (2 : Int) ^ 16 = 65536 from rfl, show (2 : Int) ^ 17 = 131072 from rfl, show (2 : Int) ^ 18 = 262144 from rfl, show (2 : Int) ^ 19 = 524288 from rfl, show (2 : Int) ^ 20 = 1048576 from rfl]
  refine j4e ?_ ?_ ?_ ?_
  all_goals first | rfl | (repeat' split) <;> omega
theorem pPut_35 (d a b i : Int) (h0 : 0 ≤ d ∧ d ≤ 31) (h1 : 0 ≤ a ∧ a ≤ 31) (h2 : 0 ≤ b ∧ b ≤ 31) : pTk 35 (pPut 35 (d, a, b, i)) = true ∧ pPt 35 (pPut 35 (d, a, b, i)) = (d, a, b, 0) := by
  obtain ⟨t1, t2⟩ := pTk_35 (pPut 35 (d, a, b, i))
  have g0_7 : pSl 0 7 (pPut 35 (d, a, b, i)) = 51 := pPut_fix 35 0 7 51 (d, a, b, i) (by decide) (by decide) (by decide +kernel)
  have g7_5 : pSl 7 5 (pPut 35 (d, a, b, i)) = pSl 0 5 d := pPut_part 35 7 5 100 (d, a, b, i) (by decide) (by decide) (by decide) (by decide) (by decide +kernel)
  have g12_3 : pSl 12 3 (pPut 35 (d, a, b, i)) = 6 := pPut_fix 35 12 3 6 (d, a, b, i) (by decide) (by decide) (by decide +kernel)
  have g15_5 : pSl 15 5 (pPut 35 (d, a, b, i)) = pSl 0 5 a := pPut_part 35 15 5 200 (d, a, b, i) (by decide) (by decide) (by decide) (by decide) (by decide +kernel)
  have g20_5 : pSl 20 5 (pPut 35 (d, a, b, i)) = pSl 0 5 b := pPut_part 35 20 5 300 (d, a, b, i) (by decide) (by decide) (by decide) (by decide) (by decide +kernel)
  have g25_7 : pSl 25 7 (pPut 35 (d, a, b, i)) = 0 := pPut_fix 35 25 7 0 (d, a, b, i) (by decide) (by decide) (by decide +kernel)
  generalize pPut 35 (d, a, b, i) = v at *
  have t : pTk 35 v = true := by
    refine t1.mpr ?_
    repeat' refine And.intro ?_ ?_
    all_goals first | assumption | (simp only [g0_7, g7_5, g12_3, g15_5, g20_5, g25_7]; simp only [sxt_6, sxt_9, sxt_10, sxt_12, sxt_13, sxt_21, pSl, show (2 : Int) ^ 0 = 1 from rfl, show (2 : Int) ^ 1 = 2 from rfl, show (2 : Int) ^ 2 = 4 from rfl, show (2 : Int) ^ 3 = 8 from rfl, show (2 : Int) ^ 4 = 16 from rfl, show (2 : Int) ^ 5 = 32 from rfl, show (2 : Int) ^ 6 = 64 from rfl, show (2 : Int) ^ 7 = 128 from rfl, show (2 : Int) ^ 8 = 256 from rfl, show (2 : Int) ^ 9 = 512 from rfl, show (2 : Int) ^ 10 = 1024 from rfl, show (2 : Int) ^ 11 = 2048 from rfl, show (2 : Int) ^ 12 = 4096 from rfl, show (2 : Int) ^ 13 = 8192 from rfl, show (2 : Int) ^ 14 = 16384 from rfl, show (2 : Int) ^ 15 = 32768 from rfl, show (2 : Int) ^ 16 = 65536 from rfl, show (2 : Int) ^ 17 = 131072 from rfl, show (2 : Int) ^ 18 = 262144 from rfl, show (2 : Int) ^ 19 = 524288 from rfl, show (2 : Int) ^ 20 = 1048576 from rfl]; repeat' split) <;> omega
  refine ⟨t, (t2 t).trans ?_⟩
  simp only [g0_7, g7_5, g12_3, g15_5, g20_5, g25_7]
  simp only [sxt_6, sxt_9, sxt_10, sxt_12, sxt_13, sxt_21, pSl, show (2 : Int) ^ 0 = 1 from rfl, show (2 : Int) ^ 1 = 2 from rfl, show (2 : Int) ^ 2 = 4 from rfl, show (2 : Int) ^ 3 = 8 from rfl, show (2 : Int) ^ 4 = 16 from rfl, show (2 : Int) ^ 5 = 32 from rfl, show (2 : Int) ^ 6 = 64 from rfl, show (2 : Int) ^ 7 = 128 from rfl, show (2 : Int) ^ 8 = 256 from rfl, show (2 : Int) ^ 9 = 512 from rfl, show (2 : Int) ^ 10 = 1024 from rfl, show (2 : Int) ^ 11 = 2048 from rfl, show (2 : Int) ^ 12 = 4096 from rfl, show (2 : Int) ^ 13 = 8192 from rfl, show (2 : Int) ^ 14 = 16384 from rfl, show (2 : Int) ^ 15 = 32768 from rfl, show (2 : Int) ^ 16 = 65536 from rfl, show (2 : Int) ^ 17 = 131072 from rfl, show (2 : Int) ^ 18 = 262144 from rfl, show (2 : Int) ^ 19 = 524288 from rfl, show (2 : Int) ^ 20 = 1048576 from rfl]
  refine j4e ?_ ?_ ?_ ?_
  all_goals first | rfl | (repeat' split) <;> omega
theorem pPut_36 (d a b i : Int) (h0 : 0 ≤ d ∧ d ≤ 31) (h1 : 0 ≤ a ∧ a ≤ 31) (h2 : 0 ≤ b ∧ b ≤ 31) : pTk 36 (pPut 36 (d, a, b, i)) = true ∧ pPt 36 (pPut 36 (d, a, b, i)) = (d, a, b, 0) := by
  obtain ⟨t1, t2⟩ := pTk_36 (pPut 36 (d, a, b, i))
  have g0_7 : pSl 0 7 (pPut 36 (d, a, b, i)) = 51 := pPut_fix 36 0 7 51 (d, a, b, i) (by decide) (by decide) (by decide +kernel)
  have g7_5 : pSl 7 5 (pPut 36 (d, a, b, i)) = pSl 0 5 d := pPut_part 36 7 5 100 (d, a, b, i) (by decide) (by decide) (by decide) (by decide) (by decide +kernel)
  have g12_3 : pSl 12 3 (pPut 36 (d, a, b, i)) = 7 := pPut_fix 36 12 3 7 (d, a, b, i) (by decide) (by decide) (by decide +kernel)
  have g15_5 : pSl 15 5 (pPut 36 (d, a, b, i)) = pSl 0 5 a := pPut_part 36 15 5 200 (d, a, b, i) (by decide) (by decide) (by decide) (by decide) (by decide +kernel)
  have g20_5 : pSl 20 5 (pPut 36 (d, a, b, i)) = pSl 0 5 b := pPut_part 36 20 5 300 (d, a, b, i) (by decide) (by decide) (by decide) (by decide) (by decide +kernel)
  have g25_7 : pSl 25 7 (pPut 36 (d, a, b, i)) = 0 := pPut_fix 36 25 7 0 (d, a, b, i) (by decide) (by decide) (by decide +kernel)
  generalize pPut 36 (d, a, b, i) = v at *
  have t : pTk 36 v = true := by
    refine t1.mpr ?_
    repeat' refine And.intro ?_ ?_
    all_goals first | assumption | (simp only [g0_7, g7_5, g12_3, g15_5, g20_5, g25_7]; simp only [sxt_6, sxt_9, sxt_10, sxt_12, sxt_13, sxt_21, pSl, show (2 : Int) ^ 0 = 1 from rfl, show (2 : Int) ^ 1 = 2 from rfl, show (2 : Int) ^ 2 = 4 from rfl, show (2 : Int) ^ 3 = 8 from rfl, show (2 : Int) ^ 4 = 16 from rfl, show (2 : Int) ^ 5 = 32 from rfl, show (2 : Int) ^ 6 = 64 from rfl, show (2 : Int) ^ 7 = 128 from rfl, show (2 : Int) ^ 8 = 256 from rfl, show (2 : Int) ^ 9 = 512 from rfl, show (2 : Int) ^ 10 = 1024 from rfl, show (2 : Int) ^ 11 = 2048 from rfl, show (2 : Int) ^ 12 = 4096 from rfl, show (2 : Int) ^ 13 = 8192 from rfl, show (2 : Int) ^ 14 = 16384 from rfl, show (2 : Int) ^ 15 = 32768 from rfl, show (2 : Int) ^ 16 = 65536 from rfl, show (2 : Int) ^ 17 = 131072 from rfl, show (2 : Int) ^ 18 = 262144 from rfl, show (2 : Int) ^ 19 = 524288 from rfl, show (2 : Int) ^ 20 = 1048576 from rfl]; repeat' split) <;> omega
  refine ⟨t, (t2 t).trans ?_⟩
  simp only [g0_7, g7_5, g12_3, g15_5, g20_5, g25_7]
  simp only [sxt_6, sxt_9, sxt_10, sxt_12, sxt_13, sxt_21, pSl, show (2 : Int) ^ 0 = 1 from rfl, show (2 : Int) ^ 1 = 2 from rfl, show (2 : Int) ^ 2 = 4 from rfl, show (2 : Int) ^ 3 = 8 from rfl, show (2 : Int) ^ 4 = 16 from rfl, show (2 : Int) ^ 5 = 32 from rfl, show (2 : Int) ^ 6 = 64 from rfl, show (2 : Int) ^ 7 = 128 from rfl, show (2 : Int) ^ 8 = 256 from rfl, show (2 : Int) ^ 9 = 512 from rfl, show (2 : Int) ^ 10 = 1024 from rfl, show (2 : Int) ^ 11 = 2048 from rfl, show (2 : Int) ^ 12 = 4096 from rfl, show (2 : Int) ^ 13 = 8192 from rfl, show (2 : Int) ^ 14 = 16384 from rfl, show (2 : Int) ^ 15 = 32768 from rfl, show (2 : Int) ^ 16 = 65536 from rfl, show (2 : Int) ^ 17 = 131072 from rfl, show (2 : Int) ^ 18 = 262144 from rfl, show (2 : Int) ^ 19 = 524288 from rfl, show (2 : Int) ^ 20 = 1048576 from rfl]
  refine j4e ?_ ?_ ?_ ?_
  all_goals first | rfl | (repeat' split) <;> omega
theorem pPut_37 (d a b i : Int) (h0 : 0 ≤ d ∧ d ≤ 31) (h1 : 0 ≤ a ∧ a ≤ 31) (h2 : 0 ≤ b ∧ b ≤ 31) : pTk 37 (pPut 37 (d, a, b, i)) = true ∧ pPt 37 (pPut 37 (d, a, b, i)) = (d, a, b, 0) := by
  obtain ⟨t1, t2⟩ := pTk_37 (pPut 37 (d, a, b, i))
  have g0_7 : pSl 0 7 (pPut 37 (d, a, b, i)) = 51 := pPut_fix 37 0 7 51 (d, a, b, i) (by decide) (by decide) (by decide +kernel)
  have g7_5 : pSl 7 5 (pPut 37 (d, a, b, i)) = pSl 0 5 d := pPut_part 37 7 5 100 (d, a, b, i) (by decide) (by decide) (by decide) (by decide) (by decide +kernel)
  have g12_3 : pSl 12 3 (pPut 37 (d, a, b, i)) = 0 := pPut_fix 37 12 3 0 (d, a, b, i) (by decide) (by decide) (by decide +kernel)
  have g15_5 : pSl 15 5 (pPut 37 (d, a, b, i)) = pSl 0 5 a := pPut_part 37 15 5 200 (d, a, b, i) (by decide) (by decide) (by decide) (by decide) (by decide +kernel)
  have g20_5 : pSl 20 5 (pPut 37 (d, a, b, i)) = pSl 0 5 b := pPut_part 37 20 5 300 (d, a, b, i) (by decide) (by decide) (by decide) (by decide) (by decide +kernel)
  have g25_7 : pSl 25 7 (pPut 37 (d, a, b, i)) = 1 := pPut_fix 37 25 7 1 (d, a, b, i) (by decide) (by decide) (by decide +kernel)
  generalize pPut 37 (d, a, b, i) = v at *
  have t : pTk 37 v = true := by
    refine t1.mpr ?_
    repeat' refine And.intro ?_ ?_
    all_goals first | assumption | (simp only [g0_7, g7_5, g12_3, g15_5, g20_5, g25_7]; simp only [sxt_6, sxt_9, sxt_10, sxt_12, sxt_13, sxt_21, pSl, show (2 : Int) ^ 0 = 1 from rfl, show (2 : Int) ^ 1 = 2 from rfl, show (2 : Int) ^ 2 = 4 from rfl, show (2 : Int) ^ 3 = 8 from rfl, show (2 : Int) ^ 4 = 16 from rfl, show (2 : Int) ^ 5 = 32 from rfl, show (2 : Int) ^ 6 = 64 from rfl, show (2 : Int) ^ 7 = 128 from rfl, show (2 : Int) ^ 8 = 256 from rfl, show (2 : Int) ^ 9 = 512 from rfl, show (2 : Int) ^ 10 = 1024 from rfl, show (2 : Int) ^ 11 = 2048 from rfl, show (2 : Int) ^ 12 = 4096 from rfl, show (2 : Int) ^ 13 = 8192 from rfl, show (2 : Int) ^ 14 = 16384 from rfl, show (2 : Int) ^ 15 = 32768 from rfl, show (2 : Int) ^ 16 = 65536 from rfl, show (2 : Int) ^ 17 = 131072 from rfl, show (2 : Int) ^ 18 = 262144 from rfl, show (2 : Int) ^ 19 = 524288 from rfl, show (2 : Int) ^ 20 = 1048576 from rfl]; repeat' split) <;> omega
  refine ⟨t, (t2 t).trans ?_⟩
  simp only [g0_7, g7_5, g12_3, g15_5, g20_5, g25_7]
  simp only [sxt_6, sxt_9, sxt_10, sxt_12, sxt_13, sxt_21, pSl, show (2 : Int) ^ 0 = 1 from rfl, show (2 : Int) ^ 1 = 2 from rfl, show (2 : Int) ^ 2 = 4 from rfl, show (2 : Int) ^ 3 = 8 from rfl, show (2 : Int) ^ 4 = 16 from rfl, show (2 : Int) ^ 5 = 32 from rfl, show (2 : Int) ^ 6 = 64 from rfl, show (2 : Int) ^ 7 = 128 from rfl, show (2 : Int) ^ 8 = 256 from rfl, show (2 : Int) ^ 9 = 512 from rfl, show (2 : Int) ^ 10 = 1024 from rfl, show (2 : Int) ^ 11 = 2048 from rfl, show (2 : Int) ^ 12 = 4096 from rfl, show (2 : Int) ^ 13 = 8192 from rfl, show (2 : Int) ^ 14 = 16384 from rfl, show (2 : Int) ^ 15 = 32768 from rfl, show (2 : Int) ^ 16 = 65536 from rfl, show (2 : Int) ^ 17 = 131072 from rfl, show (2 : Int) ^ 18 = 262144 from rfl, show (2 : Int) ^ 19 = 524288 from rfl, show (2 : Int) ^ 20 = 1048576 from rfl]
  refine j4e ?_ ?_ ?_ ?_
  all_goals first | rfl | (repeat' split) <;> omega
theorem pPut_38 (d a b i : Int) (h0 : 0 ≤ d ∧ d ≤ 31) (h1 : 0 ≤ a ∧ a ≤ 31) (h2 : 0 ≤ b ∧ b ≤ 31) : pTk 38 (pPut 38 (d, a, b, i)) = true ∧ pPt 38 (pPut 38 (d, a, b, i)) = (d, a, b, 0) := by
  obtain ⟨t1, t2⟩ := pTk_38 (pPut 38 (d, a, b, i))
  have g0_7 : pSl 0 7 (pPut 38 (d, a, b, i)) = 51 := pPut_fix 38 0 7 51 (d, a, b, i) (by decide) (by decide) (by decide +kernel)
  have g7_5 : pSl 7 5 (pPut 38 (d, a, b, i)) = pSl 0 5 d := pPut_part 38 7 5 100 (d, a, b, i) (by decide) (by decide) (by decide) (by decide) (by decide +kernel)
  have g12_3 : pSl 12 3 (pPut 38 (d, a, b, i)) = 1 := pPut_fix 38 12 3 1 (d, a, b, i) (by decide) (by decide) (by decide +kernel)
  have g15_5 : pSl 15 5 (pPut 38 (d, a, b, i)) = pSl 0 5 a := pPut_part 38 15 5 200 (d, a, b, i) (by decide) (by decide) (by decide) (by decide) (by decide +kernel)
  have g20_5 : pSl 20 5 (pPut 38 (d, a, b, i)) = pSl 0 5 b := pPut_part 38 20 5 300 (d, a, b, i) (by decide) (by decide) (by decide) (by decide) (by decide +kernel)
  have g25_7 : pSl 25 7 (pPut 38 (d, a, b, i)) = 1 := pPut_fix 38 25 7 1 (d, a, b, i) (by decide) (by decide) (by decide +kernel)
  generalize pPut 38 (d, a, b, i) = v at *
  have t : pTk 38 v = true := by
    refine t1.mpr ?_
    repeat' refine And.intro ?_ ?_
    all_goals first | assumption | (simp only [g0_7, g7_5, g12_3, g15_5, g20_5, g25_7]; simp only [sxt_6, sxt_9, sxt_10, sxt_12, sxt_13, sxt_21, pSl, show (2 : Int) ^ 0 = 1 from rfl, show (2 : Int) ^ 1 = 2 from rfl, show (2 : Int) ^ 2 = 4 from rfl, show (2 : Int) ^ 3 = 8 from rfl, show (2 : Int) ^ 4 = 16 from rfl, show (2 : Int) ^ 5 = 32 from rfl, show (2 : Int) ^ 6 = 64 from rfl, show (2 : Int) ^ 7 = 128 from rfl, show (2 : Int) ^ 8 = 256 from rfl, show (2 : Int) ^ 9 = 512 from rfl, show (2 : Int) ^ 10 = 1024 from rfl, show (2 : Int) ^ 11 = 2048 from rfl, show (2 : Int) ^ 12 = 4096 from rfl, show (2 : Int) ^ 13 = 8192 from rfl, show (2 : Int) ^ 14 = 16384 from rfl, show (2 : Int) ^ 15 = 32768 from rfl, show (2 : Int) ^ 16 = 65536 from rfl, show (2 : Int) ^ 17 = 131072 from rfl, show (2 : Int) ^ 18 = 262144 from rfl, show (2 : Int) ^ 19 = 524288 from rfl, show (2 : Int) ^ 20 = 1048576 from rfl]; repeat' split) <;> omega
  refine ⟨t, (t2 t).trans ?_⟩
  simp only [g0_7, g7_5, g12_3, g15_5, g20_5, g25_7]
  simp only [sxt_6, sxt_9, sxt_10, sxt_12, sxt_13, sxt_21, pSl, show (2 : Int) ^ 0 = 1 from rfl, show (2 : Int) ^ 1 = 2 from rfl, show (2 : Int) ^ 2 = 4 from rfl, show (2 : Int) ^ 3 = 8 from rfl, show (2 : Int) ^ 4 = 16 from rfl, show (2 : Int) ^ 5 = 32 from rfl, show (2 : Int) ^ 6 = 64 from rfl, show (2 : Int) ^ 7 = 128 from rfl, show (2 : Int) ^ 8 = 256 from rfl, show (2 : Int) ^ 9 = 512 from rfl, show (2 : Int) ^ 10 = 1024 from rfl, show (2 : Int) ^ 11 = 2048 from rfl, show (2 : Int) ^ 12 = 4096 from rfl, show (2 : Int) ^ 13 = 8192 from rfl, show (2 : Int) ^ 14 = 16384 from rfl, show (2 : Int) ^ 15 = 32768 from rfl, show (2 : Int) ^ 16 = 65536 from rfl, show (2 : Int) ^ 17 = 131072 from rfl, show (2 : Int) ^ 18 = 262144 from rfl, show (2 : Int) ^ 19 = 524288 from rfl, show (2 : Int) ^ 20 = 1048576 from rfl]
  refine j4e ?_ ?_ ?_ ?_
  all_goals first | rfl | (repeat' split) <;> omega
theorem pPut_39 (d a b i : Int) (h0 : 0 ≤ d ∧ d ≤ 31) (h1 : 0 ≤ a ∧ a ≤ 31) (h2 : 0 ≤ b ∧ b ≤ 31) : pTk 39 (pPut 39 (d, a, b, i)) = true ∧ pPt 39 (pPut 39 (d, a, b, i)) = (d, a, b, 0) := by
  obtain ⟨t1, t2⟩ := pTk_39 (pPut 39 (d, a, b, i))
  have g0_7 : pSl 0 7 (pPut 39 (d, a, b, i)) = 51 := pPut_fix 39 0 7 51 (d, a, b, i) (by decide) (by decide) (by decide +kernel)
  have g7_5 : pSl 7 5 (pPut 39 (d, a, b, i)) = pSl 0 5 d := pPut_part 39 7 5 100 (d, a, b, i) (by decide) (by decide) (by decide) (by decide) (by decide +kernel)
  have g12_3 : pSl 12 3 (pPut 39 (d, a, b, i)) = 2 := pPut_fix 39 12 3 2 (d, a, b, i) (by decide) (by decide) (by decide +kernel)
  have g15_5 : pSl 15 5 (pPut 39 (d, a, b, i)) = pSl 0 5 a := pPut_part 39 15 5 200 (d, a, b, i) (by decide) (by decide) (by decide) (by decide) (by decide +kernel)
  have g20_5 : pSl 20 5 (pPut 39 (d, a, b, i)) = pSl 0 5 b := pPut_part 39 20 5 300 (d, a, b, i) (by decide) (by decide) (by decide) (by decide) (by decide +kernel)
  have g25_7 : pSl 25 7 (pPut 39 (d, a, b, i)) = 1 := pPut_fix 39 25 7 1 (d, a, b, i) (by decide) (by decide) (by decide +kernel)
  generalize pPut 39 (d, a, b, i) = v at *
  have t : pTk 39 v = true := by
    refine t1.mpr ?_
    repeat' refine And.intro ?_ ?_
    all_goals first | assumption | (simp only [g0_7, g7_5, g12_3, g15_5, g20_5, g25_7]; simp only [sxt_6, sxt_9, sxt_10, sxt_12, sxt_13, sxt_21, pSl, show (2 : Int) ^ 0 = 1 from rfl, show (2 : Int) ^ 1 = 2 from rfl, show (2 : Int) ^ 2 = 4 from rfl, show (2 : Int) ^ 3 = 8 from rfl, show (2 : Int) ^ 4 = 16 from rfl, show (2 : Int) ^ 5 = 32 from rfl, show (2 : Int) ^ 6 = 64 from rfl, show (2 : Int) ^ 7 = 128 from rfl, show (2 : Int) ^ 8 = 256 from rfl, show (2 : Int) ^ 9 = 512 from rfl, show (2 : Int) ^ 10 = 1024 from rfl, show (2 : Int) ^ 11 = 2048 from rfl, show (2 : Int) ^ 12 = 4096 from rfl, show (2 : Int) ^ 13 = 8192 from rfl, show (2 : Int) ^ 14 = 16384 from rfl, show (2 : Int) ^ 15 = 32768 from rfl, show (2 : Int) ^ 16 = 65536 from rfl, show (2 : Int) ^ 17 = 131072 from rfl, show (2 : Int) ^ 18 = 262144 from rfl, show (2 : Int) ^ 19 = 524288 from rfl, show (2 : Int) ^ 20 = 1048576 from rfl]; repeat' split) <;> omega
  refine ⟨t, (t2 t).trans ?_⟩
  simp only [g0_7, g7_5, g12_3, g15_5, g20_5, g25_7]
  simp only [sxt_6, sxt_9, sxt_10, sxt_12, sxt_13, sxt_21, pSl, show (2 : Int) ^ 0 = 1 from rfl, show (2 : Int) ^ 1 = 2 from rfl, show (2 : Int) ^ 2 = 4 from rfl, show (2 : Int) ^ 3 = 8 from rfl, show (2 : Int) ^ 4 = 16 from rfl, show (2 : Int) ^ 5 = 32 from rfl, show (2 : Int) ^ 6 = 64 from rfl, show (2 : Int) ^ 7 = 128 from rfl, show (2 : Int) ^ 8 = 256 from rfl, show (2 : Int) ^ 9 = 512 from rfl, show (2 : Int) ^ 10 = 1024 from rfl, show (2 : Int) ^ 11 = 2048 from rfl, show (2 : Int) ^ 12 = 4096 from rfl, show (2 : Int) ^ 13 = 8192 from rfl, show (2 : Int) ^ 14 = 16384 from rfl, show (2 : Int) ^ 15 = 32768 from rfl, show (2 : Int) ^ 16 = 65536 from rfl, show (2 : Int) ^ 17 = 131072 from rfl, show (2 : Int) ^ 18 = 262144 from rfl, show (2 : Int) ^ 19 = 524288 from rfl, show (2 : Int) ^ 20 = 1048576 from rfl]
  refine j4e ?_ ?_ ?_ ?_
  all_goals first | rfl | (repeat' split) <;> omega
theorem pPut_40 (d a b i : Int) (h0 : 0 ≤ d ∧ d ≤ 31) (h1 : 0 ≤ a ∧ a ≤ 31) (h2 : 0 ≤ b ∧ b ≤ 31) : pTk 40 (pPut 40 (d, a, b, i)) = true ∧ pPt 40 (pPut 40 (d, a, b, i)) = (d, a, b, 0) := by
  obtain ⟨t1, t2⟩ := pTk_40 (pPut 40 (d, a, b, i))
  have g0_7 : pSl 0 7 (pPut 40 (d, a, b, i)) = 51 := pPut_fix 40 0 7 51 (d, a, b, i) (by decide) (by decide) (by decide +kernel)
  have g7_5 : pSl 7 5 (pPut 40 (d, a, b, i)) = pSl 0 5 d := pPut_part 40 7 5 100 (d, a, b, i) (by decide) (by decide) (by decide) (by decide) (by decide +kernel)
  have g12_3 : pSl 12 3 (pPut 40 (d, a, b, i)) = 3 := pPut_fix 40 12 3 3 (d, a, b, i) (by decide) (by decide) (by decide +kernel)
  have g15_5 : pSl 15 5 (pPut 40 (d, a, b, i)) = pSl 0 5 a := pPut_part 40 15 5 200 (d, a, b, i) (by decide) (by decide) (by decide) (by decide) (by decide +kernel)
  have g20_5 : pSl 20 5 (pPut 40 (d, a, b, i)) = pSl 0 5 b := pPut_part 40 20 5 300 (d, a, b, i) (by decide) (by decide) (by decide) (by decide) (by decide +kernel)
  have g25_7 : pSl 25 7 (pPut 40 (d, a, b, i)) = 1 := pPut_fix 40 25 7 1 (d, a, b, i) (by decide) (by decide) (by decide +kernel)
  generalize pPut 40 (d, a, b, i) = v at *
  have t : pTk 40 v = true := by
    refine t1.mpr ?_
    repeat' refine And.intro ?_ ?_
    all_goals first | assumption | (simp only [g0_7, g7_5, g12_3, g15_5, g20_5, g25_7]; simp only [sxt_6, sxt_9, sxt_10, sxt_12, sxt_13, sxt_21, pSl, show (2 : Int) ^ 0 = 1 from rfl, show (2 : Int) ^ 1 = 2 from rfl, show (2 : Int) ^ 2 = 4 from rfl, show (2 : Int) ^ 3 = 8 from rfl, show (2 : Int) ^ 4 = 16 from rfl, show (2 : Int) ^ 5 = 32 from rfl, show (2 : Int) ^ 6 = 64 from rfl, show (2 : Int) ^ 7 = 128 from rfl, show (2 : Int) ^ 8 = 256 from rfl, show (2 : Int) ^ 9 = 512 from rfl, show (2 : Int) ^ 10 = 1024 from rfl, show (2 : Int) ^ 11 = 2048 from rfl, show (2 : Int) ^ 12 = 4096 from rfl, show (2 : Int) ^ 13 = 8192 from rfl, show (2 : Int) ^ 14 = 16384 from rfl, show (2 : Int) ^ 15 = 32768 from rfl, show (2 : Int) ^ 16 = 65536 from rfl, show (2 : Int) ^ 17 = 131072 from rfl, show (2 : Int) ^ 18 = 262144 from rfl, show (2 : Int) ^ 19 = 524288 from rfl, show (2 : Int) ^ 20 = 1048576 from rfl]; repeat' split) <;> omega
  refine ⟨t, (t2 t).trans ?_⟩
  simp only [g0_7, g7_5, g12_3, g15_5, g20_5, g25_7]
  simp only [sxt_6, sxt_9, sxt_10, sxt_12, sxt_13, sxt_21, pSl, show (2 : Int) ^ 0 = 1 from rfl, show (2 : Int) ^ 1 = 2 from rfl, show (2 : Int) ^ 2 = 4 from rfl, show (2 : Int) ^ 3 = 8 from rfl, show (2 : Int) ^ 4 = 16 from rfl, show (2 : Int) ^ 5 = 32 from rfl, show (2 : Int) ^ 6 = 64 from rfl, show (2 : Int) ^ 7 = 128 from rfl, show (2 : Int) ^ 8 = 256 from rfl, show (2 : Int) ^ 9 = 512 from rfl, show (2 : Int) ^ 10 = 1024 from rfl, show (2 : Int) ^ 11 = 2048 from rfl, show (2 : Int) ^ 12 = 4096 from rfl, show (2 : Int) ^ 13 = 8192 from rfl, show (2 : Int) ^ 14 = 16384 from rfl, show (2 : Int) ^ 15 = 32768 from rfl, show (2 : Int) ^ 16 = 65536 from rfl, show (2 : Int) ^ 17 = 131072 from rfl, show (2 : Int) ^ 18 = 262144 from rfl, show (2 : Int) ^ 19 = 524288 from rfl, show (2 : Int) ^ 20 = 1048576 from rfl]
  refine j4e ?_ ?_ ?_ ?_
  all_goals first | rfl | (repeat' split) <;> omega
theorem pPut_41 (d a b i : Int) (h0 : 0 ≤ d ∧ d ≤ 31) (h1 : 0 ≤ a ∧ a ≤ 31) (h2 : 0 ≤ b ∧ b ≤ 31) : pTk 41 (pPut 41 (d, a, b, i)) = true ∧ pPt 41 (pPut 41 (d, a, b, i)) = (d, a, b, 0) := by
  obtain ⟨t1, t2⟩ := pTk_41 (pPut 41 (d, a, b, i))
  have g0_7 : pSl 0 7 (pPut 41 (d, a, b, i)) = 51 := pPut_fix 41 0 7 51 (d, a, b, i) (by decide) (by decide) (by decide +kernel)
  have g7_5 : pSl 7 5 (pPut 41 (d, a, b, i)) = pSl 0 5 d := pPut_part 41 7 5 100 (d, a, b, i) (by decide) (by decide) (by decide) (by decide) (by decide +kernel)
  have g12_3 : pSl 12 3 (pPut 41 (d, a, b, i)) = 4 := pPut_fix 41 12 3 4 (d, a, b, i) (by decide) (by decide) (by decide +kernel)
  have g15_5 : pSl 15 5 (pPut 41 (d, a, b, i)) = pSl 0 5 a := pPut_part 41 15 5 200 (d, a, b, i) (by decide) (by decide) (by decide) (by decide) (by decide +kernel)
  have g20_5 : pSl 20 5 (pPut 41 (d, a, b, i)) = pSl 0 5 b := pPut_part 41 20 5 300 (d, a, b, i) (by decide) (by decide) (by decide) (by decide) (by decide +kernel)
  have g25_7 : pSl 25 7 (pPut 41 (d, a, b, i)) = 1 := pPut_fix 41 25 7 1 (d, a, b, i) (by decide) (by decide) (by decide +kernel)
  generalize pPut 41 (d, a, b, i) = v at *
  have t : pTk 41 v = true := by
    refine t1.mpr ?_
    repeat' refine And.intro ?_ ?_
    all_goals first | assumption | (simp only [g0_7, g7_5, g12_3, g15_5, g20_5, g25_7]; simp only [sxt_6, sxt_9, sxt_10, sxt_12, sxt_13, sxt_21, pSl, show (2 : Int) ^ 0 = 1 from rfl, show (2 : Int) ^ 1 = 2 from rfl, show (2 : Int) ^ 2 = 4 from rfl, show (2 : Int) ^ 3 = 8 from rfl, show (2 : Int) ^ 4 = 16 from rfl, show (2 : Int) ^ 5 = 32 from rfl, show (2 : Int) ^ 6 = 64 from rfl, show (2 : Int) ^ 7 = 128 from rfl, show (2 : Int) ^ 8 = 256 from rfl, show (2 : Int) ^ 9 = 512 from rfl, show (2 : Int) ^ 10 = 1024 from rfl, show (2 : Int) ^ 11 = 2048 from rfl, show (2 : Int) ^ 12 = 4096 from rfl, show (2 : Int) ^ 13 = 8192 from rfl, show (2 : Int) ^ 14 = 16384 from rfl, show (2 : Int) ^ 15 = 32768 from rfl, show (2 : Int) ^ 16 = 65536 from rfl, show (2 : Int) ^ 17 = 131072 from rfl, show (2 : Int) ^ 18 = 262144 from rfl, show (2 : Int) ^ 19 = 524288 from rfl, show (2 : Int) ^ 20 = 1048576 from rfl]; repeat' split) <;> omega
  refine ⟨t, (t2 t).trans ?_⟩
  simp only [g0_7, g7_5, g12_3, g15_5, g20_5, g25_7]
  simp only [sxt_6, sxt_9, sxt_10, sxt_12, sxt_13, sxt_21, pSl, show (2 : Int) ^ 0 = 1 from rfl, show (2 : Int) ^ 1 = 2 from rfl, show (2 : Int) ^ 2 = 4 from rfl, show (2 : Int) ^ 3 = 8 from rfl, show (2 : Int) ^ 4 = 16 from rfl, show (2 : Int) ^ 5 = 32 from rfl, show (2 : Int) ^ 6 = 64 from rfl, show (2 : Int) ^ 7 = 128 from rfl, show (2 : Int) ^ 8 = 256 from rfl, show (2 : Int) ^ 9 = 512 from rfl, show (2 : Int) ^ 10 = 1024 from rfl, show (2 : Int) ^ 11 = 2048 from rfl, show (2 : Int) ^ 12 = 4096 from rfl, show (2 : Int) ^ 13 = 8192 from rfl, show (2 : Int) ^ 14 = 16384 from rfl, show (2 : Int) ^ 15 = 32768 from rfl, show (2 : Int) ^ 16 = 65536 from rfl, show (2 : Int) ^ 17 = 131072 from rfl, show (2 : Int) ^ 18 = 262144 from rfl, show (2 : Int) ^ 19 = 524288 from rfl, show (2 : Int) ^ 20 = 1048576 from rfl]
  refine j4e ?_ ?_ ?_ ?_
  all_goals first | rfl | (repeat' split) <;> omega
theorem pPut_42 (d a b i : Int) (h0 : 0 ≤ d ∧ d ≤ 31) (h1 : 0 ≤ a ∧ a ≤ 31) (h2 : 0 ≤ b ∧ b ≤ 31) : pTk 42 (pPut 42 (d, a, b, i)) = true ∧ pPt 42 (pPut 42 (d, a, b, i)) = (d, a, b, 0) := by
  obtain ⟨t1, t2⟩ := pTk_42 (pPut 42 (d, a, b, i))
  have g0_7 : pSl 0 7 (pPut 42 (d, a, b, i)) = 51 := pPut_fix 42 0 7 51 (d, a, b, i) (by decide) (by decide) (by decide +kernel)
  have g7_5 : pSl 7 5 (pPut 42 (d, a, b, i)) = pSl 0 5 d := pPut_part 42 7 5 100 (d, a, b, i) (by decide) (by decide) (by decide) (by decide) (by decide +kernel)
  have g12_3 : pSl 12 3 (pPut 42 (d, a, b, i)) = 5 := pPut_fix 42 12 3 5 (d, a, b, i) (by decide) (by decide) (by decide +kernel)
  have g15_5 : pSl 15 5 (pPut 42 (d, a, b, i)) = pSl 0 5 a := pPut_part 42 15 5 200 (d, a, b, i) (by decide) (by decide) (by decide) (by decide) (by decide +kernel)
  have g20_5 : pSl 20 5 (pPut 42 (d, a, b, i)) = pSl 0 5 b := pPut_part 42 20 5 300 (d, a, b, i) (by decide) (by decide) (by decide) (by decide) (by decide +kernel)
  have g25_7 : pSl 25 7 (pPut 42 (d, a, b, i)) = 1 := pPut_fix 42 25 7 1 (d, a, b, i) (by decide) (by decide) (by decide +kernel)
  generalize pPut 42 (d, a, b, i) = v at *
  have t : pTk 42 v = true := by
    refine t1.mpr ?_
    repeat' refine And.intro ?_ ?_
    all_goals first | assumption | (simp only [g0_7, g7_5, g12_3, g15_5, g20_5, g25_7]; simp only [sxt_6, sxt_9, sxt_10, sxt_12, sxt_13, sxt_21, pSl, show (2 : Int) ^ 0 = 1 from rfl, show (2 : Int) ^ 1 = 2 from rfl, show (2 : Int) ^ 2 = 4 from rfl, show (2 : Int) ^ 3 = 8 from rfl, show (2 : Int) ^ 4 = 16 from rfl, show (2 : Int) ^ 5 = 32 from rfl, show (2 : Int) ^ 6 = 64 from rfl, show (2 : Int) ^ 7 = 128 from rfl, show (2 : Int) ^ 8 = 256 from rfl, show (2 : Int) ^ 9 = 512 from rfl, show (2 : Int) ^ 10 = 1024 from rfl, show (2 : Int) ^ 11 = 2048 from rfl, show (2 : Int) ^ 12 = 4096 from rfl, show (2 : Int) ^ 13 = 8192 from rfl, show (2 : Int) ^ 14 = 16384 from rfl, show (2 : Int) ^ 15 = 32768 from rfl, show (2 : Int) ^ 16 = 65536 from rfl, show (2 : Int) ^ 17 = 131072 from rfl, show (2 : Int) ^ 18 = 262144 from rfl, show (2 : Int) ^ 19 = 524288 from rfl, show (2 : Int) ^ 20 = 1048576 from rfl]; repeat' split) <;> omega
  refine ⟨t, (t2 t).trans ?_⟩
  simp only [g0_7, g7_5, g12_3, g15_5, g20_5, g25_7]
  simp only [sxt_6, sxt_9, sxt_10, sxt_12, sxt_13, sxt_21, pSl, show (2 : Int) ^ 0 = 1 from rfl, show (2 : Int) ^ 1 = 2 from rfl, show (2 : Int) ^ 2 = 4 from rfl, show (2 : Int) ^ 3 = 8 from rfl, show (2 : Int) ^ 4 = 16 from rfl, show (2 : Int) ^ 5 = 32 from rfl, show (2 : Int) ^ 6 = 64 from rfl, show (2 : Int) ^ 7 = 128 from rfl, show (2 : Int) ^ 8 = 256 from rfl, show (2 : Int) ^ 9 = 512 from rfl, show (2 : Int) ^ 10 = 1024 from rfl, show (2 : Int) ^ 11 = 2048 from rfl, show (2 : Int) ^ 12 = 4096 from rfl, show (2 : Int) ^ 13 = 8192 from rfl, show (2 : Int) ^ 14 = 16384 from rfl, show (2 : Int) ^ 15 = 32768 from rfl, show (2 : Int) ^ 16 = 65536 from rfl, show (2 : Int) ^ 17 = 131072 from rfl, show (2 : Int) ^ 18 = 262144 from rfl, show (2 : Int) ^ 19 = 524288 from rfl, show (2 : Int) ^ 20 = 1048576 from rfl]
  refine j4e ?_ ?_ ?_ ?_
  all_goals first | rfl | (repeat' split) <;> omega
theorem pPut_43 (d a b i : Int) (h0 : 0 ≤ d ∧ d ≤ 31) (h1 : 0 ≤ a ∧ a ≤ 31) (h2 : 0 ≤ b ∧ b ≤ 31) : pTk 43 (pPut 43 (d, a, b, i)) = true ∧ pPt 43 (pPut 43 (d, a, b, i)) = (d, a, b, 0) := by
  obtain ⟨t1, t2⟩ := pTk_43 (pPut 43 (d, a, b, i))
  have g0_7 : pSl 0 7 (pPut 43 (d, a, b, i)) = 51 := pPut_fix 43 0 7 51 (d, a, b, i) (by decide) (by decide) (by decide +kernel)
  have g7_5 : pSl 7 5 (pPut 43 (d, a, b, i)) = pSl 0 5 d := pPut_part 43 7 5 100 (d, a, b, i) (by decide) (by decide) (by decide) (by decide) (by decide +kernel)
  have g12_3 : pSl 12 3 (pPut 43 (d, a, b, i)) = 6 := pPut_fix 43 12 3 6 (d, a, b, i) (by decide) (by decide) (by decide +kernel)
  have g15_5 : pSl 15 5 (pPut 43 (d, a, b, i)) = pSl 0 5 a := pPut_part 43 15 5 200 (d, a, b, i) (by decide) (by decide) (by decide) (by decide) (by decide +kernel)
  have g20_5 : pSl 20 5 (pPut 43 (d, a, b, i)) = pSl 0 5 b := pPut_part 43 20 5 300 (d, a, b, i) (by decide) (by decide) (by decide) (by decide) (by decide +kernel)
  have g25_7 : pSl 25 7 (pPut 43 (d, a, b, i)) = 1 := pPut_fix 43 25 7 1 (d, a, b, i) (by decide) (by decide) (by decide +kernel)
  generalize pPut 43 (d, a, b, i) = v at *
  have t : pTk 43 v = true := by
    refine t1.mpr ?_
    repeat' refine And.intro ?_ ?_
    all_goals first | assumption | (simp only [g0_7, g7_5, g12_3, g15_5, g20_5, g25_7]; simp only [sxt_6, sxt_9, sxt_10, sxt_12, sxt_13, sxt_21, pSl, show (2 : Int) ^ 0 = 1 from rfl, show (2 : Int) ^ 1 = 2 from rfl, show (2 : Int) ^ 2 = 4 from rfl, show (2 : Int) ^ 3 = 8 from rfl, show (2 : Int) ^ 4 = 16 from rfl, show (2 : Int) ^ 5 = 32 from rfl, show (2 : Int) ^ 6 = 64 from rfl, show (2 : Int) ^ 7 = 128 from rfl, show (2 : Int) ^ 8 = 256 from rfl, show (2 : Int) ^ 9 = 512 from rfl, show (2 : Int) ^ 10 = 1024 from rfl, show (2 : Int) ^ 11 = 2048 from rfl, show (2 : Int) ^ 12 = 4096 from rfl, show (2 : Int) ^ 13 = 8192 from rfl, show (2 : Int) ^ 14 = 16384 from rfl, show (2 : Int) ^ 15 = 32768 from rfl, show (2 : Int) ^ 16 = 65536 from rfl, show (2 : Int) ^ 17 = 131072 from rfl, show (2 : Int) ^ 18 = 262144 from rfl, show (2 : Int) ^ 19 = 524288 from rfl, show (2 : Int) ^ 20 = 1048576 from rfl]; repeat' split) <;> omega
  refine ⟨t, (t2 t).trans ?_⟩
  simp only [g0_7, g7_5, g12_3, g15_5, g20_5, g25_7]
  simp only [sxt_6, sxt_9, sxt_10, sxt_12, sxt_13, sxt_21, pSl, show (2 : Int) ^ 0 = 1 from rfl, show (2 : Int) ^ 1 = 2 from rfl, show (2 : Int) ^ 2 = 4 from rfl, show (2 : Int) ^ 3 = 8 from rfl, show (2 : Int) ^ 4 = 16 from rfl, show (2 : Int) ^ 5 = 32 from rfl, show (2 : Int) ^ 6 = 64 from rfl, show (2 : Int) ^ 7 = 128 from rfl, show (2 : Int) ^ 8 = 256 from rfl, show (2 : Int) ^ 9 = 512 from rfl, show (2 : Int) ^ 10 = 1024 from rfl, show (2 : Int) ^ 11 = 2048 from rfl, show (2 : Int) ^ 12 = 4096 from rfl, show (2 : Int) ^ 13 = 8192 from rfl, show (2 : Int) ^ 14 = 16384 from rfl, show (2 : Int) ^ 15 = 32768 from rfl, show (2 : Int) ^ 16 = 65536 from rfl, show (2 : Int) ^ 17 = 131072 from rfl, show (2 : Int) ^ 18 = 262144 from rfl, show (2 : Int) ^ 19 = 524288 from rfl, show (2 : Int) ^ 20 = 1048576 from rfl]
  refine j4e ?_ ?_ ?_ ?_
  all_goals first | rfl | (repeat' split) <;> omega
theorem pPut_44 (d a b i : Int) (h0 : 0 ≤ d ∧ d ≤ 31) (h1 : 0 ≤ a ∧ a ≤ 31) (h2 : 0 ≤ b ∧ b ≤ 31) : pTk 44 (pPut 44 (d, a, b, i)) = true ∧ pPt 44 (pPut 44 (d, a, b, i)) = (d, a, b, 0) := by
  obtain ⟨t1, t2⟩ := pTk_44 (pPut 44 (d, a, b, i))
  have g0_7 : pSl 0 7 (pPut 44 (d, a, b, i)) = 51 := pPut_fix 44 0 7 51 (d, a, b, i) (by decide) (by decide) (by decide +kernel)
  have g7_5 : pSl 7 5 (pPut 44 (d, a, b, i)) = pSl 0 5 d := pPut_part 44 7 5 100 (d, a, b, i) (by decide) (by decide) (by decide) (by decide) (by decide +kernel)
  have g12_3 : pSl 12 3 (pPut 44 (d, a, b, i)) = 7 := pPut_fix 44 12 3 7 (d, a, b, i) (by decide) (by decide) (by decide +kernel)
  have g15_5 : pSl 15 5 (pPut 44 (d, a, b, i)) = pSl 0 5 a := pPut_part 44 15 5 200 (d, a, b, i) (by decide) (by decide) (by decide) (by decide) (by decide +kernel)
  have g20_5 : pSl 20 5 (pPut 44 (d, a, b, i)) = pSl 0 5 b := pPut_part 44 20 5 300 (d, a, b, i) (by decide) (by decide) (by decide) (by decide) (by decide +kernel)
  have g25_7 : pSl 25 7 (pPut 44 (d, a, b, i)) = 1 := pPut_fix 44 25 7 1 (d, a, b, i) (by decide) (by decide) (by decide +kernel)
  generalize pPut 44 (d, a, b, i) = v at *
  have t : pTk 44 v = true := by
    refine t1.mpr ?_
    repeat' refine And.intro ?_ ?_
    all_goals first | assumption | (simp only [g0_7, g7_5, g12_3, g15_5, g20_5, g25_7]; simp only [sxt_6, sxt_9, sxt_10, sxt_12, sxt_13, sxt_21, pSl, show (2 : Int) ^ 0 = 1 from rfl, show (2 : Int) ^ 1 = 2 from rfl, show (2 : Int) ^ 2 = 4 from rfl, show (2 : Int) ^ 3 = 8 from rfl, show (2 : Int) ^ 4 = 16 from rfl, show (2 : Int) ^ 5 = 32 from rfl, show (2 : Int) ^ 6 = 64 from rfl, show (2 : Int) ^ 7 = 128 from rfl, show (2 : Int) ^ 8 = 256 from rfl, show (2 : Int) ^ 9 = 512 from rfl, show (2 : Int) ^ 10 = 1024 from rfl, show (2 : Int) ^ 11 = 2048 from rfl, show (2 : Int) ^ 12 = 4096 from rfl, show (2 : Int) ^ 13 = 8192 from rfl, show (2 : Int) ^ 14 = 16384 from rfl, show (2 : Int) ^ 15 = 32768 from rfl, show (2 : Int) ^ 16 = 65536 from rfl, show (2 : Int) ^ 17 = 131072 from rfl, show (2 : Int) ^ 18 = 262144 from rfl, show (2 : Int) ^ 19 = 524288 from rfl, show (2 : Int) ^ 20 = 1048576 from rfl]; repeat' split) <;> omega
  refine ⟨t, (t2 t).trans ?_⟩
  simp only [g0_7, g7_5, g12_3, g15_5, g20_5, g25_7]
  simp only [sxt_6, sxt_9, sxt_10, sxt_12, sxt_13, sxt_21, pSl, show (2 : Int) ^ 0 = 1 from rfl, show (2 : Int) ^ 1 = 2 from rfl, show (2 : Int) ^ 2 = 4 from rfl, show (2 : Int) ^ 3 = 8 from rfl, show (2 : Int) ^ 4 = 16 from rfl, show (2 : Int) ^ 5 = 32 from rfl, show (2 : Int) ^ 6 = 64 from rfl, show (2 : Int) ^ 7 = 128 from rfl, show (2 : Int) ^ 8 = 256 from rfl, show (2 : Int) ^ 9 = 512 from rfl, show (2 : Int) ^ 10 = 1024 from rfl, show (2 : Int) ^ 11 = 2048 from rfl, show (2 : Int) ^ 12 = 4096 from rfl, show (2 : Int) ^ 13 = 8192 from rfl, show (2 : Int) ^ 14 = 16384 from rfl, show (2 : Int) ^ 15 = 32768 from rfl, show (2 : Int) ^ 16 = 65536 from rfl, show (2 : Int) ^ 17 = 131072 from rfl, show (2 : Int) ^ 18 = 262144 from rfl, show (2 : Int) ^ 19 = 524288 from rfl, show (2 : Int) ^ 20 = 1048576 from rfl]
  refine j4e ?_ ?_ ?_ ?_
  all_goals first | rfl | (repeat' split) <;> omega
theorem pPut_45 (d a b i : Int)  : pTk 45 (pPut 45 (d, a, b, i)) = true ∧ pPt 45 (pPut 45 (d, a, b, i)) = (0, 0, 0, 0) := by
  obtain ⟨t1, t2⟩ := pTk_45 (pPut 45 (d, a, b, i))
  have g0_32 : pSl 0 32 (pPut 45 (d, a, b, i)) = 267386895 := pPut_fix 45 0 32 267386895 (d, a, b, i) (by decide) (by decide) (by decide +kernel)
  generalize pPut 45 (d, a, b, i) = v at *
  have t : pTk 45 v = true := by
    refine t1.mpr ?_
    repeat' refine And.intro ?_ ?_
    all_goals first | assumption | (simp only [g0_32]; simp only [sxt_6, sxt_9, sxt_10, sxt_12, sxt_13, sxt_21, pSl, show (2 : Int) ^ 0 = 1 from rfl, show (2 : Int) ^ 1 = 2 from rfl, show (2 : Int) ^ 2 = 4 from rfl, show (2 : Int) ^ 3 = 8 from rfl, show (2 : Int) ^ 4 = 16 from rfl, show (2 : Int) ^ 5 = 32 from rfl, show (2 : Int) ^ 6 = 64 from rfl, show (2 : Int) ^ 7 = 128 from rfl, show (2 : Int) ^ 8 = 256 from rfl, show (2 : Int) ^ 9 = 512 from rfl, show (2 : Int) ^ 10 = 1024 from rfl, show (2 : Int) ^ 11 = 2048 from rfl, show (2 : Int) ^ 12 = 4096 from rfl, show (2 : Int) ^ 13 = 8192 from rfl, show (2 : Int) ^ 14 = 16384 from rfl, show (2 : Int) ^ 15 = 32768 from rfl, show (2 : Int) ^ 16 = 65536 from rfl, show (2 : Int) ^ 17 = 131072 from rfl, show (2 : Int) ^ 18 = 262144 from rfl, show (2 : Int) ^ 19 = 524288 from rfl, show (2 : Int) ^ 20 = 1048576 from rfl]; repeat' split) <;> omega
  exact ⟨t, t2 t⟩
theorem pPut_46 (d a b i : Int)  : pTk 46 (pPut 46 (d, a, b, i)) = true ∧ pPt 46 (pPut 46 (d, a, b, i)) = (0, 0, 0, 0) := by
  obtain ⟨t1, t2⟩ := pTk_46 (pPut 46 (d, a, b, i))
  have g0_32 : pSl 0 32 (pPut 46 (d, a, b, i)) = 115 := pPut_fix 46 0 32 115 (d, a, b, i) (by decide) (by decide) (by decide +kernel)
  generalize pPut 46 (d, a, b, i) = v at *
  have t : pTk 46 v = true := by
    refine t1.mpr ?_
    repeat' refine And.intro ?_ ?_
    all_goals first | assumption | (simp only [g0_32]; simp only [sxt_6, sxt_9, sxt_10, sxt_12, sxt_13, sxt_21, pSl, show (2 : Int) ^ 0 = 1 from rfl, show (2 : Int) ^ 1 = 2 from rfl, show (2 : Int) ^ 2 = 4 from rfl, show (2 : Int) ^ 3 = 8 from rfl, show (2 : Int) ^ 4 = 16 from rfl, show (2 : Int) ^ 5 = 32 from rfl, show (2 : Int) ^ 6 = 64 from rfl, show (2 : Int) ^ 7 = 128 from rfl, show (2 : Int) ^ 8 = 256 from rfl, show (2 : Int) ^ 9 = 512 from rfl, show (2 : Int) ^ 10 = 1024 from rfl, show (2 : Int) ^ 11 = 2048 from rfl, show (2 : Int) ^ 12 = 4096 from rfl, show (2 : Int) ^ 13 = 8192 from rfl, show (2 : Int) ^ 14 = 16384 from rfl, show (2 : Int) ^ 15 = 32768 from rfl, show (2 : Int) ^ 16 = 65536 from rfl, show (2 : Int) ^ 17 = 131072 from rfl, show (2 : Int) ^ 18 = 262144 from rfl, show (2 : Int) ^ 19 = 524288 from rfl, show (2 : Int) ^ 20 = 1048576 from rfl]; repeat' split) <;> omega
  exact ⟨t, t2 t⟩
theorem pPut_47 (d a b i : Int)  : pTk 47 (pPut 47 (d, a, b, i)) = true ∧ pPt 47 (pPut 47 (d, a, b, i)) = (0, 0, 0, 0) := by
  obtain ⟨t1, t2⟩ := pTk_47 (pPut 47 (d, a, b, i))
  have g0_32 : pSl 0 32 (pPut 47 (d, a, b, i)) = 1048691 := pPut_fix 47 0 32 1048691 (d, a, b, i) (by decide) (by decide) (by decide +kernel)
  generalize pPut 47 (d, a, b, i) = v at *
  have t : pTk 47 v = true := by
    refine t1.mpr ?_
    repeat' refine And.intro ?_ ?_
    all_goals first | assumption | (simp only [g0_32]; simp only [sxt_6, sxt_9, sxt_10, sxt_12, sxt_13, sxt_21, pSl, show (2 : Int) ^ 0 = 1 from rfl, show (2 : Int) ^ 1 = 2 from rfl, show (2 : Int) ^ 2 = 4 from rfl, show (2 : Int) ^ 3 = 8 from rfl, show (2 : Int) ^ 4 = 16 from rfl, show (2 : Int) ^ 5 = 32 from rfl, show (2 : Int) ^ 6 = 64 from rfl, show (2 : Int) ^ 7 = 128 from rfl, show (2 : Int) ^ 8 = 256 from rfl, show (2 : Int) ^ 9 = 512 from rfl, show (2 : Int) ^ 10 = 1024 from rfl, show (2 : Int) ^ 11 = 2048 from rfl, show (2 : Int) ^ 12 = 4096 from rfl, show (2 : Int) ^ 13 = 8192 from rfl, show (2 : Int) ^ 14 = 16384 from rfl, show (2 : Int) ^ 15 = 32768 from rfl, show (2 : Int) ^ 16 = 65536 from rfl, show (2 : Int) ^ 17 = 131072 from rfl, show (2 : Int) ^ 18 = 262144 from rfl, show (2 : Int) ^ 19 = 524288 from rfl, show (2 : Int) ^ 20 = 1048576 from rfl]; repeat' split) <;> omega
  exact ⟨t, t2 t⟩
theorem pPut_48 (d a b i : Int) (h0 : 8 ≤ d ∧ d < 16) (h3 : 4 ≤ i ∧ i ≤ 1020 ∧ i % 4 = 0) : pTk 48 (pPut 48 (d, a, b, i)) = true ∧ pPt 48 (pPut 48 (d, a, b, i)) = (d, 0, 0, i) := by
  obtain ⟨t1, t2⟩ := pTk_48 (pPut 48 (d, a, b, i))
  have g0_2 : pSl 0 2 (pPut 48 (d, a, b, i)) = 0 := pPut_fix 48 0 2 0 (d, a, b, i) (by decide) (by decide) (by decide +kernel)
  have g2_3 : pSl 2 3 (pPut 48 (d, a, b, i)) = pSl 0 3 (d - 8) := pPut_shr 48 2 3 500 (d, a, b, i) (by decide) (by decide) (by decide) (by decide +kernel)
  have g5_1 : pSl 5 1 (pPut 48 (d, a, b, i)) = pSl 3 1 i := pPut_part 48 5 1 403 (d, a, b, i) (by decide) (by decide) (by decide) (by decide) (by decide +kernel)
  have g6_1 : pSl 6 1 (pPut 48 (d, a, b, i)) = pSl 2 1 i := pPut_part 48 6 1 402 (d, a, b, i) (by decide) (by decide) (by decide) (by decide) (by decide +kernel)
  have g7_4 : pSl 7 4 (pPut 48 (d, a, b, i)) = pSl 6 4 i := pPut_part 48 7 4 406 (d, a, b, i) (by decide) (by decide) (by decide) (by decide) (by decide +kernel)
  have g11_2 : pSl 11 2 (pPut 48 (d, a, b, i)) = pSl 4 2 i := pPut_part 48 11 2 404 (d, a, b, i) (by decide) (by decide) (by decide) (by decide) (by decide +kernel)
  have g13_3 : pSl 13 3 (pPut 48 (d, a, b, i)) = 0 := pPut_fix 48 13 3 0 (d, a, b, i) (by decide) (by decide) (by decide +kernel)
  generalize pPut 48 (d, a, b, i) = v at *
  have t : pTk 48 v = true := by
    refine t1.mpr ?_
    repeat' refine And.intro ?_ ?_
    all_goals first | assumption | (simp only [g0_2, g2_3, g5_1, g6_1, g7_4, g11_2, g13_3]; simp only [sxt_6, sxt_9, sxt_10, sxt_12, sxt_13, sxt_21, pSl, show (2 : Int) ^ 0 = 1 from rfl, show (2 : Int) ^ 1 = 2 from rfl, show (2 : Int) ^ 2 = 4 from rfl, show (2 : Int) ^ 3 = 8 from rfl, show (2 : Int) ^ 4 = 16 from rfl, show (2 : Int) ^ 5 = 32 from rfl, show (2 : Int) ^ 6 = 64 from rfl, show (2 : Int) ^ 7 = 128 from rfl, show (2 : Int) ^ 8 = 256 from rfl, show (2 : Int) ^ 9 = 512 from rfl, show (2 : Int) ^ 10 = 1024 from rfl, show (2 : Int) ^ 11 = 2048 from rfl, show (2 : Int) ^ 12 = 4096 from rfl, show (2 : Int) ^ 13 = 8192 from rfl, show (2 : Int) ^ 14 = 16384 from rfl, show (2 : Int) ^ 15 = 32768 from rfl, show (2 : Int) ^ 16 = 65536 from rfl, show (2 : Int) ^ 17 = 131072 from rfl, show (2 : Int) ^ 18 = 262144 from rfl, show (2 : Int) ^ 19 = 524288 from rfl, show (2 : Int) ^ 20 = 1048576 from rfl]; repeat' split) <;> omega
  refine ⟨t, (t2 t).trans ?_⟩
  simp only [g0_2, g2_3, g5_1, g6_1, g7_4, g11_2, g13_3]
  simp only [sxt_6, sxt_9, sxt_10, sxt_12, sxt_13, sxt_21, pSl, show (2 : Int) ^ 0 = 1 from rfl, show (2 : Int) ^ 1 = 2 from rfl, show (2 : Int) ^ 2 = 4 from rfl, show (2 : Int) ^ 3 = 8 from rfl, show (2 : Int) ^ 4 = 16 from rfl, show (2 : Int) ^ 5 = 32 from rfl, show (2 : Int) ^ 6 = 64 from rfl, show (2 : Int) ^ 7 = 128 from rfl, show (2 : Int) ^ 8 = 256 from rfl, show (2 : Int) ^ 9 = 512 from rfl, show (2 : Int) ^ 10 = 1024 from rfl, show (2 : Int) ^ 11 = 2048 from rfl, show (2 : Int) ^ 12 = 4096 from rfl, show (2 : Int) ^ 13 = 8192 from rfl, show (2 : Int) ^ 14 = 16384 from rfl, show (2 : Int) ^ 15 = 32768 from rfl, show (2 : Int) ^ 16 = 65536 from rfl, show (2 : Int) ^ 17 = 131072 from rfl, show (2 : Int) ^ 18 = 262144 from rfl, show (2 : Int) ^ 19 = 524288 from rfl, show (2 : Int) ^ 20 = 1048576 from rfl]
  refine j4e ?_ ?_ ?_ ?_
  all_goals first | rfl | (repeat' split) <;> omega
theorem pPut_49 (d a b i : Int) (h0 : 8 ≤ d ∧ d < 16) (h1 : 8 ≤ a ∧ a < 16) (h3 : 0 ≤ i ∧ i ≤ 124 ∧ i % 4 = 0) : pTk 49 (pPut 49 (d, a, b, i)) = true ∧ pPt 49 (pPut 49 (d, a, b, i)) = (d, a, 0, i) := by
  obtain ⟨t1, t2⟩ := pTk_49 (pPut 49 (d, a, b, i))
  have g0_2 : pSl 0 2 (pPut 49 (d, a, b, i)) = 0 := pPut_fix 49 0 2 0 (d, a, b, i) (by decide) (by decide) (by decide +kernel)
  have g2_3 : pSl 2 3 (pPut 49 (d, a, b, i)) = pSl 0 3 (d - 8) := pPut_shr 49 2 3 500 (d, a, b, i) (by decide) (by decide) (by decide) (by decide +kernel)
  have g5_1 : pSl 5 1 (pPut 49 (d, a, b, i)) = pSl 6 1 i := pPut_part 49 5 1 406 (d, a, b, i) (by decide) (by decide) (by decide) (by decide) (by decide +kernel)
  have g6_1 : pSl 6 1 (pPut 49 (d, a, b, i)) = pSl 2 1 i := pPut_part 49 6 1 402 (d, a, b, i) (by decide) (by decide) (by decide) (by decide) (by decide +kernel)
  have g7_3 : pSl 7 3 (pPut 49 (d, a, b, i)) = pSl 0 3 (a - 8) := pPut_shr 49 7 3 600 (d, a, b, i) (by decide) (by decide) (by decide) (by decide +kernel)
  have g10_3 : pSl 10 3 (pPut 49 (d, a, b, i)) = pSl 3 3 i := pPut_part 49 10 3 403 (d, a, b, i) (by decide) (by decide) (by decide) (by decide) (by decide +kernel)
  have g13_3 : pSl 13 3 (pPut 49 (d, a, b, i)) = 2 := pPut_fix 49 13 3 2 (d, a, b, i) (by decide) (by decide) (by decide +kernel)
  generalize pPut 49 (d, a, b, i) = v at *
  have t : pTk 49 v = true := by
    refine t1.mpr ?_
    repeat' refine And.intro ?_ ?_
    all_goals first | assumption | (simp only [g0_2, g2_3, g5_1, g6_1, g7_3, g10_3, g13_3]; simp only [sxt_6, sxt_9, sxt_10, sxt_12, sxt_13, sxt_21, pSl, show (2 : Int) ^ 0 = 1 from rfl, show (2 : Int) ^ 1 = 2 from rfl, show (2 : Int) ^ 2 = 4 from rfl, show (2 : Int) ^ 3 = 8 from rfl, show (2 : Int) ^ 4 = 16 from rfl, show (2 : Int) ^ 5 = 32 from rfl, show (2 : Int) ^ 6 = 64 from rfl, show (2 : Int) ^ 7 = 128 from rfl, show (2 : Int) ^ 8 = 256 from rfl, show (2 : Int) ^ 9 = 512 from rfl, show (2 : Int) ^ 10 = 1024 from rfl, show (2 : Int) ^ 11 = 2048 from rfl, show (2 : Int) ^ 12 = 4096 from rfl, show (2 : Int) ^ 13 = 8192 from rfl, show (2 : Int) ^ 14 = 16384 from rfl, show (2 : Int) ^ 15 = 32768 from rfl, show (2 : Int) ^ 16 = 65536 from rfl, show (2 : Int) ^ 17 = 131072 from rfl, show (2 : Int) ^ 18 = 262144 from rfl, show (2 : Int) ^ 19 = 524288 from rfl, show (2 : Int) ^ 20 = 1048576 from rfl]; repeat' split) <;> omega
  refine ⟨t, (t2 t).trans ?_⟩
  simp only [g0_2, g2_3, g5_1, g6_1, g7_3, g10_3, g13_3]
  simp only [sxt_6, sxt_9, sxt_10, sxt_12, sxt_13, sxt_21, pSl, show (2 : Int) ^ 0 = 1 from rfl, show (2 : Int) ^ 1 = 2 from rfl, show (2 : Int) ^ 2 = 4 from rfl, show (2 : Int) ^ 3 = 8 from rfl, show (2 : Int) ^ 4 = 16 from rfl, show (2 : Int) ^ 5 = 32 from rfl, show (2 : Int) ^ 6 = 64 from rfl, show (2 : Int) ^ 7 = 128 from rfl, show (2 : Int) ^ 8 = 256 from rfl, show (2 : Int) ^ 9 = 512 from rfl, show (2 : Int) ^ 10 = 1024 from rfl, show (2 : Int) ^ 11 = 2048 from rfl, show (2 : Int) ^ 12 = 4096 from rfl, show (2 : Int) ^ 13 = 8192 from rfl, show (2 : Int) ^ 14 = 16384 from rfl, show (2 : Int) ^ 15 = 32768 from rfl, show (2 : Int) ^ 16 = 65536 from rfl, show (2 : Int) ^ 17 = 131072 from rfl, show (2 : Int) ^ 18 = 262144 from rfl, show (2 : Int) ^ 19 = 524288 from rfl, show (2 : Int) ^ 20 = 1048576 from rfl]
  refine j4e ?_ ?_ ?_ ?_
  all_goals first | rfl | (repeat' split) <;> omega
theorem pPut_50 (d a b i : Int) (h1 : 8 ≤ a ∧ a < 16) (h2 : 8 ≤ b ∧ b < 16) (h3 : 0 ≤ i ∧ i ≤ 124 ∧ i % 4 = 0) : pTk 50 (pPut 50 (d, a, b, i)) = true ∧ pPt 50 (pPut 50 (d, a, b, i)) = (0, a, b, i) := by
  obtain ⟨t1, t2⟩ := pTk_50 (pPut 50 (d, a, b, i))
  have g0_2 : pSl 0 2 (pPut 50 (d, a, b, i)) = 0 := pPut_fix 50 0 2 0 (d, a, b, i) (by decide) (by decide) (by decide +kernel)
  have g2_3 : pSl 2 3 (pPut 50 (d, a, b, i)) = pSl 0 3 (b - 8) := pPut_shr 50 2 3 700 (d, a, b, i) (by decide) (by decide) (by decide) (by decide +kernel)
  have g5_1 : pSl 5 1 (pPut 50 (d, a, b, i)) = pSl 6 1 i := pPut_part 50 5 1 406 (d, a, b, i) (by decide) (by decide) (by decide) (by decide) (by decide +kernel)
  have g6_1 : pSl 6 1 (pPut 50 (d, a, b, i)) = pSl 2 1 i := pPut_part 50 6 1 402 (d, a, b, i) (by decide) (by decide) (by decide) (by decide) (by decide +kernel)
  have g7_3 : pSl 7 3 (pPut 50 (d, a, b, i)) = pSl 0 3 (a - 8) := pPut_shr 50 7 3 600 (d, a, b, i) (by decide) (by decide) (by decide) (by decide +kernel)
  have g10_3 : pSl 10 3 (pPut 50 (d, a, b, i)) = pSl 3 3 i := pPut_part 50 10 3 403 (d, a, b, i) (by decide) (by decide) (by decide) (by decide) (by decide +kernel)
  have g13_3 : pSl 13 3 (pPut 50 (d, a, b, i)) = 6 := pPut_fix 50 13 3 6 (d, a, b, i) (by decide) (by decide) (by decide +kernel)
  generalize pPut 50 (d, a, b, i) = v at *
  have t : pTk 50 v = true := by
    refine t1.mpr ?_
    repeat' refine And.intro ?_ ?_
    all_goals first | assumption | (simp only [g0_2, g2_3, g5_1, g6_1, g7_3, g10_3, g13_3]; simp only [sxt_6, sxt_9, sxt_10, sxt_12, sxt_13, sxt_21, pSl, show (2 : Int) ^ 0 = 1 from rfl, show (2 : Int) ^ 1 = 2 from rfl, show (2 : Int) ^ 2 = 4 from rfl, show (2 : Int) ^ 3 = 8 from rfl, show (2 : Int) ^ 4 = 16 from rfl, show (2 : Int) ^ 5 = 32 from rfl, show (2 : Int) ^ 6 = 64 from rfl, show (2 : Int) ^ 7 = 128 from rfl, show (2 : Int) ^ 8 = 256 from rfl, show (2 : Int) ^ 9 = 512 from rfl, show (2 : Int) ^ 10 = 1024 from rfl, show (2 : Int) ^ 11 = 2048 from rfl, show (2 : Int) ^ 12 = 4096 from rfl, show (2 : Int) ^ 13 = 8192 from rfl, show (2 : Int) ^ 14 = 16384 from rfl, show (2 : Int) ^ 15 = 32768 from rfl, show (2 : Int) ^ 16 = 65536 from rfl, show (2 : Int) ^ 17 = 131072 from rfl, show (2 : Int) ^ 18 = 262144 from rfl, show (2 : Int) ^ 19 = 524288 from rfl, show (2 : Int) ^ 20 = 1048576 from rfl]; repeat' split) <;> omega
  refine ⟨t, (t2 t).trans ?_⟩
  simp only [g0_2, g2_3, g5_1, g6_1, g7_3, g10_3, g13_3]
  simp only [sxt_6, sxt_9, sxt_10, sxt_12, sxt_13, sxt_21, pSl, show (2 : Int) ^ 0 = 1 from rfl, show (2 : Int) ^ 1 = 2 from rfl, show (2 : Int) ^ 2 = 4 from rfl, show (2 : Int) ^ 3 = 8 from rfl, show (2 : Int) ^ 4 = 16 from rfl, show (2 : Int) ^ 5 = 32 from rfl, show (2 : Int) ^ 6 = 64 from rfl, show (2 : Int) ^ 7 = 128 from rfl, show (2 : Int) ^ 8 = 256 from rfl, show (2 : Int) ^ 9 = 512 from rfl, show (2 : Int) ^ 10 = 1024 from rfl, show (2 : Int) ^ 11 = 2048 from rfl, show (2 : Int) ^ 12 = 4096 from rfl, show (2 : Int) ^ 13 = 8192 from rfl, show (2 : Int) ^ 14 = 16384 from rfl, show (2 : Int) ^ 15 = 32768 from rfl, show (2 : Int) ^ 16 = 65536 from rfl, show (2 : Int) ^ 17 = 131072 from rfl, show (2 : Int) ^ 18 = 262144 from rfl, show (2 : Int) ^ 19 = 524288 from rfl, show (2 : Int) ^ 20 = 1048576 from rfl]
  refine j4e ?_ ?_ ?_ ?_
  all_goals first | rfl | (repeat' split) <;> omega
theorem pPut_51 (d a b i : Int)  : pTk 51 (pPut 51 (d, a, b, i)) = true ∧ pPt 51 (pPut 51 (d, a, b, i)) = (0, 0, 0, 0) := by
  obtain ⟨t1, t2⟩ := pTk_51 (pPut 51 (d, a, b, i))
  have g0_16 : pSl 0 16 (pPut 51 (d, a, b, i)) = 1 := pPut_fix 51 0 16 1 (d, a, b, i) (by decide) (by decide) (by decide +kernel)
  generalize pPut 51 (d, a, b, i) = v at *
  have t : pTk 51 v = true := by
    refine t1.mpr ?_
    repeat' refine And.intro ?_ ?_
    all_goals first | assumption | (simp only [g0_16]; simp only [sxt_6, sxt_9, sxt_10, sxt_12, sxt_13, sxt_21, pSl, show (2 : Int) ^ 0 = 1 from rfl, show (2 : Int) ^ 1 = 2 from rfl, show (2 : Int) ^ 2 = 4 from rfl, show (2 : Int) ^ 3 = 8 from rfl, show (2 : Int) ^ 4 = 16 from rfl, show (2 : Int) ^ 5 = 32 from rfl, show (2 : Int) ^ 6 = 64 from rfl, show (2 : Int) ^ 7 = 128 from rfl, show (2 : Int) ^ 8 = 256 from rfl, show (2 : Int) ^ 9 = 512 from rfl, show (2 : Int) ^ 10 = 1024 from rfl, show (2 : Int) ^ 11 = 2048 from rfl, show (2 : Int) ^ 12 = 4096 from rfl, show (2 : Int) ^ 13 = 8192 from rfl, show (2 : Int) ^ 14 = 16384 from rfl, show (2 : Int) ^ 15 = 32768 from rfl, show (2 : Int) ^ 16 = 65536 from rfl, show (2 : Int) ^ 17 = 131072 from rfl, show (2 : Int) ^ 18 = 262144 from rfl, show (2 : Int) ^ 19 = 524288 from rfl, show (2 : Int) ^ 20 = 1048576 from rfl]; repeat' split) <;> omega
  exact ⟨t, t2 t⟩
theorem pPut_52 (d a b i : Int) (h0 : 1 ≤ d ∧ d ≤ 31) (h3 : -32 ≤ i ∧ i ≤ 31 ∧ i % 1 = 0 ∧ ¬ i = 0) : pTk 52 (pPut 52 (d, a, b, i)) = true ∧ pPt 52 (pPut 52 (d, a, b, i)) = (d, 0, 0, i) := by
  obtain ⟨t1, t2⟩ := pTk_52 (pPut 52 (d, a, b, i))
  have g0_2 : pSl 0 2 (pPut 52 (d, a, b, i)) = 1 := pPut_fix 52 0 2 1 (d, a, b, i) (by decide) (by decide) (by decide +kernel)
  have g2_5 : pSl 2 5 (pPut 52 (d, a, b, i)) = pSl 0 5 i := pPut_part 52 2 5 400 (d, a, b, i) (by decide) (by decide) (by decide) (by decide) (by decide +kernel)
  have g7_5 : pSl 7 5 (pPut 52 (d, a, b, i)) = pSl 0 5 d := pPut_part 52 7 5 100 (d, a, b, i) (by decide) (by decide) (by decide) (by decide) (by decide +kernel)
  have g12_1 : pSl 12 1 (pPut 52 (d, a, b, i)) = pSl 5 1 i := pPut_part 52 12 1 405 (d, a, b, i) (by decide) (by decide) (by decide) (by decide) (by decide +kernel)
  have g13_3 : pSl 13 3 (pPut 52 (d, a, b, i)) = 0 := pPut_fix 52 13 3 0 (d, a, b, i) (by decide) (by decide) (by decide +kernel)
  generalize pPut 52 (d, a, b, i) = v at *
  have t : pTk 52 v = true := by
    refine t1.mpr ?_
    repeat' refine And.intro ?_ ?_
    all_goals first | assumption | (simp only [g0_2, g2_5, g7_5, g12_1, g13_3]; simp only [sxt_6, sxt_9, sxt_10, sxt_12, sxt_13, sxt_21, pSl, show (2 : Int) ^ 0 = 1 from rfl, show (2 : Int) ^ 1 = 2 from rfl, show (2 : Int) ^ 2 = 4 from rfl, show (2 : Int) ^ 3 = 8 from rfl, show (2 : Int) ^ 4 = 16 from rfl, show (2 : Int) ^ 5 = 32 from rfl, show (2 : Int) ^ 6 = 64 from rfl, show (2 : Int) ^ 7 = 128 from rfl, show (2 : Int) ^ 8 = 256 from rfl, show (2 : Int) ^ 9 = 512 from rfl, show (2 : Int) ^ 10 = 1024 from rfl, show (2 : Int) ^ 11 = 2048 from rfl, show (2 : Int) ^ 12 = 4096 from rfl, show (2 : Int) ^ 13 = 8192 from rfl, show (2 : Int) ^ 14 = 16384 from rfl, show (2 : Int) ^ 15 = 32768 from rfl, show (2 : Int) ^ 16 = 65536 from rfl, show (2 : Int) ^ 17 = 131072 from rfl, show (2 : Int) ^ 18 = 262144 from rfl, show (2 : Int) ^ 19 = 524288 from rfl, show (2 : Int) ^ 20 = 1048576 from rfl]; repeat' split) <;> omega
  refine ⟨t, (t2 t).trans ?_⟩
  simp only [g0_2, g2_5, g7_5, g12_1, g13_3]
  simp only [sxt_6, sxt_9, sxt_10, sxt_12, sxt_13, sxt_21, pSl, show (2 : Int) ^ 0 = 1 from rfl, show (2 : Int) ^ 1 = 2 from rfl, show (2 : Int) ^ 2 = 4 from rfl, show (2 : Int) ^ 3 = 8 from rfl, show (2 : Int) ^ 4 = 16 from rfl, show (2 : Int) ^ 5 = 32 from rfl, show (2 : Int) ^ 6 = 64 from rfl, show (2 : Int) ^ 7 = 128 from rfl, show (2 : Int) ^ 8 = 256 from rfl, show (2 : Int) ^ 9 = 512 from rfl, show (2 : Int) ^ 10 = 1024 from rfl, show (2 : Int) ^ 11 = 2048 from rfl, show (2 : Int) ^ 12 = 4096 from rfl, show (2 : Int) ^ 13 = 8192 from rfl, show (2 : Int) ^ 14 = 16384 from rfl, show (2 : Int) ^ 15 = 32768 from rfl, show (2 : Int) ^ 16 = 65536 from rfl, show (2 : Int) ^ 17 = 131072 from rfl, show (2 : Int) ^ 18 = 262144 from rfl, show (2 : Int) ^ 19 = 524288 from rfl, show (2 : Int) ^ 20 = 1048576 from rfl]
  refine j4e ?_ ?_ ?_ ?_
  all_goals first | rfl | (repeat' split) <;> omega
theorem pPut_53 (d a b i : Int) (h3 : -2048 ≤ i ∧ i ≤ 2046 ∧ i % 2 = 0) : pTk 53 (pPut 53 (d, a, b, i)) = true ∧ pPt 53 (pPut 53 (d, a, b, i)) = (0, 0, 0, i) := by
  obtain ⟨t1, t2⟩ := pTk_53 (pPut 53 (d, a, b, i))
  have g0_2 : pSl 0 2 (pPut 53 (d, a, b, i)) = 1 := pPut_fix 53 0 2 1 (d, a, b, i) (by decide) (by decide) (by decide +kernel)
  have g2_1 : pSl 2 1 (pPut 53 (d, a, b, i)) = pSl 5 1 i := pPut_part 53 2 1 405 (d, a, b, i) (by decide) (by decide) (by decide) (by decide) (by decide +kernel)
  have g3_3 : pSl 3 3 (pPut 53 (d, a, b, i)) = pSl 1 3 i := pPut_part 53 3 3 401 (d, a, b, i) (by decide) (by decide) (by decide) (by decide) (by decide +kernel)
  have g6_1 : pSl 6 1 (pPut 53 (d, a, b, i)) = pSl 7 1 i := pPut_part 53 6 1 407 (d, a, b, i) (by decide) (by decide) (by decide) (by decide) (by decide +kernel)
  have g7_1 : pSl 7 1 (pPut 53 (d, a, b, i)) = pSl 6 1 i := pPut_part 53 7 1 406 (d, a, b, i) (by decide) (by decide) (by decide) (by decide) (by decide +kernel)
  have g8_1 : pSl 8 1 (pPut 53 (d, a, b, i)) = pSl 10 1 i := pPut_part 53 8 1 410 (d, a, b, i) (by decide) (by decide) (by decide) (by decide) (by decide +kernel)
  have g9_2 : pSl 9 2 (pPut 53 (d, a, b, i)) = pSl 8 2 i := pPut_part 53 9 2 408 (d, a, b, i) (by decide) (by decide) (by decide) (by decide) (by decide +kernel)
  have g11_1 : pSl 11 1 (pPut 53 (d, a, b, i)) = pSl 4 1 i := pPut_part 53 11 1 404 (d, a, b, i) (by decide) (by decide) (by decide) (by decide) (by decide +kernel)
  have g12_1 : pSl 12 1 (pPut 53 (d, a, b, i)) = pSl 11 1 i := pPut_part 53 12 1 411 (d, a, b, i) (by decide) (by decide) (by decide) (by decide) (by decide +kernel)
  have g13_3 : pSl 13 3 (pPut 53 (d, a, b, i)) = 1 := pPut_fix 53 13 3 1 (d, a, b, i) (by decide) (by decide) (by decide +kernel)
  generalize pPut 53 (d, a, b, i) = v at *
  have t : pTk 53 v = true := by
    refine t1.mpr ?_
    repeat' refine And.intro ?_ ?_
    all_goals first | assumption | (simp only [g0_2, g2_1, g3_3, g6_1, g7_1, g8_1, g9_2, g11_1, g12_1, g13_3]; simp only [sxt_6, sxt_9, sxt_10, sxt_12, sxt_13, sxt_21, pSl, show (2 : Int) ^ 0 = 1 from rfl, show (2 : Int) ^ 1 = 2 from rfl, show (2 : Int) ^ 2 = 4 from rfl, show (2 : Int) ^ 3 = 8 from rfl, show (2 : Int) ^ 4 = 16 from rfl, show (2 : Int) ^ 5 = 32 from rfl, show (2 : Int) ^ 6 = 64 from rfl, show (2 : Int) ^ 7 = 128 from rfl, show (2 : Int) ^ 8 = 256 from rfl, show (2 : Int) ^ 9 = 512 from rfl, show (2 : Int) ^ 10 = 1024 from rfl, show (2 : Int) ^ 11 = 2048 from rfl, show (2 : Int) ^ 12 = 4096 from rfl, show (2 : Int) ^ 13 = 8192 from rfl, show (2 : Int) ^ 14 = 16384 from rfl, show (2 : Int) ^ 15 = 32768 from rfl, show (2 : Int) ^ 16 = 65536 from rfl, show (2 : Int) ^ 17 = 131072 from rfl, show (2 : Int) ^ 18 = 262144 from rfl, show (2 : Int) ^ 19 = 524288 from rfl, show (2 : Int) ^ 20 = 1048576 from rfl]; repeat' split) <;> omega
  refine ⟨t, (t2 t).trans ?_⟩
  simp only [g0_2, g2_1, g3_3, g6_1, g7_1, g8_1, g9_2, g11_1, g12_1, g13_3]
  simp only [sxt_6, sxt_9, sxt_10, sxt_12, sxt_13, sxt_21, pSl, show (2 : Int) ^ 0 = 1 from rfl, show (2 : Int) ^ 1 = 2 from rfl, show (2 : Int) ^ 2 = 4 from rfl, show (2 : Int) ^ 3 = 8 from rfl, show (2 : Int) ^ 4 = 16 from rfl, show (2 : Int) ^ 5 = 32 from rfl, show (2 : Int) ^ 6 = 64 from rfl, show (2 : Int) ^ 7 = 128 from rfl, show (2 : Int) ^ 8 = 256 from rfl, show (2 : Int) ^ 9 = 512 from rfl, show (2 : Int) ^ 10 = 1024 from rfl, show (2 : Int) ^ 11 = 2048 from rfl, show (2 : Int) ^ 12 = 4096 from rfl, show (2 : Int) ^ 13 = 8192 from rfl, show (2 : Int) ^ 14 = 16384 from rfl, show (2 : Int) ^ 15 = 32768 from rfl, show (2 : Int) ^ 16 = 65536 from rfl, show (2 : Int) ^ 17 = 131072 from rfl, show (2 : Int) ^ 18 = 262144 from rfl, show (2 : Int) ^ 19 = 524288 from rfl, show (2 : Int) ^ 20 = 1048576 from rfl]
  refine j4e ?_ ?_ ?_ ?_
  all_goals first | rfl | (repeat' split) <;> omega
theorem pPut_54 (d a b i : Int) (h0 : 1 ≤ d ∧ d ≤ 31) (h3 : -32 ≤ i ∧ i ≤ 31 ∧ i % 1 = 0) : pTk 54 (pPut 54 (d, a, b, i)) = true ∧ pPt 54 (pPut 54 (d, a, b, i)) = (d, 0, 0, i) := by
  obtain ⟨t1, t2⟩ := pTk_54 (pPut 54 (d, a, b, i))
  have g0_2 : pSl 0 2 (pPut 54 (d, a, b, i)) = 1 := pPut_fix 54 0 2 1 (d, a, b, i) (by decide) (by decide) (by decide +kernel)
  have g2_5 : pSl 2 5 (pPut 54 (d, a, b, i)) = pSl 0 5 i := pPut_part 54 2 5 400 (d, a, b, i) (by decide) (by decide) (by decide) (by decide) (by decide +kernel)
  have g7_5 : pSl 7 5 (pPut 54 (d, a, b, i)) = pSl 0 5 d := pPut_part 54 7 5 100 (d, a, b, i) (by decide) (by decide) (by decide) (by decide) (by decide +kernel)
  have g12_1 : pSl 12 1 (pPut 54 (d, a, b, i)) = pSl 5 1 i := pPut_part 54 12 1 405 (d, a, b, i) (by decide) (by decide) (by decide) (by decide) (by decide +kernel)
  have g13_3 : pSl 13 3 (pPut 54 (d, a, b, i)) = 2 := pPut_fix 54 13 3 2 (d, a, b, i) (by decide) (by decide) (by decide +kernel)
  generalize pPut 54 (d, a, b, i) = v at *
  have t : pTk 54 v = true := by
    refine t1.mpr ?_
    repeat' refine And.intro ?_ ?_
    all_goals first | assumption | (simp only [g0_2, g2_5, g7_5, g12_1, g13_3]; simp only [sxt_6, sxt_9, sxt_10, sxt_12, sxt_13, sxt_21, pSl, show (2 : Int) ^ 0 = 1 from rfl, show (2 : Int) ^ 1 = 2 from rfl, show (2 : Int) ^ 2 = 4 from rfl, show (2 : Int) ^ 3 = 8 from rfl, show (2 : Int) ^ 4 = 16 from rfl, show (2 : Int) ^ 5 = 32 from rfl, show (2 : Int) ^ 6 = 64 from rfl, show (2 : Int) ^ 7 = 128 from rfl, show (2 : Int) ^ 8 = 256 from rfl, show (2 : Int) ^ 9 = 512 from rfl, show (2 : Int) ^ 10 = 1024 from rfl, show (2 : Int) ^ 11 = 2048 from rfl, show (2 : Int) ^ 12 = 4096 from rfl, show (2 : Int) ^ 13 = 8192 from rfl, show (2 : Int) ^ 14 = 16384 from rfl, show (2 : Int) ^ 15 = 32768 from rfl, show (2 : Int) ^ 16 = 65536 from rfl, show (2 : Int) ^ 17 = 131072 from rfl, show (2 : Int) ^ 18 = 262144 from rfl, show (2 : Int) ^ 19 = 524288 from rfl, show (2 : Int) ^ 20 = 1048576 from rfl]; repeat' split) <;> omega
  refine ⟨t, (t2 t).trans ?_⟩
  simp only [g0_2, g2_5, g7_5, g12_1, g13_3]
  simp only [sxt_6, sxt_9, sxt_10, sxt_12, sxt_13, sxt_21, pSl, show (2 : Int) ^ 0 = 1 from rfl, show (2 : Int) ^ 1 = 2 from rfl, show (2 : Int) ^ 2 = 4 from rfl, show (2 : Int) ^ 3 = 8 from rfl, show (2 : Int) ^ 4 = 16 from rfl, show (2 : Int) ^ 5 = 32 from rfl, show (2 : Int) ^ 6 = 64 from rfl, show (2 : Int) ^ 7 = 128 from rfl, show (2 : Int) ^ 8 = 256 from rfl, show (2 : Int) ^ 9 = 512 from rfl, show (2 : Int) ^ 10 = 1024 from rfl, show (2 : Int) ^ 11 = 2048 from rfl, show (2 : Int) ^ 12 = 4096 from rfl, show (2 : Int) ^ 13 = 8192 from rfl, show (2 : Int) ^ 14 = 16384 from rfl, show (2 : Int) ^ 15 = 32768 from rfl, show (2 : Int) ^ 16 = 65536 from rfl, show (2 : Int) ^ 17 = 131072 from rfl, show (2 : Int) ^ 18 = 262144 from rfl, show (2 : Int) ^ 19 = 524288 from rfl, show (2 : Int) ^ 20 = 1048576 from rfl]
  refine j4e ?_ ?_ ?_ ?_
  all_goals first | rfl | (repeat' split) <;> omega
theorem pPut_55 (d a b i : Int) (h3 : -512 ≤ i ∧ i ≤ 496 ∧ i % 16 = 0 ∧ ¬ i = 0) : pTk 55 (pPut 55 (d, a, b, i)) = true ∧ pPt 55 (pPut 55 (d, a, b, i)) = (0, 0, 0, i) := by
  obtain ⟨t1, t2⟩ := pTk_55 (pPut 55 (d, a, b, i))
  have g0_2 : pSl 0 2 (pPut 55 (d, a, b, i)) = 1 := pPut_fix 55 0 2 1 (d, a, b, i) (by decide) (by decide) (by decide +kernel)
  have g2_1 : pSl 2 1 (pPut 55 (d, a, b, i)) = pSl 5 1 i := pPut_part 55 2 1 405 (d, a, b, i) (by decide) (by decide) (by decide) (by decide) (by decide +kernel)
  have g3_2 : pSl 3 2 (pPut 55 (d, a, b, i)) = pSl 7 2 i := pPut_part 55 3 2 407 (d, a, b, i) (by decide) (by decide) (by decide) (by decide) (by decide +kernel)
  have g5_1 : pSl 5 1 (pPut 55 (d, a, b, i)) = pSl 6 1 i := pPut_part 55 5 1 406 (d, a, b, i) (by decide) (by decide) (by decide) (by decide) (by decide +kernel)
  have g6_1 : pSl 6 1 (pPut 55 (d, a, b, i)) = pSl 4 1 i := pPut_part 55 6 1 404 (d, a, b, i) (by decide) (by decide) (by decide) (by decide) (by decide +kernel)
  have g7_5 : pSl 7 5 (pPut 55 (d, a, b, i)) = 2 := pPut_fix 55 7 5 2 (d, a, b, i) (by decide) (by decide) (by decide +kernel)
  have g12_1 : pSl 12 1 (pPut 55 (d, a, b, i)) = pSl 9 1 i := pPut_part 55 12 1 409 (d, a, b, i) (by decide) (by decide) (by decide) (by decide) (by decide +kernel)
  have g13_3 : pSl 13 3 (pPut 55 (d, a, b, i)) = 3 := pPut_fix 55 13 3 3 (d, a, b, i) (by decide) (by decide) (by decide +kernel)
  generalize pPut 55 (d, a, b, i) = v at *
  have t : pTk 55 v = true := by
    refine t1.mpr ?_
    repeat' refine And.intro ?_ ?_
    all_goals first | assumption | (simp only [g0_2, g2_1, g3_2, g5_1, g6_1, g7_5, g12_1, g13_3]; simp only [sxt_6, sxt_9, sxt_10, sxt_12, sxt_13, sxt_21, pSl, show (2 : Int) ^ 0 = 1 from rfl, show (2 : Int) ^ 1 = 2 from rfl, show (2 : Int) ^ 2 = 4 from rfl, show (2 : Int) ^ 3 = 8 from rfl, show (2 : Int) ^ 4 = 16 from rfl, show (2 : Int) ^ 5 = 32 from rfl, show (2 : Int) ^ 6 = 64 from rfl, show (2 : Int) ^ 7 = 128 from rfl, show (2 : Int) ^ 8 = 256 from rfl, show (2 : Int) ^ 9 = 512 from rfl, show (2 : Int) ^ 10 = 1024 from rfl, show (2 : Int) ^ 11 = 2048 from rfl, show (2 : Int) ^ 12 = 4096 from rfl, show (2 : Int) ^ 13 = 8192 from rfl, show (2 : Int) ^ 14 = 16384 from rfl, show (2 : Int) ^ 15 = 32768 from rfl, show (2 : Int) ^ 16 = 65536 from rfl, show (2 : Int) ^ 17 = 131072 from rfl, show (2 : Int) ^ 18 = 262144 from rfl, show (2 : Int) ^ 19 = 524288 from rfl, show (2 : Int) ^ 20 = 1048576 from rfl]; repeat' split) <;> omega
  refine ⟨t, (t2 t).trans ?_⟩
  simp only [g0_2, g2_1, g3_2, g5_1, g6_1, g7_5, g12_1, g13_3]
  simp only [sxt_6, sxt_9, sxt_10, sxt_12, sxt_13, sxt_21, pSl, show (2 : Int) ^ 0 = 1 from rfl, show (2 : Int) ^ 1 = 2 from rfl, show (2 : Int) ^ 2 = 4 from rfl, show (2 : Int) ^ 3 = 8 from rfl, show (2 : Int) ^ 4 = 16 from rfl, show (2 : Int) ^ 5 = 32 from rfl, show (2 : Int) ^ 6 = 64 from rfl, show (2 : Int) ^ 7 = 128 from rfl, show (2 : Int) ^ 8 = 256 from rfl, show (2 : Int) ^ 9 = 512 from rfl, show (2 : Int) ^ 10 = 1024 from rfl, show (2 : Int) ^ 11 = 2048 from rfl, show (2 : Int) ^ 12 = 4096 from rfl, show (2 : Int) ^ 13 = 8192 from rfl, show (2 : Int) ^ 14 = 16384 from rfl, show (2 : Int) ^ 15 = 32768 from rfl, show (2 : Int) ^ 16 = 65536 from rfl, show (2 : Int) ^ 17 = 131072 from rfl, show (2 : Int) ^ 18 = 262144 from rfl, show (2 : Int) ^ 19 = 524288 from rfl, show (2 : Int) ^ 20 = 1048576 from rfl]
  refine j4e ?_ ?_ ?_ ?_
  all_goals first | rfl | (repeat' split) <;> omega
theorem pPut_56 (d a b i : Int) (h0 : 1 ≤ d ∧ d ≤ 31 ∧ ¬ d = 2) (h3 : 1 ≤ i ∧ i ≤ 31 ∨ 1048544 ≤ i ∧ i ≤ 1048575) : pTk 56 (pPut 56 (d, a, b, i)) = true ∧ pPt 56 (pPut 56 (d, a, b, i)) = (d, 0, 0, i) := by
  obtain ⟨t1, t2⟩ := pTk_56 (pPut 56 (d, a, b, i))
  have g0_2 : pSl 0 2 (pPut 56 (d, a, b, i)) = 1 := pPut_fix 56 0 2 1 (d, a, b, i) (by decide) (by decide) (by decide +kernel)
  have g2_5 : pSl 2 5 (pPut 56 (d, a, b, i)) = pSl 0 5 i := pPut_part 56 2 5 400 (d, a, b, i) (by decide) (by decide) (by decide) (by decide) (by decide +kernel)
  have g7_5 : pSl 7 5 (pPut 56 (d, a, b, i)) = pSl 0 5 d := pPut_part 56 7 5 100 (d, a, b, i) (by decide) (by decide) (by decide) (by decide) (by decide +kernel)
  have g12_1 : pSl 12 1 (pPut 56 (d, a, b, i)) = pSl 5 1 i := pPut_part 56 12 1 405 (d, a, b, i) (by decide) (by decide) (by decide) (by decide) (by decide +kernel)
  have g13_3 : pSl 13 3 (pPut 56 (d, a, b, i)) = 3 := pPut_fix 56 13 3 3 (d, a, b, i) (by decide) (by decide) (by decide +kernel)
  generalize pPut 56 (d, a, b, i) = v at *
  have t : pTk 56 v = true := by
    refine t1.mpr ?_
    repeat' refine And.intro ?_ ?_
    all_goals first | assumption | (simp only [g0_2, g2_5, g7_5, g12_1, g13_3]; simp only [sxt_6, sxt_9, sxt_10, sxt_12, sxt_13, sxt_21, pSl, show (2 : Int) ^ 0 = 1 from rfl, show (2 : Int) ^ 1 = 2 from rfl, show (2 : Int) ^ 2 = 4 from rfl, show (2 : Int) ^ 3 = 8 from rfl, show (2 : Int) ^ 4 = 16 from rfl, show (2 : Int) ^ 5 = 32 from rfl, show (2 : Int) ^ 6 = 64 from rfl, show (2 : Int) ^ 7 = 128 from rfl, show (2 : Int) ^ 8 = 256 from rfl, show (2 : Int) ^ 9 = 512 from rfl, show (2 : Int) ^ 10 = 1024 from rfl, show (2 : Int) ^ 11 = 2048 from rfl, show (2 : Int) ^ 12 = 4096 from rfl, show (2 : Int) ^ 13 = 8192 from rfl, show (2 : Int) ^ 14 = 16384 from rfl, show (2 : Int) ^ 15 = 32768 from rfl, show (2 : Int) ^ 16 = 65536 from rfl, show (2 : Int) ^ 17 = 131072 from rfl, show (2 : Int) ^ 18 = 262144 from rfl, show (2 : Int) ^ 19 = 524288 from rfl, show (2 : Int) ^ 20 = 1048576 from rfl]; repeat' split) <;> omega
  refine ⟨t, (t2 t).trans ?_⟩
  simp only [g0_2, g2_5, g7_5, g12_1, g13_3]
  simp only [sxt_6, sxt_9, sxt_10, sxt_12, sxt_13, sxt_21, pSl, show (2 : Int) ^ 0 = 1 from rfl, show (2 : Int) ^ 1 = 2 from rfl, show (2 : Int) ^ 2 = 4 from rfl, show (2 : Int) ^ 3 = 8 from rfl, show (2 : Int) ^ 4 = 16 from rfl, show (2 : Int) ^ 5 = 32 from rfl, show (2 : Int) ^ 6 = 64 from rfl, show (2 : Int) ^ 7 = 128 from rfl, show (2 : Int) ^ 8 = 256 from rfl, show (2 : Int) ^ 9 = 512 from rfl, show (2 : Int) ^ 10 = 1024 from rfl, show (2 : Int) ^ 11 = 2048 from rfl, show (2 : Int) ^ 12 = 4096 from rfl, show (2 : Int) ^ 13 = 8192 from rfl, show (2 : Int) ^ 14 = 16384 from rfl, show (2 : Int) ^ 15 = 32768 from rfl, show (2 : Int) ^ 16 = 65536 from rfl, show (2 : Int) ^ 17 = 131072 from rfl, show (2 : Int) ^ 18 = 262144 from rfl, show (2 : Int) ^ 19 = 524288 from rfl, show (2 : Int) ^ 20 = 1048576 from rfl]
  refine j4e ?_ ?_ ?_ ?_
  all_goals first | rfl | (repeat' split) <;> omega
theorem pPut_57 (d a b i : Int) (h0 : 8 ≤ d ∧ d < 16) (h3 : 1 ≤ i ∧ i ≤ 31 ∧ i % 1 = 0) : pTk 57 (pPut 57 (d, a, b, i)) = true ∧ pPt 57 (pPut 57 (d, a, b, i)) = (d, 0, 0, i) := by
  obtain ⟨t1, t2⟩ := pTk_57 (pPut 57 (d, a, b, i))
  have g0_2 : pSl 0 2 (pPut 57 (d, a, b, i)) = 1 := pPut_fix 57 0 2 1 (d, a, b, i) (by decide) (by decide) (by decide +kernel)
  have g2_5 : pSl 2 5 (pPut 57 (d, a, b, i)) = pSl 0 5 i := pPut_part 57 2 5 400 (d, a, b, i) (by decide) (by decide) (by decide) (by decide) (by decide +kernel)
  have g7_3 : pSl 7 3 (pPut 57 (d, a, b, i)) = pSl 0 3 (d - 8) := pPut_shr 57 7 3 500 (d, a, b, i) (by decide) (by decide) (by decide) (by decide +kernel)
  have g10_6 : pSl 10 6 (pPut 57 (d, a, b, i)) = 32 := pPut_fix 57 10 6 32 (d, a, b, i) (by decide) (by decide) (by decide +kernel)
  generalize pPut 57 (d, a, b, i) = v at *
  have t : pTk 57 v = true := by
    refine t1.mpr ?_
    repeat' refine And.intro ?_ ?_
    all_goals first | assumption | (simp only [g0_2, g2_5, g7_3, g10_6]; simp only [sxt_6, sxt_9, sxt_10, sxt_12, sxt_13, sxt_21, pSl, show (2 : Int) ^ 0 = 1 from rfl, show (2 : Int) ^ 1 = 2 from rfl, show (2 : Int) ^ 2 = 4 from rfl, show (2 : Int) ^ 3 = 8 from rfl, show (2 : Int) ^ 4 = 16 from rfl, show (2 : Int) ^ 5 = 32 from rfl, show (2 : Int) ^ 6 = 64 from rfl, show (2 : Int) ^ 7 = 128 from rfl, show (2 : Int) ^ 8 = 256 from rfl, show (2 : Int) ^ 9 = 512 from rfl, show (2 : Int) ^ 10 = 1024 from rfl, show (2 : Int) ^ 11 = 2048 from rfl, show (2 : Int) ^ 12 = 4096 from rfl, show (2 : Int) ^ 13 = 8192 from rfl, show (2 : Int) ^ 14 = 16384 from rfl, show (2 : Int) ^ 15 = 32768 from rfl, show (2 : Int) ^ 16 = 65536 from rfl, show (2 : Int) ^ 17 = 131072 from rfl, show (2 : Int) ^ 18 = 262144 from rfl, show (2 : Int) ^ 19 = 524288 from rfl, show (2 : Int) ^ 20 = 1048576 from rfl]; repeat' split) <;> omega
  refine ⟨t, (t2 t).trans ?_⟩
  simp only [g0_2, g2_5, g7_3, g10_6]
  simp only [sxt_6, sxt_9, sxt_10, sxt_12, sxt_13, sxt_21, pSl, show (2 : Int) ^ 0 = 1 from rfl, show (2 : Int) ^ 1 = 2 from rfl, show (2 : Int) ^ 2 = 4 from rfl, show (2 : Int) ^ 3 = 8 from rfl, show (2 : Int) ^ 4 = 16 from rfl, show (2 : Int) ^ 5 = 32 from rfl, show (2 : Int) ^ 6 = 64 from rfl, show (2 : Int) ^ 7 = 128 from rfl, show (2 : Int) ^ 8 = 256 from rfl, show (2 : Int) ^ 9 = 512 from rfl, show (2 : Int) ^ 10 = 1024 from rfl, show (2 : Int) ^ 11 = 2048 from rfl, show (2 : Int) ^ 12 = 4096 from rfl, show (2 : Int) ^ 13 = 8192 from rfl, show (2 : Int) ^ 14 = 16384 from rfl, show (2 : Int) ^ 15 = 32768 from rfl, show (2 : Int) ^ 16 = 65536 from rfl, show (2 : Int) ^ 17 = 131072 from rfl, show (2 : Int) ^ 18 = 262144 from rfl, show (2 : Int) ^ 19 = 524288 from rfl, show (2 : Int) ^ 20 = 1048576 from rfl]
  refine j4e ?_ ?_ ?_ ?_
  all_goals first | rfl | (repeat' split) <;> omega
theorem pPut_58 (d a b i : Int) (h0 : 8 ≤ d ∧ d < 16) (h3 : 1 ≤ i ∧ i ≤ 31 ∧ i % 1 = 0) : pTk 58 (pPut 58 (d, a, b, i)) = true ∧ pPt 58 (pPut 58 (d, a, b, i)) = (d, 0, 0, i) := by
  obtain ⟨t1, t2⟩ := pTk_58 (pPut 58 (d, a, b, i))
  have g0_2 : pSl 0 2 (pPut 58 (d, a, b, i)) = 1 := pPut_fix 58 0 2 1 (d, a, b, i) (by decide) (by decide) (by decide +kernel)
  have g2_5 : pSl 2 5 (pPut 58 (d, a, b, i)) = pSl 0 5 i := pPut_part 58 2 5 400 (d, a, b, i) (by decide) (by decide) (by decide) (by decide) (by decide +kernel)
  have g7_3 : pSl 7 3 (pPut 58 (d, a, b, i)) = pSl 0 3 (d - 8) := pPut_shr 58 7 3 500 (d, a, b, i) (by decide) (by decide) (by decide) (by decide +kernel)
  have g10_6 : pSl 10 6 (pPut 58 (d, a, b, i)) = 33 := pPut_fix 58 10 6 33 (d, a, b, i) (by decide) (by decide) (by decide +kernel)
  generalize pPut 58 (d, a, b, i) = v at *
  have t : pTk 58 v = true := by
    refine t1.mpr ?_
    repeat' refine And.intro ?_ ?_
    all_goals first | assumption | (simp only [g0_2, g2_5, g7_3, g10_6]; simp only [sxt_6, sxt_9, sxt_10, sxt_12, sxt_13, sxt_21, pSl, show (2 : Int) ^ 0 = 1 from rfl, show (2 : Int) ^ 1 = 2 from rfl, show (2 : Int) ^ 2 = 4 from rfl, show (2 : Int) ^ 3 = 8 from rfl, show (2 : Int) ^ 4 = 16 from rfl, show (2 : Int) ^ 5 = 32 from rfl, show (2 : Int) ^ 6 = 64 from rfl, show (2 : Int) ^ 7 = 128 from rfl, show (2 : Int) ^ 8 = 256 from rfl, show (2 : Int) ^ 9 = 512 from rfl, show (2 : Int) ^ 10 = 1024 from rfl, show (2 : Int) ^ 11 = 2048 from rfl, show (2 : Int) ^ 12 = 4096 from rfl, show (2 : Int) ^ 13 = 8192 from rfl, show (2 : Int) ^ 14 = 16384 from rfl, show (2 : Int) ^ 15 = 32768 from rfl, show (2 : Int) ^ 16 = 65536 from rfl, show (2 : Int) ^ 17 = 131072 from rfl, show (2 : Int) ^ 18 = 262144 from rfl, show (2 : Int) ^ 19 = 524288 from rfl, show (2 : Int) ^ 20 = 1048576 from rfl]; repeat' split) <;> omega
  refine ⟨t, (t2 t).trans ?_⟩
  simp only [g0_2, g2_5, g7_3, g10_6]
  simp only [sxt_6, sxt_9, sxt_10, sxt_12, sxt_13, sxt_21, pSl, show (2 : Int) ^ 0 = 1 from rfl, show (2 : Int) ^ 1 = 2 from rfl, show (2 : Int) ^ 2 = 4 from rfl, show (2 : Int) ^ 3 = 8 from rfl, show (2 : Int) ^ 4 = 16 from rfl, show (2 : Int) ^ 5 = 32 from rfl, show (2 : Int) ^ 6 = 64 from rfl, show (2 : Int) ^ 7 = 128 from rfl, show (2 : Int) ^ 8 = 256 from rfl, show (2 : Int) ^ 9 = 512 from rfl, show (2 : Int) ^ 10 = 1024 from rfl, show (2 : Int) ^ 11 = 2048 from rfl, show (2 : Int) ^ 12 = 4096 from rfl, show (2 : Int) ^ 13 = 8192 from rfl, show (2 : Int) ^ 14 = 16384 from rfl, show (2 : Int) ^ 15 = 32768 from rfl, show (2 : Int) ^ 16 = 65536 from rfl, show (2 : Int) ^ 17 = 131072 from rfl, show (2 : Int) ^ 18 = 262144 from rfl, show (2 : Int) ^ 19 = 524288 from rfl, show (2 : Int) ^ 20 = 1048576 from rfl]
  refine j4e ?_ ?_ ?_ ?_
  all_goals first | rfl | (repeat' split) <;> omega
theorem pPut_59 (d a b i : Int) (h0 : 8 ≤ d ∧ d < 16) (h3 : -32 ≤ i ∧ i ≤ 31 ∧ i % 1 = 0) : pTk 59 (pPut 59 (d, a, b, i)) = true ∧ pPt 59 (pPut 59 (d, a, b, i)) = (d, 0, 0, i) := by
  obtain ⟨t1, t2⟩ := pTk_59 (pPut 59 (d, a, b, i))
  have g0_2 : pSl 0 2 (pPut 59 (d, a, b, i)) = 1 := pPut_fix 59 0 2 1 (d, a, b, i) (by decide) (by decide) (by decide +kernel)
  have g2_5 : pSl 2 5 (pPut 59 (d, a, b, i)) = pSl 0 5 i := pPut_part 59 2 5 400 (d, a, b, i) (by decide) (by decide) (by decide) (by decide) (by decide +kernel)
  have g7_3 : pSl 7 3 (pPut 59 (d, a, b, i)) = pSl 0 3 (d - 8) := pPut_shr 59 7 3 500 (d, a, b, i) (by decide) (by decide) (by decide) (by decide +kernel)
  have g10_2 : pSl 10 2 (pPut 59 (d, a, b, i)) = 2 := pPut_fix 59 10 2 2 (d, a, b, i) (by decide) (by decide) (by decide +kernel)
  have g12_1 : pSl 12 1 (pPut 59 (d, a, b, i)) = pSl 5 1 i := pPut_part 59 12 1 405 (d, a, b, i) (by decide) (by decide) (by decide) (by decide) (by decide +kernel)
  have g13_3 : pSl 13 3 (pPut 59 (d, a, b, i)) = 4 := pPut_fix 59 13 3 4 (d, a, b, i) (by decide) (by decide) (by decide +kernel)
  generalize pPut 59 (d, a, b, i) = v at *
  have t : pTk 59 v = true := by
    refine t1.mpr ?_
    repeat' refine And.intro ?_ ?_
    all_goals first | assumption | (simp only [g0_2, g2_5, g7_3, g10_2, g12_1, g13_3]; simp only [sxt_6, sxt_9, sxt_10, sxt_12, sxt_13, sxt_21, pSl, show (2 : Int) ^ 0 = 1 from rfl, show (2 : Int) ^ 1 = 2 from rfl, show (2 : Int) ^ 2 = 4 from rfl, show (2 : Int) ^ 3 = 8 from rfl, show (2 : Int) ^ 4 = 16 from rfl, show (2 : Int) ^ 5 = 32 from rfl, show (2 : Int) ^ 6 = 64 from rfl, show (2 : Int) ^ 7 = 128 from rfl, show (2 : Int) ^ 8 = 256 from rfl, show (2 : Int) ^ 9 = 512 from rfl, show (2 : Int) ^ 10 = 1024 from rfl, show (2 : Int) ^ 11 = 2048 from rfl, show (2 : Int) ^ 12 = 4096 from rfl, show (2 : Int) ^ 13 = 8192 from rfl, show (2 : Int) ^ 14 = 16384 from rfl, show (2 : Int) ^ 15 = 32768 from rfl, show (2 : Int) ^ 16 = 65536 from rfl, show (2 : Int) ^ 17 = 131072 from rfl, show (2 : Int) ^ 18 = 262144 from rfl, show (2 : Int) ^ 19 = 524288 from rfl, show (2 : Int) ^ 20 = 1048576 from rfl]; repeat' split) <;> omega
  refine ⟨t, (t2 t).trans ?_⟩
  simp only [g0_2, g2_5, g7_3, g10_2, g12_1, g13_3]
  simp only [sxt_6, sxt_9, sxt_10, sxt_12, sxt_13, sxt_21, pSl, show (2 : Int) ^ 0 = 1 from rfl, show (2 : Int) ^ 1 = 2 from rfl, show (2 : Int) ^ 2 = 4 from rfl, show (2 : Int) ^ 3 = 8 from rfl, show (2 : Int) ^ 4 = 16 from rfl, show (2 : Int) ^ 5 = 32 from rfl, show (2 : Int) ^ 6 = 64 from rfl, show (2 : Int) ^ 7 = 128 from rfl, show (2 : Int) ^ 8 = 256 from rfl, show (2 : Int) ^ 9 = 512 from rfl, show (2 : Int) ^ 10 = 1024 from rfl, show (2 : Int) ^ 11 = 2048 from rfl, show (2 : Int) ^ 12 = 4096 from rfl, show (2 : Int) ^ 13 = 8192 from rfl, show (2 : Int) ^ 14 = 16384 from rfl, show (2 : Int) ^ 15 = 32768 from rfl, show (2 : Int) ^ 16 = 65536 from rfl, show (2 : Int) ^ 17 = 131072 from rfl, show (2 : Int) ^ 18 = 262144 from rfl, show (2 : Int) ^ 19 = 524288 from rfl, show (2 : Int) ^ 20 = 1048576 from rfl]
  refine j4e ?_ ?_ ?_ ?_
  all_goals first | rfl | (repeat' split) <;> omega
theorem pPut_60 (d a b i : Int) (h0 : 8 ≤ d ∧ d < 16) (h2 : 8 ≤ b ∧ b < 16) : pTk 60 (pPut 60 (d, a, b, i)) = true ∧ pPt 60 (pPut 60 (d, a, b, i)) = (d, 0, b, 0) := by
  obtain ⟨t1, t2⟩ := pTk_60 (pPut 60 (d, a, b, i))
  have g0_2 : pSl 0 2 (pPut 60 (d, a, b, i)) = 1 := pPut_fix 60 0 2 1 (d, a, b, i) (by decide) (by decide) (by decide +kernel)
  have g2_3 : pSl 2 3 (pPut 60 (d, a, b, i)) = pSl 0 3 (b - 8) := pPut_shr 60 2 3 700 (d, a, b, i) (by decide) (by decide) (by decide) (by decide +kernel)
  have g5_2 : pSl 5 2 (pPut 60 (d, a, b, i)) = 0 := pPut_fix 60 5 2 0 (d, a, b, i) (by decide) (by decide) (by decide +kernel)
  have g7_3 : pSl 7 3 (pPut 60 (d, a, b, i)) = pSl 0 3 (d - 8) := pPut_shr 60 7 3 500 (d, a, b, i) (by decide) (by decide) (by decide) (by decide +kernel)
  have g10_6 : pSl 10 6 (pPut 60 (d, a, b, i)) = 35 := pPut_fix 60 10 6 35 (d, a, b, i) (by decide) (by decide) (by decide +kernel)
  generalize pPut 60 (d, a, b, i) = v at *
  have t : pTk 60 v = true := by
    refine t1.mpr ?_
    repeat' refine And.intro ?_ ?_
    all_goals first | assumption | (simp only [g0_2, g2_3, g5_2, g7_3, g10_6]; simp only [sxt_6, sxt_9, sxt_10, sxt_12, sxt_13, sxt_21, pSl, show (2 : Int) ^ 0 = 1 from rfl, show (2 : Int) ^ 1 = 2 from rfl, show (2 : Int) ^ 2 = 4 from rfl, show (2 : Int) ^ 3 = 8 from rfl, show (2 : Int) ^ 4 = 16 from rfl, show (2 : Int) ^ 5 = 32 from rfl, show (2 : Int) ^ 6 = 64 from rfl, show (2 : Int) ^ 7 = 128 from rfl, show (2 : Int) ^ 8 = 256 from rfl, show (2 : Int) ^ 9 = 512 from rfl, show (2 : Int) ^ 10 = 1024 from rfl, show (2 : Int) ^ 11 = 2048 from rfl, show (2 : Int) ^ 12 = 4096 from rfl, show (2 : Int) ^ 13 = 8192 from rfl, show (2 : Int) ^ 14 = 16384 from rfl, show (2 : Int) ^ 15 = 32768 from rfl, show (2 : Int) ^ 16 = 65536 from rfl, show (2 : Int) ^ 17 = 131072 from rfl, show (2 : Int) ^ 18 = 262144 from rfl, show (2 : Int) ^ 19 = 524288 from rfl, show (2 : Int) ^ 20 = 1048576 from rfl]; repeat' split) <;> omega
  refine ⟨t, (t2 t).trans ?_⟩
  simp only [g0_2, g2_3, g5_2, g7_3, g10_6]
  simp only [sxt_6, sxt_9, sxt_10, sxt_12, sxt_13, sxt_21, pSl, show (2 : Int) ^ 0 = 1 from rfl, show (2 : Int) ^ 1 = 2 from rfl, show (2 : Int) ^ 2 = 4 from rfl, show (2 : Int) ^ 3 = 8 from rfl, show (2 : Int) ^ 4 = 16 from rfl, show (2 : Int) ^ 5 = 32 from rfl, show (2 : Int) ^ 6 = 64 from rfl, show (2 : Int) ^ 7 = 128 from rfl, show (2 : Int) ^ 8 = 256 from rfl, show (2 : Int) ^ 9 = 512 from rfl, show (2 : Int) ^ 10 = 1024 from rfl, show (2 : Int) ^ 11 = 2048 from rfl, show (2 : Int) ^ 12 = 4096 from rfl, show (2 : Int) ^ 13 = 8192 from rfl, show (2 : Int) ^ 14 = 16384 from rfl, show (2 : Int) ^ 15 = 32768 from rfl, show (2 : Int) ^ 16 = 65536 from rfl, show (2 : Int) ^ 17 = 131072 from rfl, show (2 : Int) ^ 18 = 262144 from rfl, show (2 : Int) ^ 19 = 524288 from rfl, show (2 : Int) ^ 20 = 1048576 from rfl]
  refine j4e ?_ ?_ ?_ ?_
  all_goals first | rfl | (repeat' split) <;> omega
theorem pPut_61 (d a b i : Int) (h0 : 8 ≤ d ∧ d < 16) (h2 : 8 ≤ b ∧ b < 16) : pTk 61 (pPut 61 (d, a, b, i)) = true ∧ pPt 61 (pPut 61 (d, a, b, i)) = (d, 0, b, 0) := by
  obtain ⟨t1, t2⟩ := pTk_61 (pPut 61 (d, a, b, i))
  have g0_2 : pSl 0 2 (pPut 61 (d, a, b, i)) = 1 := pPut_fix 61 0 2 1 (d, a, b, i) (by decide) (by decide) (by decide +kernel)
  have g2_3 : pSl 2 3 (pPut 61 (d, a, b, i)) = pSl 0 3 (b - 8) := pPut_shr 61 2 3 700 (d, a, b, i) (by decide) (by decide) (by decide) (by decide +kernel)
  have g5_2 : pSl 5 2 (pPut 61 (d, a, b, i)) = 1 := pPut_fix 61 5 2 1 (d, a, b, i) (by decide) (by decide) (by decide +kernel)
  have g7_3 : pSl 7 3 (pPut 61 (d, a, b, i)) = pSl 0 3 (d - 8) := pPut_shr 61 7 3 500 (d, a, b, i) (by decide) (by decide) (by decide) (by decide +kernel)
  have g10_6 : pSl 10 6 (pPut 61 (d, a, b, i)) = 35 := pPut_fix 61 10 6 35 (d, a, b, i) (by decide) (by decide) (by decide +kernel)
  generalize pPut 61 (d, a, b, i) = v at *
  have t : pTk 61 v = true := by
    refine t1.mpr ?_
    repeat' refine And.intro ?_ ?_
    all_goals first | assumption | (simp only [g0_2, g2_3, g5_2, g7_3, g10_6]; simp only [sxt_6, sxt_9, sxt_10, sxt_12, sxt_13, sxt_21, pSl, show (2 : Int) ^ 0 = 1 from rfl, show (2 : Int) ^ 1 = 2 from rfl, show (2 : Int) ^ 2 = 4 from rfl, show (2 : Int) ^ 3 = 8 from rfl, show (2 : Int) ^ 4 = 16 from rfl, show (2 : Int) ^ 5 = 32 from rfl, show (2 : Int) ^ 6 = 64 from rfl, show (2 : Int) ^ 7 = 128 from rfl, show (2 : Int) ^ 8 = 256 from rfl, show (2 : Int) ^ 9 = 512 from rfl, show (2 : Int) ^ 10 = 1024 from rfl, show (2 : Int) ^ 11 = 2048 from rfl, show (2 : Int) ^ 12 = 4096 from rfl, show (2 : Int) ^ 13 = 8192 from rfl, show (2 : Int) ^ 14 = 16384 from rfl, show (2 : Int) ^ 15 = 32768 from rfl, show (2 : Int) ^ 16 = 65536 from rfl, show (2 : Int) ^ 17 = 131072 from rfl, show (2 : Int) ^ 18 = 262144 from rfl, show (2 : Int) ^ 19 = 524288 from rfl, show (2 : Int) ^ 20 = 1048576 from rfl]; repeat' split) <;> omega
  refine ⟨t, (t2 t).trans ?_⟩
  simp only [g0_2, g2_3, g5_2, g7_3, g10_6]
  simp only [sxt_6, sxt_9, sxt_10, sxt_12, sxt_13, sxt_21, pSl, show (2 : Int) ^ 0 = 1 from rfl, show (2 : Int) ^ 1 = 2 from rfl, show (2 : Int) ^ 2 = 4 from rfl, show (2 : Int) ^ 3 = 8 from rfl, show (2 : Int) ^ 4 = 16 from rfl, show (2 : Int) ^ 5 = 32 from rfl, show (2 : Int) ^ 6 = 64 from rfl, show (2 : Int) ^ 7 = 128 from rfl, show (2 : Int) ^ 8 = 256 from rfl, show (2 : Int) ^ 9 = 512 from rfl, show (2 : Int) ^ 10 = 1024 from rfl, show (2 : Int) ^ 11 = 2048 from rfl, show (2 : Int) ^ 12 = 4096 from rfl, show (2 : Int) ^ 13 = 8192 from rfl, show (2 : Int) ^ 14 = 16384 from rfl, show (2 : Int) ^ 15 = 32768 from rfl, show (2 : Int) ^ 16 = 65536 from rfl, show (2 : Int) ^ 17 = 131072 from rfl, show (2 : Int) ^ 18 = 262144 from rfl, show (2 : Int) ^ 19 = 524288 from rfl, show (2 : Int) ^ 20 = 1048576 from rfl]
  refine j4e ?_ ?_ ?_ ?_
  all_goals first | rfl | (repeat' split) <;> omega
theorem pPut_62 (d a b i : Int) (h0 : 8 ≤ d ∧ d < 16) (h2 : 8 ≤ b ∧ b < 16) : pTk 62 (pPut 62 (d, a, b, i)) = true ∧ pPt 62 (pPut 62 (d, a, b, i)) = (d, 0, b, 0) := by
  obtain ⟨t1, t2⟩ := pTk_62 (pPut 62 (d, a, b, i))
  have g0_2 : pSl 0 2 (pPut 62 (d, a, b, i)) = 1 := pPut_fix 62 0 2 1 (d, a, b, i) (by decide) (by decide) (by decide +kernel)
  have g2_3 : pSl 2 3 (pPut 62 (d, a, b, i)) = pSl 0 3 (b - 8) := pPut_shr 62 2 3 700 (d, a, b, i) (by decide) (by decide) (by decide) (by decide +kernel)
  have g5_2 : pSl 5 2 (pPut 62 (d, a, b, i)) = 2 := pPut_fix 62 5 2 2 (d, a, b, i) (by decide) (by decide) (by decide +kernel)
  have g7_3 : pSl 7 3 (pPut 62 (d, a, b, i)) = pSl 0 3 (d - 8) := pPut_shr 62 7 3 500 (d, a, b, i) (by decide) (by decide) (by decide) (by decide +kernel)
  have g10_6 : pSl 10 6 (pPut 62 (d, a, b, i)) = 35 := pPut_fix 62 10 6 35 (d, a, b, i) (by decide) (by decide) (by decide +kernel)
  generalize pPut 62 (d, a, b, i) = v at *
  have t : pTk 62 v = true := by
    refine t1.mpr ?_
    repeat' refine And.intro ?_ ?_
    all_goals first | assumption | (simp only [g0_2, g2_3, g5_2, g7_3, g10_6]; simp only [sxt_6, sxt_9, sxt_10, sxt_12, sxt_13, sxt_21, pSl, show (2 : Int) ^ 0 = 1 from rfl, show (2 : Int) ^ 1 = 2 from rfl, show (2 : Int) ^ 2 = 4 from rfl, show (2 : Int) ^ 3 = 8 from rfl, show (2 : Int) ^ 4 = 16 from rfl, show (2 : Int) ^ 5 = 32 from rfl, show (2 : Int) ^ 6 = 64 from rfl, show (2 : Int) ^ 7 = 128 from rfl, show (2 : Int) ^ 8 = 256 from rfl, show (2 : Int) ^ 9 = 512 from rfl, show (2 : Int) ^ 10 = 1024 from rfl, show (2 : Int) ^ 11 = 2048 from rfl, show (2 : Int) ^ 12 = 4096 from rfl, show (2 : Int) ^ 13 = 8192 from rfl, show (2 : Int) ^ 14 = 16384 from rfl, show (2 : Int) ^ 15 = 32768 from rfl, show (2 : Int) ^ 16 = 65536 from rfl, show (2 : Int) ^ 17 = 131072 from rfl, show (2 : Int) ^ 18 = 262144 from rfl, show (2 : Int) ^ 19 = 524288 from rfl, show (2 : Int) ^ 20 = 1048576 from rfl]; repeat' split) <;> omega
  refine ⟨t, (t2 t).trans ?_⟩
  simp only [g0_2, g2_3, g5_2, g7_3, g10_6]
  simp only [sxt_6, sxt_9, sxt_10, sxt_12, sxt_13, sxt_21, pSl, show (2 : Int) ^ 0 = 1 from rfl, show (2 : Int) ^ 1 = 2 from rfl, show (2 : Int) ^ 2 = 4 from rfl, show (2 : Int) ^ 3 = 8 from rfl, show (2 : Int) ^ 4 = 16 from rfl, show (2 : Int) ^ 5 = 32 from rfl, show (2 : Int) ^ 6 = 64 from rfl, show (2 : Int) ^ 7 = 128 from rfl, show (2 : Int) ^ 8 = 256 from rfl, show (2 : Int) ^ 9 = 512 from rfl, show (2 : Int) ^ 10 = 1024 from rfl, show (2 : Int) ^ 11 = 2048 from rfl, show (2 : Int) ^ 12 = 4096 from rfl, show (2 : Int) ^ 13 = 8192 from rfl, show (2 : Int) ^ 14 = 16384 from rfl, show (2 : Int) ^ 15 = 32768 from rfl, show (2 : Int) ^ 16 = 65536 from rfl, show (2 : Int) ^ 17 = 131072 from rfl, show (2 : Int) ^ 18 = 262144 from rfl, show (2 : Int) ^ 19 = 524288 from rfl, show (2 : Int) ^ 20 = 1048576 from rfl]
  refine j4e ?_ ?_ ?_ ?_
  all_goals first | rfl | (repeat' split) <;> omega
theorem pPut_63 (d a b i : Int) (h0 : 8 ≤ d ∧ d < 16) (h2 : 8 ≤ b ∧ b < 16) : pTk 63 (pPut 63 (d, a, b, i)) = true ∧ pPt 63 (pPut 63 (d, a, b, i)) = (d, 0, b, 0) := by
  obtain ⟨t1, t2⟩ := pTk_63 (pPut 63 (d, a, b, i))
  have g0_2 : pSl 0 2 (pPut 63 (d, a, b, i)) = 1 := pPut_fix 63 0 2 1 (d, a, b, i) (by decide) (by decide) (by decide +kernel)
  have g2_3 : pSl 2 3 (pPut 63 (d, a, b, i)) = pSl 0 3 (b - 8) := pPut_shr 63 2 3 700 (d, a, b, i) (by decide) (by decide) (by decide) (by decide +kernel)
  have g5_2 : pSl 5 2 (pPut 63 (d, a, b, i)) = 3 := pPut_fix 63 5 2 3 (d, a, b, i) (by decide) (by decide) (by decide +kernel)
  have g7_3 : pSl 7 3 (pPut 63 (d, a, b, i)) = pSl 0 3 (d - 8) := pPut_shr 63 7 3 500 (d, a, b, i) (by decide) (by decide) (by decide) (by decide +kernel)
  have g10_6 : pSl 10 6 (pPut 63 (d, a, b, i)) = 35 := pPut_fix 63 10 6 35 (d, a, b, i) (by decide) (by decide) (by decide +kernel)
  generalize pPut 63 (d, a, b, i) = v at *
  have t : pTk 63 v = true := by
    refine t1.mpr ?_
    repeat' refine And.intro ?_ ?_
    all_goals first | assumption | (simp only [g0_2, g2_3, g5_2, g7_3, g10_6]; simp only [sxt_6, sxt_9, sxt_10, sxt_12, sxt_13, sxt_21, pSl, show (2 : Int) ^ 0 = 1 from rfl, show (2 : Int) ^ 1 = 2 from rfl, show (2 : Int) ^ 2 = 4 from rfl, show (2 : Int) ^ 3 = 8 from rfl, show (2 : Int) ^ 4 = 16 from rfl, show (2 : Int) ^ 5 = 32 from rfl, show (2 : Int) ^ 6 = 64 from rfl, show (2 : Int) ^ 7 = 128 from rfl, show (2 : Int) ^ 8 = 256 from rfl, show (2 : Int) ^ 9 = 512 from rfl, show (2 : Int) ^ 10 = 1024 from rfl, show (2 : Int) ^ 11 = 2048 from rfl, show (2 : Int) ^ 12 = 4096 from rfl, show (2 : Int) ^ 13 = 8192 from rfl, show (2 : Int) ^ 14 = 16384 from rfl, show (2 : Int) ^ 15 = 32768 from rfl, show (2 : Int) ^ 16 = 65536 from rfl, show (2 : Int) ^ 17 = 131072 from rfl, show (2 : Int) ^ 18 = 262144 from rfl, show (2 : Int) ^ 19 = 524288 from rfl, show (2 : Int) ^ 20 = 1048576 from rfl]; repeat' split) <;> omega
  refine ⟨t, (t2 t).trans ?_⟩
  simp only [g0_2, g2_3, g5_2, g7_3, g10_6]
  simp only [sxt_6, sxt_9, sxt_10, sxt_12, sxt_13, sxt_21, pSl, show (2 : Int) ^ 0 = 1 from rfl, show (2 : Int) ^ 1 = 2 from rfl, show (2 : Int) ^ 2 = 4 from rfl, show (2 : Int) ^ 3 = 8 from rfl, show (2 : Int) ^ 4 = 16 from rfl, show (2 : Int) ^ 5 = 32 from rfl, show (2 : Int) ^ 6 = 64 from rfl, show (2 : Int) ^ 7 = 128 from rfl, show (2 : Int) ^ 8 = 256 from rfl, show (2 : Int) ^ 9 = 512 from rfl, show (2 : Int) ^ 10 = 1024 from rfl, show (2 : Int) ^ 11 = 2048 from rfl, show (2 : Int) ^ 12 = 4096 from rfl, show (2 : Int) ^ 13 = 8192 from rfl, show (2 : Int) ^ 14 = 16384 from rfl, show (2 : Int) ^ 15 = 32768 from rfl, show (2 : Int) ^ 16 = 65536 from rfl, show (2 : Int) ^ 17 = 131072 from rfl, show (2 : Int) ^ 18 = 262144 from rfl, show (2 : Int) ^ 19 = 524288 from rfl, show (2 : Int) ^ 20 = 1048576 from rfl]
  refine j4e ?_ ?_ ?_ ?_
  all_goals first | rfl | (repeat' split) <;> omega
theorem pPut_64 (d a b i : Int) (h3 : -2048 ≤ i ∧ i ≤ 2046 ∧ i % 2 = 0) : pTk 64 (pPut 64 (d, a, b, i)) = true ∧ pPt 64 (pPut 64 (d, a, b, i)) = (0, 0, 0, i) := by
  obtain ⟨t1, t2⟩ := pTk_64 (pPut 64 (d, a, b, i))
  have g0_2 : pSl 0 2 (pPut 64 (d, a, b, i)) = 1 := pPut_fix 64 0 2 1 (d, a, b, i) (by decide) (by decide) (by decide +kernel)
  have g2_1 : pSl 2 1 (pPut 64 (d, a, b, i)) = pSl 5 1 i := pPut_part 64 2 1 405 (d, a, b, i) (by decide) (by decide) (by decide) (by decide) (by decide +kernel)
  have g3_3 : pSl 3 3 (pPut 64 (d, a, b, i)) = pSl 1 3 i := pPut_part 64 3 3 401 (d, a, b, i) (by decide) (by decide) (by decide) (by decide) (by decide +kernel)
  have g6_1 : pSl 6 1 (pPut 64 (d, a, b, i)) = pSl 7 1 i := pPut_part 64 6 1 407 (d, a, b, i) (by decide) (by decide) (by decide) (by decide) (by decide +kernel)
  have g7_1 : pSl 7 1 (pPut 64 (d, a, b, i)) = pSl 6 1 i := pPut_part 64 7 1 406 (d, a, b, i) (by decide) (by decide) (by decide) (by decide) (by decide +kernel)
  have g8_1 : pSl 8 1 (pPut 64 (d, a, b, i)) = pSl 10 1 i := pPut_part 64 8 1 410 (d, a, b, i) (by decide) (by decide) (by decide) (by decide) (by decide +kernel)
  have g9_2 : pSl 9 2 (pPut 64 (d, a, b, i)) = pSl 8 2 i := pPut_part 64 9 2 408 (d, a, b, i) (by decide) (by decide) (by decide) (by decide) (by decide +kernel)
  have g11_1 : pSl 11 1 (pPut 64 (d, a, b, i)) = pSl 4 1 i := pPut_part 64 11 1 404 (d, a, b, i) (by decide) (by decide) (by decide) (by decide) (by decide +kernel)
  have g12_1 : pSl 12 1 (pPut 64 (d, a, b, i)) = pSl 11 1 i := pPut_part 64 12 1 411 (d, a, b, i) (by decide) (by decide) (by decide) (by decide) (by decide +kernel)
  have g13_3 : pSl 13 3 (pPut 64 (d, a, b, i)) = 5 := pPut_fix 64 13 3 5 (d, a, b, i) (by decide) (by decide) (by decide +kernel)
  generalize pPut 64 (d, a, b, i) = v at *
  have t : pTk 64 v = true := by
    refine t1.mpr ?_
    repeat' refine And.intro ?_ ?_
    all_goals first | assumption | (simp only [g0_2, g2_1, g3_3, g6_1, g7_1, g8_1, g9_2, g11_1, g12_1, g13_3]; simp only [sxt_6, sxt_9, sxt_10, sxt_12, sxt_13, sxt_21, pSl, show (2 : Int) ^ 0 = 1 from rfl, show (2 : Int) ^ 1 = 2 from rfl, show (2 : Int) ^ 2 = 4 from rfl, show (2 : Int) ^ 3 = 8 from rfl, show (2 : Int) ^ 4 = 16 from rfl, show (2 : Int) ^ 5 = 32 from rfl, show (2 : Int) ^ 6 = 64 from rfl, show (2 : Int) ^ 7 = 128 from rfl, show (2 : Int) ^ 8 = 256 from rfl, show (2 : Int) ^ 9 = 512 from rfl, show (2 : Int) ^ 10 = 1024 from rfl, show (2 : Int) ^ 11 = 2048 from rfl, show (2 : Int) ^ 12 = 4096 from rfl, show (2 : Int) ^ 13 = 8192 from rfl, show (2 : Int) ^ 14 = 16384 from rfl, show (2 : Int) ^ 15 = 32768 from rfl, show (2 : Int) ^ 16 = 65536 from rfl, show (2 : Int) ^ 17 = 131072 from rfl, show (2 : Int) ^ 18 = 262144 from rfl, show (2 : Int) ^ 19 = 524288 from rfl, show (2 : Int) ^ 20 = 1048576 from rfl]; repeat' split) <;> omega
  refine ⟨t, (t2 t).trans ?_⟩
  simp only [g0_2, g2_1, g3_3, g6_1, g7_1, g8_1, g9_2, g11_1, g12_1, g13_3]
  simp only [sxt_6, sxt_9, sxt_10, sxt_12, sxt_13, sxt_21, pSl, show (2 : Int) ^ 0 = 1 from rfl, show (2 : Int) ^ 1 = 2 from rfl, show (2 : Int) ^ 2 = 4 from rfl, show (2 : Int) ^ 3 = 8 from rfl, show (2 : Int) ^ 4 = 16 from rfl, show (2 : Int) ^ 5 = 32 from rfl, show (2 : Int) ^ 6 = 64 from rfl, show (2 : Int) ^ 7 = 128 from rfl, show (2 : Int) ^ 8 = 256 from rfl, show (2 : Int) ^ 9 = 512 from rfl, show (2 : Int) ^ 10 = 1024 from rfl, show (2 : Int) ^ 11 = 2048 from rfl, show (2 : Int) ^ 12 = 4096 from rfl, show (2 : Int) ^ 13 = 8192 from rfl, show (2 : Int) ^ 14 = 16384 from rfl, show (2 : Int) ^ 15 = 32768 from rfl, show (2 : Int) ^ 16 = 65536 from rfl, show (2 : Int) ^ 17 = 131072 from rfl, show (2 : Int) ^ 18 = 262144 from rfl, show (2 : Int) ^ 19 = 524288 from rfl, show (2 : Int) ^ 20 = 1048576 from rfl]
  refine j4e ?_ ?_ ?_ ?_
  all_goals first | rfl | (repeat' split) <;> omega
theorem pPut_65 (d a b i : Int) (h1 : 8 ≤ a ∧ a < 16) (h3 : -256 ≤ i ∧ i ≤ 254 ∧ i % 2 = 0) : pTk 65 (pPut 65 (d, a, b, i)) = true ∧ pPt 65 (pPut 65 (d, a, b, i)) = (0, a, 0, i) := by
  obtain ⟨t1, t2⟩ := pTk_65 (pPut 65 (d, a, b, i))
  have g0_2 : pSl 0 2 (pPut 65 (d, a, b, i)) = 1 := pPut_fix 65 0 2 1 (d, a, b, i) (by decide) (by decide) (by decide +kernel)
  have g2_1 : pSl 2 1 (pPut 65 (d, a, b, i)) = pSl 5 1 i := pPut_part 65 2 1 405 (d, a, b, i) (by decide) (by decide) (by decide) (by decide) (by decide +kernel)
  have g3_2 : pSl 3 2 (pPut 65 (d, a, b, i)) = pSl 1 2 i := pPut_part 65 3 2 401 (d, a, b, i) (by decide) (by decide) (by decide) (by decide) (by decide +kernel)
  have g5_2 : pSl 5 2 (pPut 65 (d, a, b, i)) = pSl 6 2 i := pPut_part 65 5 2 406 (d, a, b, i) (by decide) (by decide) (by decide) (by decide) (by decide +kernel)
  have g7_3 : pSl 7 3 (pPut 65 (d, a, b, i)) = pSl 0 3 (a - 8) := pPut_shr 65 7 3 600 (d, a, b, i) (by decide) (by decide) (by decide) (by decide +kernel)
  have g10_2 : pSl 10 2 (pPut 65 (d, a, b, i)) = pSl 3 2 i := pPut_part 65 10 2 403 (d, a, b, i) (by decide) (by decide) (by decide) (by decide) (by decide +kernel)
  have g12_1 : pSl 12 1 (pPut 65 (d, a, b, i)) = pSl 8 1 i := pPut_part 65 12 1 408 (d, a, b, i) (by decide) (by decide) (by decide) (by decide) (by decide +kernel)
  have g13_3 : pSl 13 3 (pPut 65 (d, a, b, i)) = 6 := pPut_fix 65 13 3 6 (d, a, b, i) (by decide) (by decide) (by decide +kernel)
  generalize pPut 65 (d, a, b, i) = v at *
  have t : pTk 65 v = true := by
    refine t1.mpr ?_
    repeat' refine And.intro ?_ ?_
    all_goals first | assumption | (simp only [g0_2, g2_1, g3_2, g5_2, g7_3, g10_2, g12_1, g13_3]; simp only [sxt_6, sxt_9, sxt_10, sxt_12, sxt_13, sxt_21, pSl, show (2 : Int) ^ 0 = 1 from rfl, show (2 : Int) ^ 1 = 2 from rfl, show (2 : Int) ^ 2 = 4 from rfl, show (2 : Int) ^ 3 = 8 from rfl, show (2 : Int) ^ 4 = 16 from rfl, show (2 : Int) ^ 5 = 32 from rfl, show (2 : Int) ^ 6 = 64 from rfl, show (2 : Int) ^ 7 = 128 from rfl, show (2 : Int) ^ 8 = 256 from rfl, show (2 : Int) ^ 9 = 512 from rfl, show (2 : Int) ^ 10 = 1024 from rfl, show (2 : Int) ^ 11 = 2048 from rfl, show (2 : Int) ^ 12 = 4096 from rfl, show (2 : Int) ^ 13 = 8192 from rfl, show (2 : Int) ^ 14 = 16384 from rfl, show (2 : Int) ^ 15 = 32768 from rfl, show (2 : Int) ^ 16 = 65536 from rfl, show (2 : Int) ^ 17 = 131072 from rfl, show (2 : Int) ^ 18 = 262144 from rfl, show (2 : Int) ^ 19 = 524288 from rfl, show (2 : Int) ^ 20 = 1048576 from rfl]; repeat' split) <;> omega
  refine ⟨t, (t2 t).trans ?_⟩
  simp only [g0_2, g2_1, g3_2, g5_2, g7_3, g10_2, g12_1, g13_3]
  simp only [sxt_6, sxt_9, sxt_10, sxt_12, sxt_13, sxt_21, pSl, show (2 : Int) ^ 0 = 1 from rfl, show (2 : Int) ^ 1 = 2 from rfl, show (2 : Int) ^ 2 = 4 from rfl, show (2 : Int) ^ 3 = 8 from rfl, show (2 : Int) ^ 4 = 16 from rfl, show (2 : Int) ^ 5 = 32 from rfl, show (2 : Int) ^ 6 = 64 from rfl, show (2 : Int) ^ 7 = 128 from rfl, show (2 : Int) ^ 8 = 256 from rfl, show (2 : Int) ^ 9 = 512 from rfl, show (2 : Int) ^ 10 = 1024 from rfl, show (2 : Int) ^ 11 = 2048 from rfl, show (2 : Int) ^ 12 = 4096 from rfl, show (2 : Int) ^ 13 = 8192 from rfl, show (2 : Int) ^ 14 = 16384 from rfl, show (2 : Int) ^ 15 = 32768 from rfl, show (2 : Int) ^ 16 = 65536 from rfl, show (2 : Int) ^ 17 = 131072 from rfl, show (2 : Int) ^ 18 = 262144 from rfl, show (2 : Int) ^ 19 = 524288 from rfl, show (2 : Int) ^ 20 = 1048576 from rfl]
  refine j4e ?_ ?_ ?_ ?_
  all_goals first | rfl | (repeat' split) <;> omega
theorem pPut_66 (d a b i : Int) (h1 : 8 ≤ a ∧ a < 16) (h3 : -256 ≤ i ∧ i ≤ 254 ∧ i % 2 = 0) : pTk 66 (pPut 66 (d, a, b, i)) = true ∧ pPt 66 (pPut 66 (d, a, b, i)) = (0, a, 0, i) := by
  obtain ⟨t1, t2⟩ := pTk_66 (pPut 66 (d, a, b, i))
  have g0_2 : pSl 0 2 (pPut 66 (d, a, b, i)) = 1 := pPut_fix 66 0 2 1 (d, a, b, i) (by decide) (by decide) (by decide +kernel)
  have g2_1 : pSl 2 1 (pPut 66 (d, a, b, i)) = pSl 5 1 i := pPut_part 66 2 1 405 (d, a, b, i) (by decide) (by decide) (by decide) (by decide) (by decide +kernel)
  have g3_2 : pSl 3 2 (pPut 66 (d, a, b, i)) = pSl 1 2 i := pPut_part 66 3 2 401 (d, a, b, i) (by decide) (by decide) (by decide) (by decide) (by decide +kernel)
  have g5_2 : pSl 5 2 (pPut 66 (d, a, b, i)) = pSl 6 2 i := pPut_part 66 5 2 406 (d, a, b, i) (by decide) (by decide) (by decide) (by decide) (by decide +kernel)
  have g7_3 : pSl 7 3 (pPut 66 (d, a, b, i)) = pSl 0 3 (a - 8) := pPut_shr 66 7 3 600 (d, a, b, i) (by decide) (by decide) (by decide) (by decide +kernel)
  have g10_2 : pSl 10 2 (pPut 66 (d, a, b, i)) = pSl 3 2 i := pPut_part 66 10 2 403 (d, a, b, i) (by decide) (by decide) (by decide) (by decide) (by decide +kernel)
  have g12_1 : pSl 12 1 (pPut 66 (d, a, b, i)) = pSl 8 1 i := pPut_part 66 12 1 408 (d, a, b, i) (by decide) (by decide) (by decide) (by decide) (by decide +kernel)
  have g13_3 : pSl 13 3 (pPut 66 (d, a, b, i)) = 7 := pPut_fix 66 13 3 7 (d, a, b, i) (by decide) (by decide) (by decide +kernel)
  generalize pPut 66 (d, a, b, i) = v at *
  have t : pTk 66 v = true := by
    refine t1.mpr ?_
    repeat' refine And.intro ?_ ?_
    all_goals first | assumption | (simp only [g0_2, g2_1, g3_2, g5_2, g7_3, g10_2, g12_1, g13_3]; simp only [sxt_6, sxt_9, sxt_10, sxt_12, sxt_13, sxt_21, pSl, show (2 : Int) ^ 0 = 1 from rfl, show (2 : Int) ^ 1 = 2 from rfl, show (2 : Int) ^ 2 = 4 from rfl, show (2 : Int) ^ 3 = 8 from rfl, show (2 : Int) ^ 4 = 16 from rfl, show (2 : Int) ^ 5 = 32 from rfl, show (2 : Int) ^ 6 = 64 from rfl, show (2 : Int) ^ 7 = 128 from rfl, show (2 : Int) ^ 8 = 256 from rfl, show (2 : Int) ^ 9 = 512 from rfl, show (2 : Int) ^ 10 = 1024 from rfl, show (2 : Int) ^ 11 = 2048 from rfl, show (2 : Int) ^ 12 = 4096 from rfl, show (2 : Int) ^ 13 = 8192 from rfl, show (2 : Int) ^ 14 = 16384 from rfl, show (2 : Int) ^ 15 = 32768 from rfl, show (2 : Int) ^ 16 = 65536 from rfl, show (2 : Int) ^ 17 = 131072 from rfl, show (2 : Int) ^ 18 = 262144 from rfl, show (2 : Int) ^ 19 = 524288 from rfl, show (2 : Int) ^ 20 = 1048576 from rfl]; repeat' split) <;> omega
  refine ⟨t, (t2 t).trans ?_⟩
  simp only [g0_2, g2_1, g3_2, g5_2, g7_3, g10_2, g12_1, g13_3]
  simp only [sxt_6, sxt_9, sxt_10, sxt_12, sxt_13, sxt_21, pSl, show (2 : Int) ^ 0 = 1 from rfl, show (2 : Int) ^ 1 = 2 from rfl, show (2 : Int) ^ 2 = 4 from rfl, show (2 : Int) ^ 3 = 8 from rfl, show (2 : Int) ^ 4 = 16 from rfl, show (2 : Int) ^ 5 = 32 from rfl, show (2 : Int) ^ 6 = 64 from rfl, show (2 : Int) ^ 7 = 128 from rfl, show (2 : Int) ^ 8 = 256 from rfl, show (2 : Int) ^ 9 = 512 from rfl, show (2 : Int) ^ 10 = 1024 from rfl, show (2 : Int) ^ 11 = 2048 from rfl, show (2 : Int) ^ 12 = 4096 from rfl, show (2 : Int) ^ 13 = 8192 from rfl, show (2 : Int) ^ 14 = 16384 from rfl, show (2 : Int) ^ 15 = 32768 from rfl, show (2 : Int) ^ 16 = 65536 from rfl, show (2 : Int) ^ 17 = 131072 from rfl, show (2 : Int) ^ 18 = 262144 from rfl, show (2 : Int) ^ 19 = 524288 from rfl, show (2 : Int) ^ 20 = 1048576 from rfl]
  refine j4e ?_ ?_ ?_ ?_
  all_goals first | rfl | (repeat' split) <;> omega
theorem pPut_67 (d a b i : Int) (h0 : 1 ≤ d ∧ d ≤ 31) (h3 : 1 ≤ i ∧ i ≤ 31 ∧ i % 1 = 0) : pTk 67 (pPut 67 (d, a, b, i)) = true ∧ pPt 67 (pPut 67 (d, a, b, i)) = (d, 0, 0, i) := by
  obtain ⟨t1, t2⟩ := pTk_67 (pPut 67 (d, a, b, i))
  have g0_2 : pSl 0 2 (pPut 67 (d, a, b, i)) = 2 := pPut_fix 67 0 2 2 (d, a, b, i) (by decide) (by decide) (by decide +kernel)
  have g2_5 : pSl 2 5 (pPut 67 (d, a, b, i)) = pSl 0 5 i := pPut_part 67 2 5 400 (d, a, b, i) (by decide) (by decide) (by decide) (by decide) (by decide +kernel)
  have g7_5 : pSl 7 5 (pPut 67 (d, a, b, i)) = pSl 0 5 d := pPut_part 67 7 5 100 (d, a, b, i) (by decide) (by decide) (by decide) (by decide) (by decide +kernel)
  have g12_4 : pSl 12 4 (pPut 67 (d, a, b, i)) = 0 := pPut_fix 67 12 4 0 (d, a, b, i) (by decide) (by decide) (by decide +kernel)
  generalize pPut 67 (d, a, b, i) = v at *
  have t : pTk 67 v = true := by
    refine t1.mpr ?_
    repeat' refine And.intro ?_ ?_
    all_goals first | assumption | (simp only [g0_2, g2_5, g7_5, g12_4]; simp only [sxt_6, sxt_9, sxt_10, sxt_12, sxt_13, sxt_21, pSl, show (2 : Int) ^ 0 = 1 from rfl, show (2 : Int) ^ 1 = 2 from rfl, show (2 : Int) ^ 2 = 4 from rfl, show (2 : Int) ^ 3 = 8 from rfl, show (2 : Int) ^ 4 = 16 from rfl, show (2 : Int) ^ 5 = 32 from rfl, show (2 : Int) ^ 6 = 64 from rfl, show (2 : Int) ^ 7 = 128 from rfl, show (2 : Int) ^ 8 = 256 from rfl, show (2 : Int) ^ 9 = 512 from rfl, show (2 : Int) ^ 10 = 1024 from rfl, show (2 : Int) ^ 11 = 2048 from rfl, show (2 : Int) ^ 12 = 4096 from rfl, show (2 : Int) ^ 13 = 8192 from rfl, show (2 : Int) ^ 14 = 16384 from rfl, show (2 : Int) ^ 15 = 32768 from rfl, show (2 : Int) ^ 16 = 65536 from rfl, show (2 : Int) ^ 17 = 131072 from rfl, show (2 : Int) ^ 18 = 262144 from rfl, show (2 : Int) ^ 19 = 524288 from rfl, show (2 : Int) ^ 20 = 1048576 from rfl]; repeat' split) <;> omega
  refine ⟨t, (t2 t).trans ?_⟩
  simp only [g0_2, g2_5, g7_5, g12_4]
  simp only [sxt_6, sxt_9, sxt_10, sxt_12, sxt_13, sxt_21, pSl, show (2 : Int) ^ 0 = 1 from rfl, show (2 : Int) ^ 1 = 2 from rfl, show (2 : Int) ^ 2 = 4 from rfl, show (2 : Int) ^ 3 = 8 from rfl, show (2 : Int) ^ 4 = 16 from rfl, show (2 : Int) ^ 5 = 32 from rfl, show (2 : Int) ^ 6 = 64 from rfl, show (2 : Int) ^ 7 = 128 from rfl, show (2 : Int) ^ 8 = 256 from rfl, show (2 : Int) ^ 9 = 512 from rfl, show (2 : Int) ^ 10 = 1024 from rfl, show (2 : Int) ^ 11 = 2048 from rfl, show (2 : Int) ^ 12 = 4096 from rfl, show (2 : Int) ^ 13 = 8192 from rfl, show (2 : Int) ^ 14 = 16384 from rfl, show (2 : Int) ^ 15 = 32768 from rfl, show (2 : Int) ^ 16 = 65536 from rfl, show (2 : Int) ^ 17 = 131072 from rfl, show (2 : Int) ^ 18 = 262144 from rfl, show (2 : Int) ^ 19 = 524288 from rfl, show (2 : Int) ^ 20 = 1048576 from rfl]
  refine j4e ?_ ?_ ?_ ?_
  all_goals first | rfl | (repeat' split) <;> omega
theorem pPut_68 (d a b i : Int) (h0 : 1 ≤ d ∧ d ≤ 31) (h3 : 0 ≤ i ∧ i ≤ 252 ∧ i % 4 = 0) : pTk 68 (pPut 68 (d, a, b, i)) = true ∧ pPt 68 (pPut 68 (d, a, b, i)) = (d, 0, 0, i) := by
  obtain ⟨t1, t2⟩ := pTk_68 (pPut 68 (d, a, b, i))
  have g0_2 : pSl 0 2 (pPut 68 (d, a, b, i)) = 2 := pPut_fix 68 0 2 2 (d, a, b, i) (by decide) (by decide) (by decide +kernel)
  have g2_2 : pSl 2 2 (pPut 68 (d, a, b, i)) = pSl 6 2 i := pPut_part 68 2 2 406 (d, a, b, i) (by decide) (by decide) (by decide) (by decide) (by decide +kernel)
  have g4_3 : pSl 4 3 (pPut 68 (d, a, b, i)) = pSl 2 3 i := pPut_part 68 4 3 402 (d, a, b, i) (by decide) (by decide) (by decide) (by decide) (by decide +kernel)
  have g7_5 : pSl 7 5 (pPut 68 (d, a, b, i)) = pSl 0 5 d := pPut_part 68 7 5 100 (d, a, b, i) (by decide) (by decide) (by decide) (by decide) (by decide +kernel)
  have g12_1 : pSl 12 1 (pPut 68 (d, a, b, i)) = pSl 5 1 i := pPut_part 68 12 1 405 (d, a, b, i) (by decide) (by decide) (by decide) (by decide) (by decide +kernel)
  have g13_3 : pSl 13 3 (pPut 68 (d, a, b, i)) = 2 := pPut_fix 68 13 3 2 (d, a, b, i) (by decide) (by decide) (by decide +kernel)
  generalize pPut 68 (d, a, b, i) = v at *
  have t : pTk 68 v = true := by
    refine t1.mpr ?_
    repeat' refine And.intro ?_ ?_
    all_goals first | assumption | (simp only [g0_2, g2_2, g4_3, g7_5, g12_1, g13_3]; simp only [sxt_6, sxt_9, sxt_10, sxt_12, sxt_13, sxt_21, pSl, show (2 : Int) ^ 0 = 1 from rfl, show (2 : Int) ^ 1 = 2 from rfl, show (2 : Int) ^ 2 = 4 from rfl, show (2 : Int) ^ 3 = 8 from rfl, show (2 : Int) ^ 4 = 16 from rfl, show (2 : Int) ^ 5 = 32 from rfl, show (2 : Int) ^ 6 = 64 from rfl, show (2 : Int) ^ 7 = 128 from rfl, show (2 : Int) ^ 8 = 256 from rfl, show (2 : Int) ^ 9 = 512 from rfl, show (2 : Int) ^ 10 = 1024 from rfl, show (2 : Int) ^ 11 = 2048 from rfl, show (2 : Int) ^ 12 = 4096 from rfl, show (2 : Int) ^ 13 = 8192 from rfl, show (2 : Int) ^ 14 = 16384 from rfl, show (2 : Int) ^ 15 = 32768 from rfl, show (2 : Int) ^ 16 = 65536 from rfl, show (2 : Int) ^ 17 = 131072 from rfl, show (2 : Int) ^ 18 = 262144 from rfl, show (2 : Int) ^ 19 = 524288 from rfl, show (2 : Int) ^ 20 = 1048576 from rfl]; repeat' split) <;> omega
  refine ⟨t, (t2 t).trans ?_⟩
  simp only [g0_2, g2_2, g4_3, g7_5, g12_1, g13_3]
  simp only [sxt_6, sxt_9, sxt_10, sxt_12, sxt_13, sxt_21, pSl, show (2 : Int) ^ 0 = 1 from rfl, show (2 : Int) ^ 1 = 2 from rfl, show (2 : Int) ^ 2 = 4 from rfl, show (2 : Int) ^ 3 = 8 from rfl, show (2 : Int) ^ 4 = 16 from rfl, show (2 : Int) ^ 5 = 32 from rfl, show (2 : Int) ^ 6 = 64 from rfl, show (2 : Int) ^ 7 = 128 from rfl, show (2 : Int) ^ 8 = 256 from rfl, show (2 : Int) ^ 9 = 512 from rfl, show (2 : Int) ^ 10 = 1024 from rfl, show (2 : Int) ^ 11 = 2048 from rfl, show (2 : Int) ^ 12 = 4096 from rfl, show (2 : Int) ^ 13 = 8192 from rfl, show (2 : Int) ^ 14 = 16384 from rfl, show (2 : Int) ^ 15 = 32768 from rfl, show (2 : Int) ^ 16 = 65536 from rfl, show (2 : Int) ^ 17 = 131072 from rfl, show (2 : Int) ^ 18 = 262144 from rfl, show (2 : Int) ^ 19 = 524288 from rfl, show (2 : Int) ^ 20 = 1048576 from rfl]
  refine j4e ?_ ?_ ?_ ?_
  all_goals first | rfl | (repeat' split) <;> omega
theorem pPut_69 (d a b i : Int) (h1 : 1 ≤ a ∧ a ≤ 31) : pTk 69 (pPut 69 (d, a, b, i)) = true ∧ pPt 69 (pPut 69 (d, a, b, i)) = (0, a, 0, 0) := by
  obtain ⟨t1, t2⟩ := pTk_69 (pPut 69 (d, a, b, i))
  have g0_7 : pSl 0 7 (pPut 69 (d, a, b, i)) = 2 := pPut_fix 69 0 7 2 (d, a, b, i) (by decide) (by decide) (by decide +kernel)
  have g7_5 : pSl 7 5 (pPut 69 (d, a, b, i)) = pSl 0 5 a := pPut_part 69 7 5 200 (d, a, b, i) (by decide) (by decide) (by decide) (by decide) (by decide +kernel)
  have g12_4 : pSl 12 4 (pPut 69 (d, a, b, i)) = 8 := pPut_fix 69 12 4 8 (d, a, b, i) (by decide) (by decide) (by decide +kernel)
  generalize pPut 69 (d, a, b, i) = v at *
  have t : pTk 69 v = true := by
    refine t1.mpr ?_
    repeat' refine And.intro ?_ ?_
    all_goals first | assumption | (simp only [g0_7, g7_5, g12_4]; simp only [sxt_6, sxt_9, sxt_10, sxt_12, sxt_13, sxt_21, pSl, show (2 : Int) ^ 0 = 1 from rfl, show (2 : Int) ^ 1 = 2 from rfl, show (2 : Int) ^ 2 = 4 from rfl, show (2 : Int) ^ 3 = 8 from rfl, show (2 : Int) ^ 4 = 16 from rfl, show (2 : Int) ^ 5 = 32 from rfl, show (2 : Int) ^ 6 = 64 from rfl, show (2 : Int) ^ 7 = 128 from rfl, show (2 : Int) ^ 8 = 256 from rfl, show (2 : Int) ^ 9 = 512 from rfl, show (2 : Int) ^ 10 = 1024 from rfl, show (2 : Int) ^ 11 = 2048 from rfl, show (2 : Int) ^ 12 = 4096 from rfl, show (2 : Int) ^ 13 = 8192 from rfl, show (2 : Int) ^ 14 = 16384 from rfl, show (2 : Int) ^ 15 = 32768 from rfl, show (2 : Int) ^ 16 = 65536 from rfl, show (2 : Int) ^ 17 = 131072 from rfl, show (2 : Int) ^ 18 = 262144 from rfl, show (2 : Int) ^ 19 = 524288 from rfl, show (2 : Int) ^ 20 = 1048576 from rfl]; repeat' split) <;> omega
  refine ⟨t, (t2 t).trans ?_⟩
  simp only [g0_7, g7_5, g12_4]
  simp only [sxt_6, sxt_9, sxt_10, sxt_12, sxt_13, sxt_21, pSl, show (2 : Int) ^ 0 = 1 from rfl, show (2 : Int) ^ 1 = 2 from rfl, show (2 : Int) ^ 2 = 4 from rfl, show (2 : Int) ^ 3 = 8 from rfl, show (2 : Int) ^ 4 = 16 from rfl, show (2 : Int) ^ 5 = 32 from rfl, show (2 : Int) ^ 6 = 64 from rfl, show (2 : Int) ^ 7 = 128 from rfl, show (2 : Int) ^ 8 = 256 from rfl, show (2 : Int) ^ 9 = 512 from rfl, show (2 : Int) ^ 10 = 1024 from rfl, show (2 : Int) ^ 11 = 2048 from rfl, show (2 : Int) ^ 12 = 4096 from rfl, show (2 : Int) ^ 13 = 8192 from rfl, show (2 : Int) ^ 14 = 16384 from rfl, show (2 : Int) ^ 15 = 32768 from rfl, show (2 : Int) ^ 16 = 65536 from rfl, show (2 : Int) ^ 17 = 131072 from rfl, show (2 : Int) ^ 18 = 262144 from rfl, show (2 : Int) ^ 19 = 524288 from rfl, show (2 : Int) ^ 20 = 1048576 from rfl]
  refine j4e ?_ ?_ ?_ ?_
  all_goals first | rfl | (repeat' split) <;> omega
theorem pPut_70 (d a b i : Int) (h0 : 1 ≤ d ∧ d ≤ 31) (h2 : 1 ≤ b ∧ b ≤ 31) : pTk 70 (pPut 70 (d, a, b, i)) = true ∧ pPt 70 (pPut 70 (d, a, b, i)) = (d, 0, b, 0) := by
  obtain ⟨t1, t2⟩ := pTk_70 (pPut 70 (d, a, b, i))
  have g0_2 : pSl 0 2 (pPut 70 (d, a, b, i)) = 2 := pPut_fix 70 0 2 2 (d, a, b, i) (by decide) (by decide) (by decide +kernel)
  have g2_5 : pSl 2 5 (pPut 70 (d, a, b, i)) = pSl 0 5 b := pPut_part 70 2 5 300 (d, a, b, i) (by decide) (by decide) (by decide) (by decide) (by decide +kernel)
  have g7_5 : pSl 7 5 (pPut 70 (d, a, b, i)) = pSl 0 5 d := pPut_part 70 7 5 100 (d, a, b, i) (by decide) (by decide) (by decide) (by decide) (by decide +kernel)
  have g12_4 : pSl 12 4 (pPut 70 (d, a, b, i)) = 8 := pPut_fix 70 12 4 8 (d, a, b, i) (by decide) (by decide) (by decide +kernel)
  generalize pPut 70 (d, a, b, i) = v at *
  have t : pTk 70 v = true := by
    refine t1.mpr ?_
    repeat' refine And.intro ?_ ?_
    all_goals first | assumption | (simp only [g0_2, g2_5, g7_5, g12_4]; simp only [sxt_6, sxt_9, sxt_10, sxt_12, sxt_13, sxt_21, pSl, show (2 : Int) ^ 0 = 1 from rfl, show (2 : Int) ^ 1 = 2 from rfl, show (2 : Int) ^ 2 = 4 from rfl, show (2 : Int) ^ 3 = 8 from rfl, show (2 : Int) ^ 4 = 16 from rfl, show (2 : Int) ^ 5 = 32 from rfl, show (2 : Int) ^ 6 = 64 from rfl, show (2 : Int) ^ 7 = 128 from rfl, show (2 : Int) ^ 8 = 256 from rfl, show (2 : Int) ^ 9 = 512 from rfl, show (2 : Int) ^ 10 = 1024 from rfl, show (2 : Int) ^ 11 = 2048 from rfl, show (2 : Int) ^ 12 = 4096 from rfl, show (2 : Int) ^ 13 = 8192 from rfl, show (2 : Int) ^ 14 = 16384 from rfl, show (2 : Int) ^ 15 = 32768 from rfl, show (2 : Int) ^ 16 = 65536 from rfl, show (2 : Int) ^ 17 = 131072 from rfl, show (2 : Int) ^ 18 = 262144 from rfl, show (2 : Int) ^ 19 = 524288 from rfl, show (2 : Int) ^ 20 = 1048576 from rfl]; repeat' split) <;> omega
  refine ⟨t, (t2 t).trans ?_⟩
  simp only [g0_2, g2_5, g7_5, g12_4]
  simp only [sxt_6, sxt_9, sxt_10, sxt_12, sxt_13, sxt_21, pSl, show (2 : Int) ^ 0 = 1 from rfl, show (2 : Int) ^ 1 = 2 from rfl, show (2 : Int) ^ 2 = 4 from rfl, show (2 : Int) ^ 3 = 8 from rfl, show (2 : Int) ^ 4 = 16 from rfl, show (2 : Int) ^ 5 = 32 from rfl, show (2 : Int) ^ 6 = 64 from rfl, show (2 : Int) ^ 7 = 128 from rfl, show (2 : Int) ^ 8 = 256 from rfl, show (2 : Int) ^ 9 = 512 from rfl, show (2 : Int) ^ 10 = 1024 from rfl, show (2 : Int) ^ 11 = 2048 from rfl, show (2 : Int) ^ 12 = 4096 from rfl, show (2 : Int) ^ 13 = 8192 from rfl, show (2 : Int) ^ 14 = 16384 from rfl, show (2 : Int) ^ 15 = 32768 from rfl, show (2 : Int) ^ 16 = 65536 from rfl, show (2 : Int) ^ 17 = 131072 from rfl, show (2 : Int) ^ 18 = 262144 from rfl, show (2 : Int) ^ 19 = 524288 from rfl, show (2 : Int) ^ 20 = 1048576 from rfl]
  refine j4e ?_ ?_ ?_ ?_
  all_goals first | rfl | (repeat' split) <;> omega
theorem pPut_71 (d a b i : Int)  : pTk 71 (pPut 71 (d, a, b, i)) = true ∧ pPt 71 (pPut 71 (d, a, b, i)) = (0, 0, 0, 0) := by
  obtain ⟨t1, t2⟩ := pTk_71 (pPut 71 (d, a, b, i))
  have g0_16 : pSl 0 16 (pPut 71 (d, a, b, i)) = 36866 := pPut_fix 71 0 16 36866 (d, a, b, i) (by decide) (by decide) (by decide +kernel)
  generalize pPut 71 (d, a, b, i) = v at *
  have t : pTk 71 v = true := by
    refine t1.mpr ?_
    repeat' refine And.intro ?_ ?_
    all_goals first | assumption | (simp only [g0_16]; simp only [sxt_6, sxt_9, sxt_10, sxt_12, sxt_13, sxt_21, pSl, show (2 : Int) ^ 0 = 1 from rfl, show (2 : Int) ^ 1 = 2 from rfl, show (2 : Int) ^ 2 = 4 from rfl, show (2 : Int) ^ 3 = 8 from rfl, show (2 : Int) ^ 4 = 16 from rfl, show (2 : Int) ^ 5 = 32 from rfl, show (2 : Int) ^ 6 = 64 from rfl, show (2 : Int) ^ 7 = 128 from rfl, show (2 : Int) ^ 8 = 256 from rfl, show (2 : Int) ^ 9 = 512 from rfl, show (2 : Int) ^ 10 = 1024 from rfl, show (2 : Int) ^ 11 = 2048 from rfl, show (2 : Int) ^ 12 = 4096 from rfl, show (2 : Int) ^ 13 = 8192 from rfl, show (2 : Int) ^ 14 = 16384 from rfl, show (2 : Int) ^ 15 = 32768 from rfl, show (2 : Int) ^ 16 = 65536 from rfl, show (2 : Int) ^ 17 = 131072 from rfl, show (2 : Int) ^ 18 = 262144 from rfl, show (2 : Int) ^ 19 = 524288 from rfl, show (2 : Int) ^ 20 = 1048576 from rfl]; repeat' split) <;> omega
  exact ⟨t, t2 t⟩
theorem pPut_72 (d a b i : Int) (h1 : 1 ≤ a ∧ a ≤ 31) : pTk 72 (pPut 72 (d, a, b, i)) = true ∧ pPt 72 (pPut 72 (d, a, b, i)) = (0, a, 0, 0) := by
  obtain ⟨t1, t2⟩ := pTk_72 (pPut 72 (d, a, b, i))
  have g0_7 : pSl 0 7 (pPut 72 (d, a, b, i)) = 2 := pPut_fix 72 0 7 2 (d, a, b, i) (by decide) (by decide) (by decide +kernel)
  have g7_5 : pSl 7 5 (pPut 72 (d, a, b, i)) = pSl 0 5 a := pPut_part 72 7 5 200 (d, a, b, i) (by decide) (by decide) (by decide) (by decide) (by decide +kernel)
  have g12_4 : pSl 12 4 (pPut 72 (d, a, b, i)) = 9 := pPut_fix 72 12 4 9 (d, a, b, i) (by decide) (by decide) (by decide +kernel)
  generalize pPut 72 (d, a, b, i) = v at *
  have t : pTk 72 v = true := by
    refine t1.mpr ?_
    repeat' refine And.intro ?_ ?_
    all_goals first | assumption | (simp only [g0_7, g7_5, g12_4]; simp only [sxt_6, sxt_9, sxt_10, sxt_12, sxt_13, sxt_21, pSl, show (2 : Int) ^ 0 = 1 from rfl, show (2 : Int) ^ 1 = 2 from rfl, show (2 : Int) ^ 2 = 4 from rfl, show (2 : Int) ^ 3 = 8 from rfl, show (2 : Int) ^ 4 = 16 from rfl, show (2 : Int) ^ 5 = 32 from rfl, show (2 : Int) ^ 6 = 64 from rfl, show (2 : Int) ^ 7 = 128 from rfl, show (2 : Int) ^ 8 = 256 from rfl, show (2 : Int) ^ 9 = 512 from rfl, show (2 : Int) ^ 10 = 1024 from rfl, show (2 : Int) ^ 11 = 2048 from rfl, show (2 : Int) ^ 12 = 4096 from rfl, show (2 : Int) ^ 13 = 8192 from rfl, show (2 : Int) ^ 14 = 16384 from rfl, show (2 : Int) ^ 15 = 32768 from rfl, show (2 : Int) ^ 16 = 65536 from rfl, show (2 : Int) ^ 17 = 131072 from rfl, show (2 : Int) ^ 18 = 262144 from rfl, show (2 : Int) ^ 19 = 524288 from rfl, show (2 : Int) ^ 20 = 1048576 from rfl]; repeat' split) <;> omega
  refine ⟨t, (t2 t).trans ?_⟩
  simp only [g0_7, g7_5, g12_4]
  simp only [sxt_6, sxt_9, sxt_10, sxt_12, sxt_13, sxt_21, pSl, show (2 : Int) ^ 0 = 1 from rfl, show (2 : Int) ^ 1 = 2 from rfl, show (2 : Int) ^ 2 = 4 from rfl, show (2 : Int) ^ 3 = 8 from rfl, show (2 : Int) ^ 4 = 16 from rfl, show (2 : Int) ^ 5 = 32 from rfl, show (2 : Int) ^ 6 = 64 from rfl, show (2 : Int) ^ 7 = 128 from rfl, show (2 : Int) ^ 8 = 256 from rfl, show (2 : Int) ^ 9 = 512 from rfl, show (2 : Int) ^ 10 = 1024 from rfl, show (2 : Int) ^ 11 = 2048 from rfl, show (2 : Int) ^ 12 = 4096 from rfl, show (2 : Int) ^ 13 = 8192 from rfl, show (2 : Int) ^ 14 = 16384 from rfl, show (2 : Int) ^ 15 = 32768 from rfl, show (2 : Int) ^ 16 = 65536 from rfl, show (2 : Int) ^ 17 = 131072 from rfl, show (2 : Int) ^ 18 = 262144 from rfl, show (2 : Int) ^ 19 = 524288 from rfl, show (2 : Int) ^ 20 = 1048576 from rfl]
  refine j4e ?_ ?_ ?_ ?_
  all_goals first | rfl | (repeat' split) <;> omega
theorem pPut_73 (d a b i : Int) (h0 : 1 ≤ d ∧ d ≤ 31) (h2 : 1 ≤ b ∧ b ≤ 31) : pTk 73 (pPut 73 (d, a, b, i)) = true ∧ pPt 73 (pPut 73 (d, a, b, i)) = (d, 0, b, 0) := by
  obtain ⟨t1, t2⟩ := pTk_73 (pPut 73 (d, a, b, i))
  have g0_2 : pSl 0 2 (pPut 73 (d, a, b, i)) = 2 := pPut_fix 73 0 2 2 (d, a, b, i) (by decide) (by decide) (by decide +kernel)
  have g2_5 : pSl 2 5 (pPut 73 (d, a, b, i)) = pSl 0 5 b := pPut_part 73 2 5 300 (d, a, b, i) (by decide) (by decide) (by decide) (by decide) (by decide +kernel)
  have g7_5 : pSl 7 5 (pPut 73 (d, a, b, i)) = pSl 0 5 d := pPut_part 73 7 5 100 (d, a, b, i) (by decide) (by decide) (by decide) (by decide) (by decide +kernel)
  have g12_4 : pSl 12 4 (pPut 73 (d, a, b, i)) = 9 := pPut_fix 73 12 4 9 (d, a, b, i) (by decide) (by decide) (by decide +kernel)
  generalize pPut 73 (d, a, b, i) = v at *
  have t : pTk 73 v = true := by
    refine t1.mpr ?_
    repeat' refine And.intro ?_ ?_
    all_goals first | assumption | (simp only [g0_2, g2_5, g7_5, g12_4]; simp only [sxt_6, sxt_9, sxt_10, sxt_12, sxt_13, sxt_21, pSl, show (2 : Int) ^ 0 = 1 from rfl, show (2 : Int) ^ 1 = 2 from rfl, show (2 : Int) ^ 2 = 4 from rfl, show (2 : Int) ^ 3 = 8 from rfl, show (2 : Int) ^ 4 = 16 from rfl, show (2 : Int) ^ 5 = 32 from rfl, show (2 : Int) ^ 6 = 64 from rfl, show (2 : Int) ^ 7 = 128 from rfl, show (2 : Int) ^ 8 = 256 from rfl, show (2 : Int) ^ 9 = 512 from rfl, show (2 : Int) ^ 10 = 1024 from rfl, show (2 : Int) ^ 11 = 2048 from rfl, show (2 : Int) ^ 12 = 4096 from rfl, show (2 : Int) ^ 13 = 8192 from rfl, show (2 : Int) ^ 14 = 16384 from rfl, show (2 : Int) ^ 15 = 32768 from rfl, show (2 : Int) ^ 16 = 65536 from rfl, show (2 : Int) ^ 17 = 131072 from rfl, show (2 : Int) ^ 18 = 262144 from rfl, show (2 : Int) ^ 19 = 524288 from rfl, show (2 : Int) ^ 20 = 1048576 from rfl]; repeat' split) <;> omega
  refine ⟨t, (t2 t).trans ?_⟩
  simp only [g0_2, g2_5, g7_5, g12_4]
  simp only [sxt_6, sxt_9, sxt_10, sxt_12, sxt_13, sxt_21, pSl, show (2 : Int) ^ 0 = 1 from rfl, show (2 : Int) ^ 1 = 2 from rfl, show (2 : Int) ^ 2 = 4 from rfl, show (2 : Int) ^ 3 = 8 from rfl, show (2 : Int) ^ 4 = 16 from rfl, show (2 : Int) ^ 5 = 32 from rfl, show (2 : Int) ^ 6 = 64 from rfl, show (2 : Int) ^ 7 = 128 from rfl, show (2 : Int) ^ 8 = 256 from rfl, show (2 : Int) ^ 9 = 512 from rfl, show (2 : Int) ^ 10 = 1024 from rfl, show (2 : Int) ^ 11 = 2048 from rfl, show (2 : Int) ^ 12 = 4096 from rfl, show (2 : Int) ^ 13 = 8192 from rfl, show (2 : Int) ^ 14 = 16384 from rfl, show (2 : Int) ^ 15 = 32768 from rfl, show (2 : Int) ^ 16 = 65536 from rfl, show (2 : Int) ^ 17 = 131072 from rfl, show (2 : Int) ^ 18 = 262144 from rfl, show (2 : Int) ^ 19 = 524288 from rfl, show (2 : Int) ^ 20 = 1048576 from rfl]
  refine j4e ?_ ?_ ?_ ?_
  all_goals first | rfl | (repeat' split) <;> omega
theorem pPut_74 (d a b i : Int) (h2 : 0 ≤ b ∧ b ≤ 31) (h3 : 0 ≤ i ∧ i ≤ 252 ∧ i % 4 = 0) : pTk 74 (pPut 74 (d, a, b, i)) = true ∧ pPt 74 (pPut 74 (d, a, b, i)) = (0, 0, b, i) := by
  obtain ⟨t1, t2⟩ := pTk_74 (pPut 74 (d, a, b, i))
  have g0_2 : pSl 0 2 (pPut 74 (d, a, b, i)) = 2 := pPut_fix 74 0 2 2 (d, a, b, i) (by decide) (by decide) (by decide +kernel)
  have g2_5 : pSl 2 5 (pPut 74 (d, a, b, i)) = pSl 0 5 b := pPut_part 74 2 5 300 (d, a, b, i) (by decide) (by decide) (by decide) (by decide) (by decide +kernel)
  have g7_2 : pSl 7 2 (pPut 74 (d, a, b, i)) = pSl 6 2 i := pPut_part 74 7 2 406 (d, a, b, i) (by decide) (by decide) (by decide) (by decide) (by decide +kernel)
  have g9_4 : pSl 9 4 (pPut 74 (d, a, b, i)) = pSl 2 4 i := pPut_part 74 9 4 402 (d, a, b, i) (by decide) (by decide) (by decide) (by decide) (by decide +kernel)
  have g13_3 : pSl 13 3 (pPut 74 (d, a, b, i)) = 6 := pPut_fix 74 13 3 6 (d, a, b, i) (by decide) (by decide) (by decide +kernel)
  generalize pPut 74 (d, a, b, i) = v at *
  have t : pTk 74 v = true := by
    refine t1.mpr ?_
    repeat' refine And.intro ?_ ?_
    all_goals first | assumption | (simp only [g0_2, g2_5, g7_2, g9_4, g13_3]; simp only [sxt_6, sxt_9, sxt_10, sxt_12, sxt_13, sxt_21, pSl, show (2 : Int) ^ 0 = 1 from rfl, show (2 : Int) ^ 1 = 2 from rfl, show (2 : Int) ^ 2 = 4 from rfl, show (2 : Int) ^ 3 = 8 from rfl, show (2 : Int) ^ 4 = 16 from rfl, show (2 : Int) ^ 5 = 32 from rfl, show (2 : Int) ^ 6 = 64 from rfl, show (2 : Int) ^ 7 = 128 from rfl, show (2 : Int) ^ 8 = 256 from rfl, show (2 : Int) ^ 9 = 512 from rfl, show (2 : Int) ^ 10 = 1024 from rfl, show (2 : Int) ^ 11 = 2048 from rfl, show (2 : Int) ^ 12 = 4096 from rfl, show (2 : Int) ^ 13 = 8192 from rfl, show (2 : Int) ^ 14 = 16384 from rfl, show (2 : Int) ^ 15 = 32768 from rfl, show (2 : Int) ^ 16 = 65536 from rfl, show (2 : Int) ^ 17 = 131072 from rfl, show (2 : Int) ^ 18 = 262144 from rfl, show (2 : Int) ^ 19 = 524288 from rfl, show (2 : Int) ^ 20 = 1048576 from rfl]; repeat' split) <;> omega
  refine ⟨t, (t2 t).trans ?_⟩
  simp only [g0_2, g2_5, g7_2, g9_4, g13_3]
  simp only [sxt_6, sxt_9, sxt_10, sxt_12, sxt_13, sxt_21, pSl, show (2 : Int) ^ 0 = 1 from rfl, show (2 : Int) ^ 1 = 2 from rfl, show (2 : Int) ^ 2 = 4 from rfl, show (2 : Int) ^ 3 = 8 from rfl, show (2 : Int) ^ 4 = 16 from rfl, show (2 : Int) ^ 5 = 32 from rfl, show (2 : Int) ^ 6 = 64 from rfl, show (2 : Int) ^ 7 = 128 from rfl, show (2 : Int) ^ 8 = 256 from rfl, show (2 : Int) ^ 9 = 512 from rfl, show (2 : Int) ^ 10 = 1024 from rfl, show (2 : Int) ^ 11 = 2048 from rfl, show (2 : Int) ^ 12 = 4096 from rfl, show (2 : Int) ^ 13 = 8192 from rfl, show (2 : Int) ^ 14 = 16384 from rfl, show (2 : Int) ^ 15 = 32768 from rfl, show (2 : Int) ^ 16 = 65536 from rfl, show (2 : Int) ^ 17 = 131072 from rfl, show (2 : Int) ^ 18 = 262144 from rfl, show (2 : Int) ^ 19 = 524288 from rfl, show (2 : Int) ^ 20 = 1048576 from rfl]
  refine j4e ?_ ?_ ?_ ?_
  all_goals first | rfl | (repeat' split) <;> omega
end jPut
