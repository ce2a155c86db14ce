/-! the component's fields of a word -/
section jFields
theorem pbt_lsb (x : Int) (j : Nat) (hj : j < 32) : (BitVec.ofInt 32 x).getLsbD j = decide (pbt x j = 1) := by
  rw [← BitVec.testBit_toNat, BitVec.toNat_ofInt, Nat.testBit_eq_decide_div_mod_eq]
  have h := pSl_mod x j 1 (by omega)
  have e : pSl j 1 x = pbt x j := (pbt_sl x j).symm
  rw [e] at h
  rw [show (2 : Int) ^ 1 = 2 from rfl] at h
  have h0 : 0 ≤ x % 4294967296 := Int.emod_nonneg _ (by decide)
  have e2 : ((2 ^ 32 : Nat) : Int) = 4294967296 := rfl
  rw [e2]
  generalize x % 4294967296 = y at h h0
  have hc : ((y.toNat / 2 ^ j % 2 : Nat) : Int) = pbt x j := by
    rw [← h]
    push_cast
    rw [Int.toNat_of_nonneg h0]
  have : (y.toNat / 2 ^ j % 2 = 1) ↔ pbt x j = 1 := by omega
  simp only [this]
theorem pbt_toInt (x : BitVec 32) (j : Nat) (hj : j < 32) : pbt x.toInt j = if x.getLsbD j = true then 1 else 0 := by
  have h := pbt_lsb x.toInt j hj
  rw [BitVec.ofInt_toInt] at h
  rw [h]
  have := pbt_01 x.toInt j
  by_cases c : pbt x.toInt j = 1
  · simp [c]
  · have : pbt x.toInt j = 0 := by omega
    simp [this]
theorem bt_or (x y : Int) (j : Nat) (hj : j < 32) : pbt (I_or x y) j = if pbt x j = 1 ∨ pbt y j = 1 then 1 else 0 := by
  rw [I_or_eq, i_or_bv, pbt_toInt _ _ hj, BitVec.getLsbD_or, pbt_lsb _ _ hj, pbt_lsb _ _ hj]
  simp
theorem bt_and (x y : Int) (j : Nat) (hj : j < 32) : pbt (I_and x y) j = if pbt x j = 1 ∧ pbt y j = 1 then 1 else 0 := by
  rw [I_and_eq, i_and_bv, pbt_toInt _ _ hj, BitVec.getLsbD_and, pbt_lsb _ _ hj, pbt_lsb _ _ hj]
  simp
theorem bt_m1 (j : Nat) (hj : j < 32) : pbt (-1) j = 1 := by
  have h : ∀ j : Fin 32, pbt (-1) j.val = 1 := by decide
  exact h ⟨j, hj⟩
theorem bt_not (x : Int) (j : Nat) (hj : j < 32) : pbt (I_xor x (-1)) j = 1 - pbt x j := by
  rw [I_xor_eq, i_xor_bv, pbt_toInt _ _ hj, BitVec.getLsbD_xor, pbt_lsb _ _ hj, pbt_lsb _ _ hj, bt_m1 j hj]
  have := pbt_01 x j
  by_cases c : pbt x j = 1
  · simp [c]
  · have : pbt x j = 0 := by omega
    simp [this]
theorem bt_W32 (x : Int) (j : Nat) (hj : j < 32) : pbt (W32 x) j = pbt x j := by
  rw [pbt_sl, pbt_sl, pSl_W32 _ _ _ (by omega)]
theorem bt_mul (x : Int) (n j : Nat) : pbt (x * 2 ^ n) j = if j < n then 0 else pbt x (j - n) := by
  unfold pbt
  by_cases c : j < n
  · rw [if_pos c]
    obtain ⟨m, rfl⟩ : ∃ m, n = m + 1 + j := ⟨n - j - 1, by omega⟩
    rw [Int.pow_add, ← Int.mul_assoc, Int.mul_ediv_cancel _ (Int.ne_of_gt (p2_pos j)), Int.pow_succ, ← Int.mul_assoc]
    omega
  · rw [if_neg c]
    obtain ⟨m, rfl⟩ : ∃ m, j = m + n := ⟨j - n, by omega⟩
    rw [Int.pow_add, Int.mul_ediv_mul_of_pos_left _ _ (p2_pos n), Nat.add_sub_cancel]
theorem bt_shl (x n : Int) (j : Nat) (h0 : 0 ≤ n) (h1 : n ≤ 31) (hj : j < 32) : pbt (I_shl x n) j = if j < n.toNat then 0 else pbt x (j - n.toNat) := by
  rw [i_shl_p h0 h1, bt_W32 _ _ hj, bt_mul]
theorem word_ext {x y : Int} (hx : -2147483648 ≤ x ∧ x ≤ 2147483647) (hy : -2147483648 ≤ y ∧ y ≤ 2147483647) (h : ∀ j, j < 32 → pbt x j = pbt y j) : x = y := by
  have e : BitVec.ofInt 32 x = BitVec.ofInt 32 y := by
    apply BitVec.eq_of_getLsbD_eq
    intro j hj
    rw [pbt_lsb _ _ hj, pbt_lsb _ _ hj, h j hj]
  have h1 : W32 x = W32 y := by
    rw [W32_eq]
    show (BitVec.ofInt 32 x).toInt = (BitVec.ofInt 32 y).toInt
    rw [e]
  rwa [W32_in hx.1 hx.2, W32_in hy.1 hy.2] at h1
theorem bt_big (v : Int) (j n : Nat) (h0 : 0 ≤ v) (h1 : v < 2 ^ n) (hj : n ≤ j) : pbt v j = 0 := by
  unfold pbt
  have : v / 2 ^ j = 0 := by
    apply Int.ediv_eq_zero_of_lt h0
    have : (2 : Int) ^ n ≤ 2 ^ j := by
      rw [p2_nat, p2_nat]
      have := Nat.pow_le_pow_right (n := 2) (show 0 < 2 by decide) hj
      omega
    omega
  rw [this]; rfl
theorem bit_put (b m q : Int) (hb : b = 0 ∨ b = 1) (hm : m = 0 ∨ m = 1) (hq : q = 0 ∨ q = 1) : (if (if b = 1 ∧ 1 - m = 1 then (1 : Int) else 0) = 1 ∨ q = 1 then (1 : Int) else 0) = if m = 1 then q else if q = 1 then 1 else b := by
  rcases hb with rfl | rfl <;> rcases hm with rfl | rfl <;> rcases hq with rfl | rfl <;> decide
/-- bits gathered from places -/
def tks (w : Int) (g : Nat → Int) : Nat → Int
  | 0 => 0
  | i + 1 => tks w g i + (if g i = -1 then 0 else pbt w (g i).toNat * 2 ^ i)
theorem tks_b (w : Int) (g : Nat → Int) : ∀ n : Nat, 0 ≤ tks w g n ∧ tks w g n < 2 ^ n
  | 0 => by unfold tks; decide
  | n + 1 => by
    obtain ⟨h1, h2⟩ := tks_b w g n
    have h3 := pbt_01 w (g n).toNat
    have p := p2_pos n
    unfold tks
    rw [Int.pow_succ]
    split
    · omega
    · have : pbt w (g n).toNat = 0 ∨ pbt w (g n).toNat = 1 := by omega
      rcases this with e | e <;> rw [e] <;> omega
/-- places that are none -/
def idl (g : Nat → Int) : Nat → Int
  | 0 => 0
  | i + 1 => idl g i + (if g i = -1 then 2 ^ i else 0)
theorem idl_b (g : Nat → Int) : ∀ n : Nat, 0 ≤ idl g n ∧ idl g n < 2 ^ n
  | 0 => by unfold idl; decide
  | n + 1 => by
    obtain ⟨h1, h2⟩ := idl_b g n
    have p := p2_pos n
    unfold idl
    rw [Int.pow_succ]
    split <;> omega
/-- bits laid at places -/
def lk (g : Nat → Int) (v : Int) (b : Nat → Int) : Nat → Nat → Int
  | 0, j => b j
  | i + 1, j => if g i = (j : Int) then pbt v i else lk g v b i j
/-- an immediate's field: its places (n of them, g), with or without sign -/
def pSF (s : jS) (f : Int) (n : Nat) (g : Nat → Int) (sg : Int) : Prop := (sg = 0 ∨ sg = 1) ∧ 1 ≤ n ∧ n ≤ 21 ∧ (∀ i, i < n → -1 ≤ g i ∧ g i ≤ 31) ∧ ∃ p, jrp s [(6, 0), (12, 0), (14, 0)] f = some p ∧ jrp s [(6, 1), (12, 1), (14, 1)] f = some sg ∧ 0 ≤ p ∧ jK s p = 1000 ∧ jN s p = n ∧ ∀ i : Nat, i < n → jf s 1000 p i = g i
variable {s : jS} {f : Int} {n : Nat} {g : Nat → Int} {sg : Int}
theorem pbt_shr {v : Int} {k : Int} (hv : -2147483648 ≤ v ∧ v ≤ 2147483647) (h0 : 0 ≤ k) (h1 : k ≤ 31) : I_and (I_shr v k) 1 = pbt v k.toNat := I_shr_bt hv h0 h1
theorem p2_le {a b : Nat} (h : a ≤ b) : (2 : Int) ^ a ≤ 2 ^ b := by
  rw [p2_nat, p2_nat]
  have := Nat.pow_le_pow_right (n := 2) (show 0 < 2 by decide) h
  omega
theorem s_X6_take (h : pSF s f n g sg) {w : Int} (hw : -2147483648 ≤ w ∧ w ≤ 2147483647) : m_X6_take s f w = some (if sg = 0 then tks w g n else sxt n (tks w g n)) := by
  obtain ⟨h1, h2, h3, h4, p, e1, e2, e3, e4, e5, e6⟩ := h
  simp only [eu_X6_take_4, du_X6_take_4, em_X6_take, dm_X6_take]
  have hV : [f, w, 0, 0] = (fun i : Int => [f, w, tks w g i.toNat, i]) 0 := rfl
  rw [hV]
  have hb := tks_b w g n
  have p21 : (2 : Int) ^ 21 = 2097152 := rfl
  refine jforR (fun i : Int => [f, w, tks w g i.toNat, i]) 0 n (by omega) ?_ ?_
  · intro i i0 i1
    show b_X6_take_4 s f w (tks w g i.toNat) i = _
    unfold b_X6_take_4
    have hi : (i + 1).toNat = i.toNat + 1 := by omega
    have hi' : (i.toNat : Int) = i := by omega
    have hg := h4 i.toNat (by omega)
    have he := e6 i.toNat (by omega)
    rw [hi'] at he
    have hl : jld s 1000 p i = some (g i.toNat) := by unfold jld; rw [if_pos ⟨e3, e4, i0, by omega⟩, he]
    have hln : jln s 1000 p = some (n : Int) := by unfold jln; rw [if_pos ⟨e3, e4⟩, e5]
    simp only [e1, Option.bind_some, hln, hl, eu_X6_take_38, du_X6_take_38]
    rw [if_pos i1, W32_in (by omega) (by omega)]
    have ht : tks w g (i + 1).toNat = tks w g i.toNat + (if g i.toNat = -1 then 0 else pbt w (g i.toNat).toNat * 2 ^ i.toNat) := by rw [hi]; rfl
    by_cases c : g i.toNat = -1
    · rw [if_pos c, ht, if_pos c, Int.add_zero]
    · rw [if_neg c, ht, if_neg c]
      simp only [jlet]
      have hbi := tks_b w g i.toNat
      have hp := p2_le (show i.toNat ≤ 20 by omega)
      have p20 : (2 : Int) ^ 20 = 1048576 := rfl
      have b01 := pbt_01 w (g i.toNat).toNat
      have hm : 0 ≤ pbt w (g i.toNat).toNat * 2 ^ i.toNat ∧ pbt w (g i.toNat).toNat * 2 ^ i.toNat ≤ 1048576 := by
        have pp := p2_pos i.toNat
        have : pbt w (g i.toNat).toNat = 0 ∨ pbt w (g i.toNat).toNat = 1 := by omega
        rcases this with e | e <;> rw [e] <;> omega
      rw [pbt_shr hw (by omega) hg.2, i_shl_p i0 (by omega), W32_in (by omega) (by omega), I_or_lo i.toNat (by omega) hbi.1 hbi.2 (by rw [Int.mul_emod_left]), W32_in (by omega) (by omega)]
  · show b_X6_take_4 s f w (tks w g (n : Int).toNat) n = _
    unfold b_X6_take_4
    have hln : jln s 1000 p = some (n : Int) := by unfold jln; rw [if_pos ⟨e3, e4⟩, e5]
    simp only [e1, e2, Option.bind_some, hln, eu_X6_take_44, du_X6_take_44, jlet, Int.toNat_natCast]
    rw [if_neg (by omega), W32_in (by omega) (by omega)]
    by_cases c : sg = 0
    · rw [if_pos c, if_pos c]
    · rw [if_neg c, if_neg c, sxt_p (n := n) h2 (by omega) hb.1 hb.2 rfl]
theorem s_X6_idle (h : pSF s f n g sg) : m_X6_idle s f = some (idl g n) := by
  obtain ⟨h1, h2, h3, h4, p, e1, e2, e3, e4, e5, e6⟩ := h
  simp only [eu_X6_idle_4, du_X6_idle_4, em_X6_idle, dm_X6_idle]
  have hV : [f, 0, 0] = (fun i : Int => [f, idl g i.toNat, i]) 0 := rfl
  rw [hV]
  refine jforR (fun i : Int => [f, idl g i.toNat, i]) 0 n (by omega) ?_ ?_
  · intro i i0 i1
    show b_X6_idle_4 s f (idl g i.toNat) i = _
    unfold b_X6_idle_4
    have hi : (i + 1).toNat = i.toNat + 1 := by omega
    have hi' : (i.toNat : Int) = i := by omega
    have he := e6 i.toNat (by omega)
    rw [hi'] at he
    have hl : jld s 1000 p i = some (g i.toNat) := by unfold jld; rw [if_pos ⟨e3, e4, i0, by omega⟩, he]
    have hln : jln s 1000 p = some (n : Int) := by unfold jln; rw [if_pos ⟨e3, e4⟩, e5]
    simp only [e1, Option.bind_some, hln, hl, eu_X6_idle_31, du_X6_idle_31, jlet]
    rw [if_pos i1, W32_in (by omega) (by omega)]
    have ht : idl g (i + 1).toNat = idl g i.toNat + (if g i.toNat = -1 then 2 ^ i.toNat else 0) := by rw [hi]; rfl
    have hbi := idl_b g i.toNat
    have hp := p2_le (show i.toNat ≤ 20 by omega)
    have p20 : (2 : Int) ^ 20 = 1048576 := rfl
    have pp := p2_pos i.toNat
    by_cases c : g i.toNat = -1
    · rw [if_pos c, ht, if_pos c, l_shl_p i0 (by omega), Int.one_mul, W64_in (by omega) (by omega), L_or_lo i.toNat (by omega) hbi.1 hbi.2 (Int.emod_self), W64_in (by omega) (by omega)]
    · rw [if_neg c, ht, if_neg c, L_or_lo i.toNat (by omega) hbi.1 hbi.2 (Int.zero_emod _), W64_in (by omega) (by omega)]
  · show b_X6_idle_4 s f (idl g (n : Int).toNat) n = _
    unfold b_X6_idle_4
    have hln : jln s 1000 p = some (n : Int) := by unfold jln; rw [if_pos ⟨e3, e4⟩, e5]
    simp only [e1, Option.bind_some, hln, Int.toNat_natCast]
    rw [if_neg (by omega)]
/-- whether a number may be there -/
def mayS (n : Nat) (g : Nat → Int) (sg v : Int) : Prop := v < 2 ^ (n - sg.toNat) ∧ (if sg = 0 then 0 else -(2 ^ (n - sg.toNat))) ≤ v ∧ L_and v (idl g n) = 0
theorem s_X6_may (h : pSF s f n g sg) (hid : mp_X6_idle s f = m_X6_idle s f) {v : Int} : (mayS n g sg v → m_X6_may s f v = some 1) ∧ (¬ mayS n g sg v → m_X6_may s f v = some 0) := by
  have hI := s_X6_idle h
  obtain ⟨h1, h2, h3, h4, p, e1, e2, e3, e4, e5, e6⟩ := h
  have hln : jln s 1000 p = some (n : Int) := by unfold jln; rw [if_pos ⟨e3, e4⟩, e5]
  have hp := p2_le (show n ≤ 21 by omega)
  have hp' := p2_le (show n - 1 ≤ 21 by omega)
  have p21 : (2 : Int) ^ 21 = 2097152 := rfl
  have pp := p2_pos n
  have pp' := p2_pos (n - 1)
  rw [em_X6_may]; unfold dm_X6_may mayS
  simp only [eu_X6_may_18, du_X6_may_18, eu_X6_may_41, du_X6_may_41, e1, e2, hln, Option.bind_some, jlet, hid, hI, L_cmp_lt, L_cmp_0, Wz_0, Wz_1]
  rcases h1 with rfl | rfl
  · simp only [if_true]
    rw [Int.sub_zero, W32_in (by omega) (by omega), l_shl_p (by omega) (by omega), Int.one_mul, Int.toNat_natCast, W64_in (by omega) (by omega), show n - Int.toNat 0 = n from rfl]
    constructor
    · rintro ⟨a, b, c⟩
      rw [if_pos a, if_neg (by omega), if_pos c]
    · intro q
      by_cases a : v < 2 ^ n
      · rw [if_pos a]
        by_cases b : v < 0
        · rw [if_pos b]
        · rw [if_neg b, if_neg (fun c => q ⟨a, by omega, c⟩)]
      · rw [if_neg a]
  · simp only [show ((1 : Int) = 0) = False by simp, if_false]
    have en : ((n : Int) - 1).toNat = n - 1 := by omega
    rw [W32_in (by omega) (by omega), l_shl_p (by omega) (by omega), Int.one_mul, en, W64_in (z := 2 ^ (n - 1)) (by omega) (by omega), W64_in (by omega) (by omega), show n - Int.toNat 1 = n - 1 from rfl]
    constructor
    · rintro ⟨a, b, c⟩
      rw [if_pos a, if_neg (by omega), if_pos c]
    · intro q
      by_cases a : v < 2 ^ (n - 1)
      · rw [if_pos a]
        by_cases b : v < -2 ^ (n - 1)
        · rw [if_pos b]
        · rw [if_neg b, if_neg (fun c => q ⟨a, by omega, c⟩)]
      · rw [if_neg a]
theorem s_X6_put (h : pSF s f n g sg) {w v : Int} (hw : -2147483648 ≤ w ∧ w ≤ 2147483647) (hv : -2147483648 ≤ v ∧ v ≤ 2147483647) : ∃ r, m_X6_put s f w v = some r ∧ (-2147483648 ≤ r ∧ r ≤ 2147483647) ∧ ∀ j, j < 32 → pbt r j = lk g v (pbt w) n j := by
  obtain ⟨h1, h2, h3, h4, p, e1, e2, e3, e4, e5, e6⟩ := h
  have hln : jln s 1000 p = some (n : Int) := by unfold jln; rw [if_pos ⟨e3, e4⟩, e5]
  simp only [eu_X6_put_5, du_X6_put_5, em_X6_put, dm_X6_put]
  have main : ∀ (m i : Nat) (x : Int), i + m = n → (-2147483648 ≤ x ∧ x ≤ 2147483647) → (∀ j, j < 32 → pbt x j = lk g v (pbt w) i j) → ∃ r, jlpR (jc4 b_X6_put_5) [f, v, x, (i : Int)] s = some r ∧ (-2147483648 ≤ r ∧ r ≤ 2147483647) ∧ ∀ j, j < 32 → pbt r j = lk g v (pbt w) n j := by
    intro m
    induction m with
    | zero =>
      intro i x hm hx hb
      have : i = n := by omega
      subst this
      refine ⟨x, ?_, hx, hb⟩
      apply jlpR_r
      show b_X6_put_5 s f v x i = _
      unfold b_X6_put_5
      simp only [e1, Option.bind_some, hln]
      rw [if_neg (by omega)]
    | succ m ih =>
      intro i x hm hx hb
      have hg := h4 i (by omega)
      have hl : jld s 1000 p (i : Int) = some (g i) := by unfold jld; rw [if_pos ⟨e3, e4, by omega, by omega⟩, e6 i (by omega)]
      have hstep : ∃ x', jlpR (jc4 b_X6_put_5) [f, v, x, (i : Int)] s = jlpR (jc4 b_X6_put_5) [f, v, x', ((i + 1 : Nat) : Int)] s ∧ (-2147483648 ≤ x' ∧ x' ≤ 2147483647) ∧ ∀ j, j < 32 → pbt x' j = lk g v (pbt w) (i + 1) j := by
        by_cases c : g i = -1
        · refine ⟨x, ?_, hx, fun j hj => ?_⟩
          · apply jlpR_l
            show b_X6_put_5 s f v x i = _
            unfold b_X6_put_5
            simp only [e1, Option.bind_some, hln, hl, eu_X6_put_55, du_X6_put_55]
            rw [if_pos (by omega), if_pos c, W32_in (by omega) (by omega)]
            rfl
          · rw [hb j hj]
            show _ = if g i = (j : Int) then pbt v i else lk g v (pbt w) i j
            rw [if_neg (by omega)]
        · refine ⟨I_or (I_and x (I_xor (I_shl 1 (g i)) (-1))) (I_shl (pbt v i) (g i)), ?_, I_or_b _ _, fun j hj => ?_⟩
          · apply jlpR_l
            show b_X6_put_5 s f v x i = _
            unfold b_X6_put_5
            simp only [e1, Option.bind_some, hln, hl, eu_X6_put_55, du_X6_put_55, jlet]
            rw [if_pos (by omega), if_neg c, W32_in (by omega) (by omega), pbt_shr hv (by omega) (by omega), Int.toNat_natCast]
            rfl
          · rw [bt_or _ _ _ hj, bt_and _ _ _ hj, bt_not _ _ hj, bt_shl _ _ _ (by omega) hg.2 hj, bt_shl _ _ _ (by omega) hg.2 hj, hb j hj]
            show _ = if g i = (j : Int) then pbt v i else lk g v (pbt w) i j
            have b1 := pbt_01 v i
            have b2 : 0 ≤ lk g v (pbt w) i j ∧ lk g v (pbt w) i j ≤ 1 := by rw [← hb j hj]; exact pbt_01 x j
            have one : ∀ q : Nat, 1 ≤ q → pbt 1 q = 0 := fun q hq => bt_big 1 q 1 (by omega) (by decide) hq
            have one0 : pbt 1 0 = 1 := by decide
            have vv : ∀ q : Nat, 1 ≤ q → pbt (pbt v i) q = 0 := fun q hq => bt_big _ q 1 b1.1 (by rw [show (2 : Int) ^ 1 = 2 from rfl]; omega) hq
            have vv0 : pbt (pbt v i) 0 = pbt v i := by
              have : pbt v i = 0 ∨ pbt v i = 1 := by omega
              rcases this with e | e <;> rw [e] <;> decide
            rw [bit_put _ _ _ (by omega) (by split <;> first | omega | (have := pbt_01 1 (j - (g i).toNat); omega)) (by split <;> first | omega | (have := pbt_01 (pbt v i) (j - (g i).toNat); omega))]
            by_cases d : g i = (j : Int)
            · have e0 : j - (g i).toNat = 0 := by omega
              rw [if_pos d]
              simp only [if_neg (show ¬ j < (g i).toNat by omega), e0, one0, vv0, if_true]
            · rw [if_neg d]
              by_cases l : j < (g i).toNat
              · simp only [if_pos l, show ((0 : Int) = 1) = False by simp, if_false]
              · simp only [if_neg l, one _ (show 1 ≤ j - (g i).toNat by omega), vv _ (show 1 ≤ j - (g i).toNat by omega), show ((0 : Int) = 1) = False by simp, if_false]
      obtain ⟨x', q1, q2, q3⟩ := hstep
      rw [q1]
      exact ih (i + 1) x' (by omega) q2 q3
  exact main n 0 w (by omega) hw (fun j hj => rfl)
end jFields
