/-! the component's words taken apart: printed by gen_cdec.py -/
set_option maxRecDepth 100000
section jCdec
theorem jw_of {s t : jS} (h : jSm s t) : t = jw s (jf t) := by
  unfold jw
  rw [← h.1, ← h.2.1, ← h.2.2.1, ← h.2.2.2.1, ← h.2.2.2.2.1, ← h.2.2.2.2.2.1, ← h.2.2.2.2.2.2]
  rfl
theorem jS_eq {s t u : jS} (h1 : jSm s t) (h2 : jSm s u) (e : ∀ c a k, jf t c a k = jf u c a k) : t = u := by
  rw [jw_of h1, jw_of h2]; exact jw_ext e
/-- a reference of a class without structural fields -/
theorem jTt_pl {s : jS} {t : Nat} {a : Int} (h1 : jStr t = []) (h2 : jStA t = none) : jTt s t a ↔ jTz s t a := by
  constructor
  · exact fun h => h.zz
  · intro h n
    cases n with
    | zero => exact h
    | succ n => exact ⟨h, fun e he => (by rw [h1] at he; cases he), fun q hq => (by rw [h2] at hq; cases hq)⟩
abbrev jP5 : Type := Int × Int × Int × Int × Int
/-- the word object gets five numbers -/
def pw5 (s : jS) (o : Int) (q : jP5) : jS := jp (jp (jp (jp (jp s 34 o 0 q.1) 34 o 1 q.2.1) 34 o 2 q.2.2.1) 34 o 3 q.2.2.2.1) 34 o 4 q.2.2.2.2
theorem pw5_Sm (s : jS) (o : Int) (q : jP5) : jSm s (pw5 s o q) := jSm.rfl
theorem jf_pw5 (s : jS) (o : Int) (q : jP5) (c a k : Int) : jf (pw5 s o q) c a k = if c = 34 ∧ a = o ∧ k = 4 then q.2.2.2.2 else if c = 34 ∧ a = o ∧ k = 3 then q.2.2.2.1 else if c = 34 ∧ a = o ∧ k = 2 then q.2.2.1 else if c = 34 ∧ a = o ∧ k = 1 then q.2.1 else if c = 34 ∧ a = o ∧ k = 0 then q.1 else jf s c a k := rfl
theorem pw5_pw5 (s : jS) (o : Int) (q r : jP5) : pw5 (pw5 s o q) o r = pw5 s o r := by
  refine jS_eq (s := s) jSm.rfl jSm.rfl fun c a k => ?_
  simp only [jf_pw5]
  repeat' split
  all_goals first | rfl | (exfalso; omega)
theorem pw5_no (s : jS) (o : Int) (q : jP5) (v : Int) : jp (pw5 s o q) 34 o 0 v = pw5 s o (v, q.2) := by
  refine jS_eq (s := s) jSm.rfl jSm.rfl fun c a k => ?_
  simp only [jf_pw5, jf_jp]
  repeat' split
  all_goals first | rfl | (exfalso; omega)
theorem pw5_Tz {s : jS} {o : Int} {q : jP5} {t : Nat} {a : Int} (h : jTz s t a) : jTz (pw5 s o q) t a := h
theorem s_X30_is (s : jS) (o k d a b i : Int) : m_X30_is s o k d a b i = some (pw5 s o (k, d, a, b, i), o) := by
  rw [em_X30_is]; rfl
theorem s_is (s : jS) (o k d a b i : Int) (h : jTz s 50 o) : jct s 50 o (m_X30_is s o k d a b i) = some (pw5 s o (k, d, a, b, i), o) := by
  rw [jct_in ((jTt_pl rfl rfl).mpr h), s_X30_is]
theorem s_only (s : jS) (o c : Int) (q : jP5) (h : jTz s 50 o) : m_X29_only (pw5 s o q) o c = some (pw5 s o (if c = 0 then -1 else q.1, q.2), 0) := by
  rw [em_X29_only]; unfold dm_X29_only
  by_cases e : c = 0
  · have hk : jK (pw5 s o q) o = 34 := h.2.2.1
    rw [if_pos e, jwr_in h.1 hk, Option.bind_some, pw5_no, if_pos e]
  · rw [if_neg e, if_neg e]
theorem s_signed (s : jS) (v : Int) (n : Nat) (h0 : 1 ≤ n) (h1 : n ≤ 31) (hv : 0 ≤ v) (hv' : v < 2 ^ n) : m_X29_signed s v (n : Int) = some (sxt n v) := by
  rw [e_X29_signed, W32_in (by omega) (by omega), sxt_p h0 h1 hv hv' rfl]
theorem or_sl {x y p : Int} (n : Nat) (hp : (2 : Int) ^ n = p) (hn : n ≤ 32) (hx : x % p = 0) (hy : 0 ≤ y) (hy' : y < p) (h0 : -2147483648 ≤ x + y) (h1 : x + y ≤ 2147483647) : I_or x y = x + y := by
  subst hp
  rw [I_or_hi n hn hx hy hy', W32_in h0 h1]
theorem shl_n {v p : Int} (n : Nat) (hp : (2 : Int) ^ n = p) (hn : n ≤ 31) (h0 : -2147483648 ≤ v * p) (h1 : v * p ≤ 2147483647) : I_shl v (n : Int) = v * p := by
  subst hp
  rw [i_shl_p (by omega) (by omega), Int.toNat_natCast, W32_in h0 h1]
theorem pSl_127 (w : Int) : I_and w 127 = pSl 0 7 w := by
  rw [I_and_127]; unfold pSl; simp
theorem shr_20 {w : Int} (hw : -2147483648 ≤ w ∧ w ≤ 2147483647) : I_shr w 20 = sxt 12 (pSl 20 12 w) := by
  rw [i_shr_p hw (by omega) (by omega), sxt_12]
  unfold pSl
  show w / 1048576 = if w / 1048576 % 4096 < 2048 then w / 1048576 % 4096 else w / 1048576 % 4096 - 4096
  split <;> omega
theorem ushr_sl {w : Int} (n : Nat) (hn : n ≤ 31) (h0 : 1 ≤ n) : I_ushr w (n : Int) = pSl n (32 - n) w := by
  rw [i_ushr_p (by omega) (by omega), Int.toNat_natCast]
  have e : (4294967296 : Int) = 2 ^ n * 2 ^ (32 - n) := by
    rw [← Int.pow_add, show n + (32 - n) = 32 by omega]; rfl
  have hp := p2_pos n
  have hq := p2_pos (32 - n)
  have h1 : 0 ≤ w % 4294967296 := Int.emod_nonneg _ (by decide)
  have h2 : w % 4294967296 < 4294967296 := Int.emod_lt_of_pos _ (by decide)
  have h3 : w % 4294967296 / 2 ^ n < 2 ^ (32 - n) := Int.ediv_lt_of_lt_mul hp (by rw [Int.mul_comm, ← e]; exact h2)
  have h4 : 0 ≤ w % 4294967296 / 2 ^ n := Int.ediv_nonneg h1 (Int.le_of_lt hp)
  have h5 : (2 : Int) ^ (32 - n) ≤ 2147483648 := by
    rw [p2_nat]
    have : (2 : Nat) ^ (32 - n) ≤ 2 ^ 31 := Nat.pow_le_pow_right (by decide) (by omega)
    omega
  rw [W32_in (by omega) (by omega), ← pSl_mod w n (32 - n) (by omega), Int.emod_eq_of_lt h4 h3]
theorem I_and_neg (x : Int) (hx : -2147483648 ≤ x ∧ x ≤ 2147483647) : I_and x (-32) = x - x % 32 := by
  have h : BitVec.ofInt 32 x = (BitVec.ofInt 32 x &&& 31#32) + (BitVec.ofInt 32 x &&& BitVec.ofInt 32 (-32)) := by
    rw [BitVec.add_eq_or_of_and_eq_zero]
    · rw [← BitVec.and_or_distrib_left]
      have : (31#32 ||| BitVec.ofInt 32 (-32)) = BitVec.allOnes 32 := by decide
      rw [this, BitVec.and_allOnes]
    · have : BitVec.ofInt 32 x &&& 31#32 &&& (BitVec.ofInt 32 x &&& BitVec.ofInt 32 (-32)) = BitVec.ofInt 32 x &&& (31#32 &&& BitVec.ofInt 32 (-32)) := by
        ext i hi
        simp only [BitVec.getElem_and]
        cases (BitVec.ofInt 32 x)[i] <;> simp
      rw [this]
      have : (31#32 &&& BitVec.ofInt 32 (-32)) = 0#32 := by decide
      rw [this, BitVec.and_zero]
  have e1 : I_and x 31 = x % 32 := I_and_31 x
  rw [I_and_eq, i_and_bv] at e1
  rw [I_and_eq, i_and_bv]
  have h2 : BitVec.ofInt 32 x &&& BitVec.ofInt 32 (-32) = BitVec.ofInt 32 x - (BitVec.ofInt 32 x &&& 31#32) := by
    rw [BitVec.eq_sub_iff_add_eq, BitVec.add_comm]; exact h.symm
  rw [h2, BitVec.toInt_sub]
  have e2 : (BitVec.ofInt 32 x &&& 31#32).toInt = x % 32 := e1
  have e3 : (BitVec.ofInt 32 x).toInt = x := jo_t (z := x) hx
  rw [e2, e3]
  have := W32_in (z := x - x % 32) (by omega) (by omega)
  rw [W32_m] at this
  exact this
theorem bt_11_7 (s : jS) (w : Int) : m_X29_bits s w 11 7 = some (pSl 7 5 w) := s_X29_bits s w 11 7 (by decide) (by decide) (by decide) (by decide)
theorem bt_19_15 (s : jS) (w : Int) : m_X29_bits s w 19 15 = some (pSl 15 5 w) := s_X29_bits s w 19 15 (by decide) (by decide) (by decide) (by decide)
theorem bt_24_20 (s : jS) (w : Int) : m_X29_bits s w 24 20 = some (pSl 20 5 w) := s_X29_bits s w 24 20 (by decide) (by decide) (by decide) (by decide)
theorem bt_14_12 (s : jS) (w : Int) : m_X29_bits s w 14 12 = some (pSl 12 3 w) := s_X29_bits s w 14 12 (by decide) (by decide) (by decide) (by decide)
theorem bt_31_31 (s : jS) (w : Int) : m_X29_bits s w 31 31 = some (pSl 31 1 w) := s_X29_bits s w 31 31 (by decide) (by decide) (by decide) (by decide)
theorem bt_7_7 (s : jS) (w : Int) : m_X29_bits s w 7 7 = some (pSl 7 1 w) := s_X29_bits s w 7 7 (by decide) (by decide) (by decide) (by decide)
theorem bt_30_25 (s : jS) (w : Int) : m_X29_bits s w 30 25 = some (pSl 25 6 w) := s_X29_bits s w 30 25 (by decide) (by decide) (by decide) (by decide)
theorem bt_11_8 (s : jS) (w : Int) : m_X29_bits s w 11 8 = some (pSl 8 4 w) := s_X29_bits s w 11 8 (by decide) (by decide) (by decide) (by decide)
theorem bt_19_12 (s : jS) (w : Int) : m_X29_bits s w 19 12 = some (pSl 12 8 w) := s_X29_bits s w 19 12 (by decide) (by decide) (by decide) (by decide)
theorem bt_20_20 (s : jS) (w : Int) : m_X29_bits s w 20 20 = some (pSl 20 1 w) := s_X29_bits s w 20 20 (by decide) (by decide) (by decide) (by decide)
theorem bt_30_21 (s : jS) (w : Int) : m_X29_bits s w 30 21 = some (pSl 21 10 w) := s_X29_bits s w 30 21 (by decide) (by decide) (by decide) (by decide)
theorem bt_4_2 (s : jS) (w : Int) : m_X29_bits s w 4 2 = some (pSl 2 3 w) := s_X29_bits s w 4 2 (by decide) (by decide) (by decide) (by decide)
theorem bt_9_7 (s : jS) (w : Int) : m_X29_bits s w 9 7 = some (pSl 7 3 w) := s_X29_bits s w 9 7 (by decide) (by decide) (by decide) (by decide)
theorem bt_5_5 (s : jS) (w : Int) : m_X29_bits s w 5 5 = some (pSl 5 1 w) := s_X29_bits s w 5 5 (by decide) (by decide) (by decide) (by decide)
theorem bt_12_10 (s : jS) (w : Int) : m_X29_bits s w 12 10 = some (pSl 10 3 w) := s_X29_bits s w 12 10 (by decide) (by decide) (by decide) (by decide)
theorem bt_6_6 (s : jS) (w : Int) : m_X29_bits s w 6 6 = some (pSl 6 1 w) := s_X29_bits s w 6 6 (by decide) (by decide) (by decide) (by decide)
theorem bt_10_7 (s : jS) (w : Int) : m_X29_bits s w 10 7 = some (pSl 7 4 w) := s_X29_bits s w 10 7 (by decide) (by decide) (by decide) (by decide)
theorem bt_12_11 (s : jS) (w : Int) : m_X29_bits s w 12 11 = some (pSl 11 2 w) := s_X29_bits s w 12 11 (by decide) (by decide) (by decide) (by decide)
theorem bt_12_12 (s : jS) (w : Int) : m_X29_bits s w 12 12 = some (pSl 12 1 w) := s_X29_bits s w 12 12 (by decide) (by decide) (by decide) (by decide)
theorem bt_6_2 (s : jS) (w : Int) : m_X29_bits s w 6 2 = some (pSl 2 5 w) := s_X29_bits s w 6 2 (by decide) (by decide) (by decide) (by decide)
theorem bt_4_3 (s : jS) (w : Int) : m_X29_bits s w 4 3 = some (pSl 3 2 w) := s_X29_bits s w 4 3 (by decide) (by decide) (by decide) (by decide)
theorem bt_2_2 (s : jS) (w : Int) : m_X29_bits s w 2 2 = some (pSl 2 1 w) := s_X29_bits s w 2 2 (by decide) (by decide) (by decide) (by decide)
theorem bt_11_10 (s : jS) (w : Int) : m_X29_bits s w 11 10 = some (pSl 10 2 w) := s_X29_bits s w 11 10 (by decide) (by decide) (by decide) (by decide)
theorem bt_6_5 (s : jS) (w : Int) : m_X29_bits s w 6 5 = some (pSl 5 2 w) := s_X29_bits s w 6 5 (by decide) (by decide) (by decide) (by decide)
theorem bt_8_8 (s : jS) (w : Int) : m_X29_bits s w 8 8 = some (pSl 8 1 w) := s_X29_bits s w 8 8 (by decide) (by decide) (by decide) (by decide)
theorem bt_10_9 (s : jS) (w : Int) : m_X29_bits s w 10 9 = some (pSl 9 2 w) := s_X29_bits s w 10 9 (by decide) (by decide) (by decide) (by decide)
theorem bt_11_11 (s : jS) (w : Int) : m_X29_bits s w 11 11 = some (pSl 11 1 w) := s_X29_bits s w 11 11 (by decide) (by decide) (by decide) (by decide)
theorem bt_5_3 (s : jS) (w : Int) : m_X29_bits s w 5 3 = some (pSl 3 3 w) := s_X29_bits s w 5 3 (by decide) (by decide) (by decide) (by decide)
theorem bt_3_2 (s : jS) (w : Int) : m_X29_bits s w 3 2 = some (pSl 2 2 w) := s_X29_bits s w 3 2 (by decide) (by decide) (by decide) (by decide)
theorem bt_6_4 (s : jS) (w : Int) : m_X29_bits s w 6 4 = some (pSl 4 3 w) := s_X29_bits s w 6 4 (by decide) (by decide) (by decide) (by decide)
theorem bt_8_7 (s : jS) (w : Int) : m_X29_bits s w 8 7 = some (pSl 7 2 w) := s_X29_bits s w 8 7 (by decide) (by decide) (by decide) (by decide)
theorem bt_12_9 (s : jS) (w : Int) : m_X29_bits s w 12 9 = some (pSl 9 4 w) := s_X29_bits s w 12 9 (by decide) (by decide) (by decide) (by decide)
/-- kinds of rows of registers -/
def cRow (t v : Int) : Int := if v = 1 then 37 + t else if v = 32 then (if t = 0 then 28 else if t = 5 then 34 else -1) else if v = 0 then (if t = 0 then 27 else if t < 5 then 28 + t else if t = 5 then 33 else 29 + t) else -1
def cBr (w : Int) : Int := sxt 13 (pSl 7 1 w * 2048 + pSl 8 4 w * 2 + pSl 25 6 w * 32 + pSl 31 1 w * 4096)
def cJal (w : Int) : Int := sxt 21 (pSl 12 8 w * 4096 + pSl 20 1 w * 2048 + pSl 21 10 w * 2 + pSl 31 1 w * 1048576)
def cSum (w d a t v : Int) : jP5 := if t = 1 then (if v = 0 then 24 else -1, d, a, 0, pSl 20 5 w) else if t = 5 then (if v = 0 then 25 else if v = 32 then 26 else -1, d, a, 0, pSl 20 5 w) else (if t = 0 then 18 else if t < 5 then 17 + t else 16 + t, d, a, 0, sxt 12 (pSl 20 12 w))
/-- a long word: its kind, d, a, b, i -/
def cLong (w : Int) : jP5 :=
  if pSl 0 7 w = 3 then (if pSl 12 3 w < 3 then 10 + pSl 12 3 w else if pSl 12 3 w = 4 ∨ pSl 12 3 w = 5 then 9 + pSl 12 3 w else -1, pSl 7 5 w, pSl 15 5 w, 0, sxt 12 (pSl 20 12 w))
  else if pSl 0 7 w = 19 then cSum w (pSl 7 5 w) (pSl 15 5 w) (pSl 12 3 w) (pSl 25 7 w)
  else if pSl 0 7 w = 23 then (1, pSl 7 5 w, 0, 0, pSl 12 20 w)
  else if pSl 0 7 w = 35 then (if pSl 12 3 w < 3 then 15 + pSl 12 3 w else -1, 0, pSl 15 5 w, pSl 20 5 w, sxt 12 (pSl 7 5 w + pSl 25 7 w * 32))
  else if pSl 0 7 w = 51 then (cRow (pSl 12 3 w) (pSl 25 7 w), pSl 7 5 w, pSl 15 5 w, pSl 20 5 w, 0)
  else if pSl 0 7 w = 55 then (0, pSl 7 5 w, 0, 0, pSl 12 20 w)
  else if pSl 0 7 w = 99 then (if pSl 12 3 w < 2 then 4 + pSl 12 3 w else if pSl 12 3 w < 4 then -1 else 2 + pSl 12 3 w, 0, pSl 15 5 w, pSl 20 5 w, cBr w)
  else if pSl 0 7 w = 103 then (if pSl 12 3 w = 0 then 3 else -1, pSl 7 5 w, pSl 15 5 w, 0, sxt 12 (pSl 20 12 w))
  else if pSl 0 7 w = 111 then (2, pSl 7 5 w, 0, 0, cJal w)
  else (if w = 267386895 then 45 else if w = 115 then 46 else if w = 1048691 then 47 else -1, 0, 0, 0, 0)
theorem s_rowKind (s : jS) (t v : Int) (h0 : 0 ≤ t) (h1 : t ≤ 7) : m_X29_rowKind s t v = some (cRow t v) := by
  rw [em_X29_rowKind]; unfold dm_X29_rowKind cRow
  rw [W32_in (z := 37 + t) (by omega) (by omega), W32_in (z := 28 + t) (by omega) (by omega), W32_in (z := 29 + t) (by omega) (by omega)]
  repeat' split
  all_goals rfl
theorem s_takeSums (s : jS) (o w d a t : Int) (ho : jTz s 50 o) (hw : -2147483648 ≤ w ∧ w ≤ 2147483647) (h0 : 0 ≤ t) (h1 : t ≤ 7) : m_X29_takeSums s o w d a t = some (pw5 s o (cSum w d a t (pSl 25 7 w)), 0) := by
  rw [em_X29_takeSums]; unfold dm_X29_takeSums
  have e25 : I_ushr w 25 = pSl 25 7 w := ushr_sl 25 (by decide) (by decide)
  simp only [jlet, e25, em_X29_takeSums, dm_X29_takeSums, eu_X29_takeSums_120, du_X29_takeSums_120, eu_X29_takeSums_72, du_X29_takeSums_72, eu_X29_takeSums_24, du_X29_takeSums_24, bt_24_20, Option.bind_some, s_is _ _ _ _ _ _ _ ho, shr_20 hw, W32_in (z := 17 + t) (by omega) (by omega), W32_in (z := 16 + t) (by omega) (by omega)]
  unfold cSum
  repeat' split
  all_goals first | rfl | (exfalso; omega)
theorem s_takeLong (s : jS) (o w : Int) (ho : jTz s 50 o) (hw : -2147483648 ≤ w ∧ w ≤ 2147483647) : m_X29_takeLong s o w = some (pw5 s o (cLong w), 0) := by
  rw [em_X29_takeLong]; unfold dm_X29_takeLong
  have f7 := pSl_lo 7 5 w
  have f12 := pSl_lo 12 3 w
  have f15 := pSl_lo 15 5 w
  have f20 := pSl_lo 20 5 w
  have g1 := pSl_lo 31 1 w
  have g2 := pSl_lo 7 1 w
  have g3 := pSl_lo 25 6 w
  have g4 := pSl_lo 8 4 w
  have g5 := pSl_lo 12 8 w
  have g6 := pSl_lo 20 1 w
  have g7 := pSl_lo 21 10 w
  have g8 := pSl_lo 20 12 w
  have g9 := pSl_lo 25 7 w
  simp only [show (2 : Int) ^ 1 = 2 from rfl, show (2 : Int) ^ 3 = 8 from rfl, show (2 : Int) ^ 4 = 16 from rfl, show (2 : Int) ^ 5 = 32 from rfl, show (2 : Int) ^ 6 = 64 from rfl, show (2 : Int) ^ 7 = 128 from rfl, show (2 : Int) ^ 8 = 256 from rfl, show (2 : Int) ^ 10 = 1024 from rfl, show (2 : Int) ^ 12 = 4096 from rfl] at f7 f12 f15 f20 g1 g2 g3 g4 g5 g6 g7 g8 g9
  have e25 : I_ushr w 25 = pSl 25 7 w := ushr_sl 25 (by decide) (by decide)
  have e12 : I_ushr w 12 = pSl 12 20 w := ushr_sl 12 (by decide) (by decide)
  have eb : I_or (I_or (I_or (I_shl (pSl 31 1 w) 12) (I_shl (pSl 7 1 w) 11)) (I_shl (pSl 25 6 w) 5)) (I_shl (pSl 8 4 w) 1) = pSl 7 1 w * 2048 + pSl 8 4 w * 2 + pSl 25 6 w * 32 + pSl 31 1 w * 4096 := by
    rw [show I_shl (pSl 31 1 w) 12 = pSl 31 1 w * 4096 from shl_n 12 (by decide) (by decide) (by omega) (by omega), show I_shl (pSl 7 1 w) 11 = pSl 7 1 w * 2048 from shl_n 11 (by decide) (by decide) (by omega) (by omega), show I_shl (pSl 25 6 w) 5 = pSl 25 6 w * 32 from shl_n 5 (by decide) (by decide) (by omega) (by omega), show I_shl (pSl 8 4 w) 1 = pSl 8 4 w * 2 from shl_n 1 (by decide) (by decide) (by omega) (by omega)]
    rw [or_sl (x := pSl 31 1 w * 4096) (y := pSl 7 1 w * 2048) (p := 4096) 12 (by decide) (by decide) (by omega) (by omega) (by omega) (by omega) (by omega), or_sl (x := pSl 31 1 w * 4096 + pSl 7 1 w * 2048) (y := pSl 25 6 w * 32) (p := 2048) 11 (by decide) (by decide) (by omega) (by omega) (by omega) (by omega) (by omega), or_sl (x := pSl 31 1 w * 4096 + pSl 7 1 w * 2048 + pSl 25 6 w * 32) (y := pSl 8 4 w * 2) (p := 32) 5 (by decide) (by decide) (by omega) (by omega) (by omega) (by omega) (by omega)]
    omega
  have ej : I_or (I_or (I_or (I_shl (pSl 31 1 w) 20) (I_shl (pSl 12 8 w) 12)) (I_shl (pSl 20 1 w) 11)) (I_shl (pSl 21 10 w) 1) = pSl 12 8 w * 4096 + pSl 20 1 w * 2048 + pSl 21 10 w * 2 + pSl 31 1 w * 1048576 := by
    rw [show I_shl (pSl 31 1 w) 20 = pSl 31 1 w * 1048576 from shl_n 20 (by decide) (by decide) (by omega) (by omega), show I_shl (pSl 12 8 w) 12 = pSl 12 8 w * 4096 from shl_n 12 (by decide) (by decide) (by omega) (by omega), show I_shl (pSl 20 1 w) 11 = pSl 20 1 w * 2048 from shl_n 11 (by decide) (by decide) (by omega) (by omega), show I_shl (pSl 21 10 w) 1 = pSl 21 10 w * 2 from shl_n 1 (by decide) (by decide) (by omega) (by omega)]
    rw [or_sl (x := pSl 31 1 w * 1048576) (y := pSl 12 8 w * 4096) (p := 1048576) 20 (by decide) (by decide) (by omega) (by omega) (by omega) (by omega) (by omega), or_sl (x := pSl 31 1 w * 1048576 + pSl 12 8 w * 4096) (y := pSl 20 1 w * 2048) (p := 4096) 12 (by decide) (by decide) (by omega) (by omega) (by omega) (by omega) (by omega), or_sl (x := pSl 31 1 w * 1048576 + pSl 12 8 w * 4096 + pSl 20 1 w * 2048) (y := pSl 21 10 w * 2) (p := 2048) 11 (by decide) (by decide) (by omega) (by omega) (by omega) (by omega) (by omega)]
    omega
  have es13 : ∀ v : Int, 0 ≤ v → v < 8192 → m_X29_signed s v 13 = some (sxt 13 v) := fun v a b => s_signed s v 13 (by decide) (by decide) a b
  have es21 : ∀ v : Int, 0 ≤ v → v < 2097152 → m_X29_signed s v 21 = some (sxt 21 v) := fun v a b => s_signed s v 21 (by decide) (by decide) a b
  have est : I_or (I_and (sxt 12 (pSl 20 12 w)) (-32)) (pSl 7 5 w) = sxt 12 (pSl 7 5 w + pSl 25 7 w * 32) := by
    have e : pSl 20 12 w = pSl 20 5 w + pSl 25 7 w * 32 := by
      unfold pSl
      show w / 1048576 % 4096 = w / 1048576 % 32 + w / 33554432 % 128 * 32
      omega
    have hl : -2048 ≤ sxt 12 (pSl 20 12 w) ∧ sxt 12 (pSl 20 12 w) ≤ 2047 := by rw [sxt_12]; split <;> omega
    rw [I_and_neg _ (by omega), or_sl (p := 32) 5 (by decide) (by decide) (by omega) (by omega) (by omega) (by omega) (by omega)]
    rw [sxt_12, sxt_12]
    split <;> split <;> omega
  simp only [jlet, pSl_127, shr_20 hw, e25, e12, bt_11_7, bt_19_15, bt_24_20, bt_14_12, bt_31_31, bt_7_7, bt_30_25, bt_11_8, bt_19_12, bt_20_20, bt_30_21, Option.bind_some, em_X29_takeLong, dm_X29_takeLong, eu_X29_takeLong_472, du_X29_takeLong_472, eu_X29_takeLong_391, du_X29_takeLong_391, eu_X29_takeLong_365, du_X29_takeLong_365, eu_X29_takeLong_356, du_X29_takeLong_356, eu_X29_takeLong_270, du_X29_takeLong_270, eu_X29_takeLong_232, du_X29_takeLong_232, eb, ej, est, es13 _ (show 0 ≤ pSl 7 1 w * 2048 + pSl 8 4 w * 2 + pSl 25 6 w * 32 + pSl 31 1 w * 4096 by omega) (by omega), es21 _ (show 0 ≤ pSl 12 8 w * 4096 + pSl 20 1 w * 2048 + pSl 21 10 w * 2 + pSl 31 1 w * 1048576 by omega) (by omega), s_is _ _ _ _ _ _ _ ho, s_takeSums s o w _ _ _ ho hw f12.1 (show pSl 12 3 w ≤ 7 by omega), s_rowKind s _ _ f12.1 (show pSl 12 3 w ≤ 7 by omega), W32_in (z := 10 + pSl 12 3 w) (by omega) (by omega), W32_in (z := 9 + pSl 12 3 w) (by omega) (by omega), W32_in (z := 15 + pSl 12 3 w) (by omega) (by omega), W32_in (z := 4 + pSl 12 3 w) (by omega) (by omega), W32_in (z := 2 + pSl 12 3 w) (by omega) (by omega)]
  unfold cLong cBr cJal
  by_cases e : pSl 0 7 w = 3
  · rw [if_pos e, if_pos e]
    all_goals (repeat' split)
    all_goals first | rfl | (exfalso; omega)
  rw [if_neg e, if_neg e]
  clear e
  by_cases e : pSl 0 7 w = 19
  · rw [if_pos e, if_pos e]
    all_goals (repeat' split)
    all_goals first | rfl | (exfalso; omega)
  rw [if_neg e, if_neg e]
  clear e
  by_cases e : pSl 0 7 w = 23
  · rw [if_pos e, if_pos e]
    all_goals (repeat' split)
    all_goals first | rfl | (exfalso; omega)
  rw [if_neg e, if_neg e]
  clear e
  by_cases e : pSl 0 7 w = 35
  · rw [if_pos e, if_pos e]
    all_goals (repeat' split)
    all_goals first | rfl | (exfalso; omega)
  rw [if_neg e, if_neg e]
  clear e
  by_cases e : pSl 0 7 w = 51
  · rw [if_pos e, if_pos e]
    all_goals (repeat' split)
    all_goals first | rfl | (exfalso; omega)
  rw [if_neg e, if_neg e]
  clear e
  by_cases e : pSl 0 7 w = 55
  · rw [if_pos e, if_pos e]
    all_goals (repeat' split)
    all_goals first | rfl | (exfalso; omega)
  rw [if_neg e, if_neg e]
  clear e
  by_cases e : pSl 0 7 w = 99
  · rw [if_pos e, if_pos e]
    all_goals (repeat' split)
    all_goals first | rfl | (exfalso; omega)
  rw [if_neg e, if_neg e]
  clear e
  by_cases e : pSl 0 7 w = 103
  · rw [if_pos e, if_pos e]
    all_goals (repeat' split)
    all_goals first | rfl | (exfalso; omega)
  rw [if_neg e, if_neg e]
  clear e
  by_cases e : pSl 0 7 w = 111
  · rw [if_pos e, if_pos e]
    all_goals (repeat' split)
    all_goals first | rfl | (exfalso; omega)
  rw [if_neg e, if_neg e]
  clear e
  by_cases e : w = 267386895
  · rw [if_pos e, if_pos e]
    all_goals (repeat' split)
    all_goals first | rfl | (exfalso; omega)
  rw [if_neg e, if_neg e]
  clear e
  by_cases e : w = 115
  · rw [if_pos e, if_pos e]
    all_goals (repeat' split)
    all_goals first | rfl | (exfalso; omega)
  rw [if_neg e, if_neg e]
  clear e
  by_cases e : w = 1048691
  · rw [if_pos e, if_pos e]
    all_goals (repeat' split)
    all_goals first | rfl | (exfalso; omega)
  rw [if_neg e, if_neg e]
theorem cLong_0 (w : Int) (h : pTk 0 w = true) : cLong w = (0, pPt 0 w) := by
  obtain ⟨h1, h2⟩ := pTk_0 w
  rw [h2 h]
  have h := h1.mp h
  unfold cLong cSum cRow cBr cJal
  simp [h]
theorem cLong_1 (w : Int) (h : pTk 1 w = true) : cLong w = (1, pPt 1 w) := by
  obtain ⟨h1, h2⟩ := pTk_1 w
  rw [h2 h]
  have h := h1.mp h
  unfold cLong cSum cRow cBr cJal
  simp [h]
theorem cLong_2 (w : Int) (h : pTk 2 w = true) : cLong w = (2, pPt 2 w) := by
  obtain ⟨h1, h2⟩ := pTk_2 w
  rw [h2 h]
  have h := h1.mp h
  unfold cLong cSum cRow cBr cJal
  simp [h]
theorem cLong_3 (w : Int) (h : pTk 3 w = true) : cLong w = (3, pPt 3 w) := by
  obtain ⟨h1, h2⟩ := pTk_3 w
  rw [h2 h]
  have h := h1.mp h
  unfold cLong cSum cRow cBr cJal
  simp [h]
theorem cLong_4 (w : Int) (h : pTk 4 w = true) : cLong w = (4, pPt 4 w) := by
  obtain ⟨h1, h2⟩ := pTk_4 w
  rw [h2 h]
  have h := h1.mp h
  unfold cLong cSum cRow cBr cJal
  simp [h]
theorem cLong_5 (w : Int) (h : pTk 5 w = true) : cLong w = (5, pPt 5 w) := by
  obtain ⟨h1, h2⟩ := pTk_5 w
  rw [h2 h]
  have h := h1.mp h
  unfold cLong cSum cRow cBr cJal
  simp [h]
theorem cLong_6 (w : Int) (h : pTk 6 w = true) : cLong w = (6, pPt 6 w) := by
  obtain ⟨h1, h2⟩ := pTk_6 w
  rw [h2 h]
  have h := h1.mp h
  unfold cLong cSum cRow cBr cJal
  simp [h]
theorem cLong_7 (w : Int) (h : pTk 7 w = true) : cLong w = (7, pPt 7 w) := by
  obtain ⟨h1, h2⟩ := pTk_7 w
  rw [h2 h]
  have h := h1.mp h
  unfold cLong cSum cRow cBr cJal
  simp [h]
theorem cLong_8 (w : Int) (h : pTk 8 w = true) : cLong w = (8, pPt 8 w) := by
  obtain ⟨h1, h2⟩ := pTk_8 w
  rw [h2 h]
  have h := h1.mp h
  unfold cLong cSum cRow cBr cJal
  simp [h]
theorem cLong_9 (w : Int) (h : pTk 9 w = true) : cLong w = (9, pPt 9 w) := by
  obtain ⟨h1, h2⟩ := pTk_9 w
  rw [h2 h]
  have h := h1.mp h
  unfold cLong cSum cRow cBr cJal
  simp [h]
theorem cLong_10 (w : Int) (h : pTk 10 w = true) : cLong w = (10, pPt 10 w) := by
  obtain ⟨h1, h2⟩ := pTk_10 w
  rw [h2 h]
  have h := h1.mp h
  unfold cLong cSum cRow cBr cJal
  simp [h]
theorem cLong_11 (w : Int) (h : pTk 11 w = true) : cLong w = (11, pPt 11 w) := by
  obtain ⟨h1, h2⟩ := pTk_11 w
  rw [h2 h]
  have h := h1.mp h
  unfold cLong cSum cRow cBr cJal
  simp [h]
theorem cLong_12 (w : Int) (h : pTk 12 w = true) : cLong w = (12, pPt 12 w) := by
  obtain ⟨h1, h2⟩ := pTk_12 w
  rw [h2 h]
  have h := h1.mp h
  unfold cLong cSum cRow cBr cJal
  simp [h]
theorem cLong_13 (w : Int) (h : pTk 13 w = true) : cLong w = (13, pPt 13 w) := by
  obtain ⟨h1, h2⟩ := pTk_13 w
  rw [h2 h]
  have h := h1.mp h
  unfold cLong cSum cRow cBr cJal
  simp [h]
theorem cLong_14 (w : Int) (h : pTk 14 w = true) : cLong w = (14, pPt 14 w) := by
  obtain ⟨h1, h2⟩ := pTk_14 w
  rw [h2 h]
  have h := h1.mp h
  unfold cLong cSum cRow cBr cJal
  simp [h]
theorem cLong_15 (w : Int) (h : pTk 15 w = true) : cLong w = (15, pPt 15 w) := by
  obtain ⟨h1, h2⟩ := pTk_15 w
  rw [h2 h]
  have h := h1.mp h
  unfold cLong cSum cRow cBr cJal
  simp [h]
theorem cLong_16 (w : Int) (h : pTk 16 w = true) : cLong w = (16, pPt 16 w) := by
  obtain ⟨h1, h2⟩ := pTk_16 w
  rw [h2 h]
  have h := h1.mp h
  unfold cLong cSum cRow cBr cJal
  simp [h]
theorem cLong_17 (w : Int) (h : pTk 17 w = true) : cLong w = (17, pPt 17 w) := by
  obtain ⟨h1, h2⟩ := pTk_17 w
  rw [h2 h]
  have h := h1.mp h
  unfold cLong cSum cRow cBr cJal
  simp [h]
theorem cLong_18 (w : Int) (h : pTk 18 w = true) : cLong w = (18, pPt 18 w) := by
  obtain ⟨h1, h2⟩ := pTk_18 w
  rw [h2 h]
  have h := h1.mp h
  unfold cLong cSum cRow cBr cJal
  simp [h]
theorem cLong_19 (w : Int) (h : pTk 19 w = true) : cLong w = (19, pPt 19 w) := by
  obtain ⟨h1, h2⟩ := pTk_19 w
  rw [h2 h]
  have h := h1.mp h
  unfold cLong cSum cRow cBr cJal
  simp [h]
theorem cLong_20 (w : Int) (h : pTk 20 w = true) : cLong w = (20, pPt 20 w) := by
  obtain ⟨h1, h2⟩ := pTk_20 w
  rw [h2 h]
  have h := h1.mp h
  unfold cLong cSum cRow cBr cJal
  simp [h]
theorem cLong_21 (w : Int) (h : pTk 21 w = true) : cLong w = (21, pPt 21 w) := by
  obtain ⟨h1, h2⟩ := pTk_21 w
  rw [h2 h]
  have h := h1.mp h
  unfold cLong cSum cRow cBr cJal
  simp [h]
theorem cLong_22 (w : Int) (h : pTk 22 w = true) : cLong w = (22, pPt 22 w) := by
  obtain ⟨h1, h2⟩ := pTk_22 w
  rw [h2 h]
  have h := h1.mp h
  unfold cLong cSum cRow cBr cJal
  simp [h]
theorem cLong_23 (w : Int) (h : pTk 23 w = true) : cLong w = (23, pPt 23 w) := by
  obtain ⟨h1, h2⟩ := pTk_23 w
  rw [h2 h]
  have h := h1.mp h
  unfold cLong cSum cRow cBr cJal
  simp [h]
theorem cLong_24 (w : Int) (h : pTk 24 w = true) : cLong w = (24, pPt 24 w) := by
  obtain ⟨h1, h2⟩ := pTk_24 w
  rw [h2 h]
  have h := h1.mp h
  unfold cLong cSum cRow cBr cJal
  simp [h]
theorem cLong_25 (w : Int) (h : pTk 25 w = true) : cLong w = (25, pPt 25 w) := by
  obtain ⟨h1, h2⟩ := pTk_25 w
  rw [h2 h]
  have h := h1.mp h
  unfold cLong cSum cRow cBr cJal
  simp [h]
theorem cLong_26 (w : Int) (h : pTk 26 w = true) : cLong w = (26, pPt 26 w) := by
  obtain ⟨h1, h2⟩ := pTk_26 w
  rw [h2 h]
  have h := h1.mp h
  unfold cLong cSum cRow cBr cJal
  simp [h]
theorem cLong_27 (w : Int) (h : pTk 27 w = true) : cLong w = (27, pPt 27 w) := by
  obtain ⟨h1, h2⟩ := pTk_27 w
  rw [h2 h]
  have h := h1.mp h
  unfold cLong cSum cRow cBr cJal
  simp [h]
theorem cLong_28 (w : Int) (h : pTk 28 w = true) : cLong w = (28, pPt 28 w) := by
  obtain ⟨h1, h2⟩ := pTk_28 w
  rw [h2 h]
  have h := h1.mp h
  unfold cLong cSum cRow cBr cJal
  simp [h]
theorem cLong_29 (w : Int) (h : pTk 29 w = true) : cLong w = (29, pPt 29 w) := by
  obtain ⟨h1, h2⟩ := pTk_29 w
  rw [h2 h]
  have h := h1.mp h
  unfold cLong cSum cRow cBr cJal
  simp [h]
theorem cLong_30 (w : Int) (h : pTk 30 w = true) : cLong w = (30, pPt 30 w) := by
  obtain ⟨h1, h2⟩ := pTk_30 w
  rw [h2 h]
  have h := h1.mp h
  unfold cLong cSum cRow cBr cJal
  simp [h]
theorem cLong_31 (w : Int) (h : pTk 31 w = true) : cLong w = (31, pPt 31 w) := by
  obtain ⟨h1, h2⟩ := pTk_31 w
  rw [h2 h]
  have h := h1.mp h
  unfold cLong cSum cRow cBr cJal
  simp [h]
theorem cLong_32 (w : Int) (h : pTk 32 w = true) : cLong w = (32, pPt 32 w) := by
  obtain ⟨h1, h2⟩ := pTk_32 w
  rw [h2 h]
  have h := h1.mp h
  unfold cLong cSum cRow cBr cJal
  simp [h]
theorem cLong_33 (w : Int) (h : pTk 33 w = true) : cLong w = (33, pPt 33 w) := by
  obtain ⟨h1, h2⟩ := pTk_33 w
  rw [h2 h]
  have h := h1.mp h
  unfold cLong cSum cRow cBr cJal
  simp [h]
theorem cLong_34 (w : Int) (h : pTk 34 w = true) : cLong w = (34, pPt 34 w) := by
  obtain ⟨h1, h2⟩ := pTk_34 w
  rw [h2 h]
  have h := h1.mp h
  unfold cLong cSum cRow cBr cJal
  simp [h]
theorem cLong_35 (w : Int) (h : pTk 35 w = true) : cLong w = (35, pPt 35 w) := by
  obtain ⟨h1, h2⟩ := pTk_35 w
  rw [h2 h]
  have h := h1.mp h
  unfold cLong cSum cRow cBr cJal
  simp [h]
theorem cLong_36 (w : Int) (h : pTk 36 w = true) : cLong w = (36, pPt 36 w) := by
  obtain ⟨h1, h2⟩ := pTk_36 w
  rw [h2 h]
  have h := h1.mp h
  unfold cLong cSum cRow cBr cJal
  simp [h]
theorem cLong_37 (w : Int) (h : pTk 37 w = true) : cLong w = (37, pPt 37 w) := by
  obtain ⟨h1, h2⟩ := pTk_37 w
  rw [h2 h]
  have h := h1.mp h
  unfold cLong cSum cRow cBr cJal
  simp [h]
theorem cLong_38 (w : Int) (h : pTk 38 w = true) : cLong w = (38, pPt 38 w) := by
  obtain ⟨h1, h2⟩ := pTk_38 w
  rw [h2 h]
  have h := h1.mp h
  unfold cLong cSum cRow cBr cJal
  simp [h]
theorem cLong_39 (w : Int) (h : pTk 39 w = true) : cLong w = (39, pPt 39 w) := by
  obtain ⟨h1, h2⟩ := pTk_39 w
  rw [h2 h]
  have h := h1.mp h
  unfold cLong cSum cRow cBr cJal
  simp [h]
theorem cLong_40 (w : Int) (h : pTk 40 w = true) : cLong w = (40, pPt 40 w) := by
  obtain ⟨h1, h2⟩ := pTk_40 w
  rw [h2 h]
  have h := h1.mp h
  unfold cLong cSum cRow cBr cJal
  simp [h]
theorem cLong_41 (w : Int) (h : pTk 41 w = true) : cLong w = (41, pPt 41 w) := by
  obtain ⟨h1, h2⟩ := pTk_41 w
  rw [h2 h]
  have h := h1.mp h
  unfold cLong cSum cRow cBr cJal
  simp [h]
theorem cLong_42 (w : Int) (h : pTk 42 w = true) : cLong w = (42, pPt 42 w) := by
  obtain ⟨h1, h2⟩ := pTk_42 w
  rw [h2 h]
  have h := h1.mp h
  unfold cLong cSum cRow cBr cJal
  simp [h]
theorem cLong_43 (w : Int) (h : pTk 43 w = true) : cLong w = (43, pPt 43 w) := by
  obtain ⟨h1, h2⟩ := pTk_43 w
  rw [h2 h]
  have h := h1.mp h
  unfold cLong cSum cRow cBr cJal
  simp [h]
theorem cLong_44 (w : Int) (h : pTk 44 w = true) : cLong w = (44, pPt 44 w) := by
  obtain ⟨h1, h2⟩ := pTk_44 w
  rw [h2 h]
  have h := h1.mp h
  unfold cLong cSum cRow cBr cJal
  simp [h]
theorem cLong_45 (w : Int) (hw : -2147483648 ≤ w ∧ w ≤ 2147483647) (h : pTk 45 w = true) : cLong w = (45, pPt 45 w) := by
  obtain ⟨h1, h2⟩ := pTk_45 w
  rw [h2 h]
  have h := h1.mp h
  have e : w = 267386895 := by
    unfold pSl at h
    have : w / 1 % 4294967296 = 267386895 := h
    omega
  subst e
  have e7 : pSl 0 7 267386895 = 15 := by decide
  unfold cLong
  rw [e7]
  rfl
theorem cLong_46 (w : Int) (hw : -2147483648 ≤ w ∧ w ≤ 2147483647) (h : pTk 46 w = true) : cLong w = (46, pPt 46 w) := by
  obtain ⟨h1, h2⟩ := pTk_46 w
  rw [h2 h]
  have h := h1.mp h
  have e : w = 115 := by
    unfold pSl at h
    have : w / 1 % 4294967296 = 115 := h
    omega
  subst e
  have e7 : pSl 0 7 115 = 115 := by decide
  unfold cLong
  rw [e7]
  rfl
theorem cLong_47 (w : Int) (hw : -2147483648 ≤ w ∧ w ≤ 2147483647) (h : pTk 47 w = true) : cLong w = (47, pPt 47 w) := by
  obtain ⟨h1, h2⟩ := pTk_47 w
  rw [h2 h]
  have h := h1.mp h
  have e : w = 1048691 := by
    unfold pSl at h
    have : w / 1 % 4294967296 = 1048691 := h
    omega
  subst e
  have e7 : pSl 0 7 1048691 = 115 := by decide
  unfold cLong
  rw [e7]
  rfl
end jCdec
