/-! loads and stores -/
section jMstore
variable {s t : jS} {M U : Int}
theorem L_or_lo {x y : Int} (j : Nat) (hj : j ≤ 64) (hx : 0 ≤ x) (hx' : x < 2 ^ j) (hy : y % 2 ^ j = 0) : L_or x y = W64 (x + y) := by
  rw [L_or_eq, W64_eq, l_or_bv]
  show (BitVec.ofInt 64 x ||| BitVec.ofInt 64 y).toInt = (BitVec.ofInt 64 (x + y)).toInt
  rw [BitVec.ofInt_add, BitVec.add_eq_or_of_and_eq_zero]
  apply BitVec.eq_of_toNat_eq
  rw [BitVec.toNat_and]
  show _ = 0
  apply Nat.eq_of_testBit_eq
  intro i
  rw [Nat.testBit_and, Nat.zero_testBit]
  have hp : (2 : Nat) ^ j ≤ 2 ^ 64 := Nat.pow_le_pow_right (by decide) hj
  have ex : (BitVec.ofInt 64 x).toNat = x.toNat := by
    rw [BitVec.toNat_ofInt]; rw [p2_nat] at hx'; omega
  rw [ex]
  by_cases hi : i < j
  · have : (BitVec.ofInt 64 y).toNat.testBit i = false := by
      rw [BitVec.toNat_ofInt]
      have hd : (2 : Nat) ^ j ∣ (y % ((2 ^ 64 : Nat) : Int)).toNat := by
        have h1 : ((2 : Int) ^ j) ∣ y := Int.dvd_of_emod_eq_zero hy
        have h2 : ((2 : Int) ^ j) ∣ ((2 ^ 64 : Nat) : Int) := by
          rw [p2_nat]; exact_mod_cast Nat.pow_dvd_pow 2 hj
        have h3 : ((2 : Int) ^ j) ∣ y % ((2 ^ 64 : Nat) : Int) := by
          have := Int.dvd_add (Int.dvd_trans h2 (Int.dvd_emod_sub_self (x := y))) h1
          rwa [Int.sub_add_cancel] at this
        have h4 : 0 ≤ y % ((2 ^ 64 : Nat) : Int) := Int.emod_nonneg _ (by decide)
        rw [p2_nat] at h3
        have : ((y % ((2 ^ 64 : Nat) : Int)).toNat : Int) = y % ((2 ^ 64 : Nat) : Int) := Int.toNat_of_nonneg h4
        rw [← this] at h3
        exact_mod_cast h3
      obtain ⟨q, hq⟩ := hd
      rw [hq, Nat.testBit_two_pow_mul]
      simp; omega
    rw [this, Bool.and_false]
  · have : x.toNat.testBit i = false := by
      apply Nat.testBit_lt_two_pow
      have : (2 : Nat) ^ j ≤ 2 ^ i := Nat.pow_le_pow_right (by decide) (by omega)
      rw [p2_nat] at hx'
      omega
    rw [this, Bool.false_and]
theorem L_or_comm (x y : Int) : L_or x y = L_or y x := by
  rw [L_or_eq, l_or_bv, l_or_bv, BitVec.or_comm]
theorem L_or_hi {x y : Int} (j : Nat) (hj : j ≤ 64) (hx : x % 2 ^ j = 0) (hy : 0 ≤ y) (hy' : y < 2 ^ j) : L_or x y = W64 (x + y) := by
  rw [L_or_comm, L_or_lo j hj hy hy' hx, Int.add_comm]
theorem L_and_255s {v : Int} (h0 : 0 ≤ v) (h1 : v < 256) : L_and (sb v) 255 = v := by
  rw [L_and_255]; exact sb_mod h0 h1
/-- what the component's store notes -/
theorem s_store29 {a v N : Int} {g : Int → Int} (n : Nat) (hM : MrMem (jf s 1001 (M + 1)) g) (h0 : 0 ≤ a) (h1 : a + n ≤ 131072) (hn : n ≤ 4) (hn' : 1 ≤ n) (h22 : jf s 33 M 22 = N) (hN : 0 ≤ N) (hK : jK s N = 36) :
    u_X29_store_29 (jp s 36 N 12 0) M a n v ((n : Int) - 1) = u_X29_store_72 (jp s 36 N 12 (fet g a n)) M a n v := by
  rw [eu_X29_store_29, du_X29_store_29]
  have hV : [M, a, (n : Int), v, (n : Int) - 1] = (fun k : Int => [M, a, (n : Int), v, n - 1 - k]) 0 := by
    show _ = [M, a, (n : Int), v, (n : Int) - 1 - 0]
    rw [Int.sub_zero]
  have hS : jp s 36 N 12 0 = (fun k : Int => jp s 36 N 12 (fet g (a + n - k) k.toNat)) 0 := rfl
  rw [hV, hS]
  refine jforW (fun k : Int => [M, a, (n : Int), v, n - 1 - k]) (fun k : Int => jp s 36 N 12 (fet g (a + n - k) k.toNat)) 0 n (by omega) ?_ ?_
  · intro k k0 k1
    show b_X29_store_29 (jp s 36 N 12 (fet g (a + n - k) k.toNat)) M a n v (n - 1 - k) = _
    unfold b_X29_store_29
    have hk : (k + 1).toNat = k.toNat + 1 := by omega
    have e1 : a + (n - 1 - k) = a + n - (k + 1) := by omega
    obtain ⟨q1, q2, q3⟩ := hM (a + n - (k + 1)) (by omega) (by omega)
    have b0 := fet_b (B := g) (a := a + n - k) k.toNat (fun j j0 j1 => ⟨(hM j (by omega) (by omega)).1, (hM j (by omega) (by omega)).2.1⟩)
    have hp : (256 : Int) ^ k.toNat ≤ 256 ^ 3 := by
      rw [p256, p256, p2_nat, p2_nat]
      have := Nat.pow_le_pow_right (n := 2) (show 0 < 2 by decide) (show 8 * k.toNat ≤ 8 * 3 by omega)
      omega
    have hp3 : (256 : Int) ^ 3 = 16777216 := rfl
    have e22 : jf (jp s 36 N 12 (fet g (a + n - k) k.toNat)) 33 M 22 = N := by simp only [eq_self, or_true, true_or, or_false, false_or, jfc_jp, jupp_p, jup_a, Int.add_right_inj, Int.add_left_inj, Int.reduceEq, if_true, if_false, true_and, and_true, false_and, and_false, reduceIte]; exact h22
    have e12 : jf (jp s 36 N 12 (fet g (a + n - k) k.toNat)) 36 N 12 = fet g (a + n - k) k.toNat := by simp only [eq_self, or_true, true_or, or_false, false_or, jfc_jp, jupp_p, jup_a, Int.add_right_inj, Int.add_left_inj, Int.reduceEq, if_true, if_false, true_and, and_true, false_and, and_false, reduceIte]
    have em : jf (jp s 36 N 12 (fet g (a + n - k) k.toNat)) 1001 (M + 1) (a + n - (k + 1)) = sb (g (a + n - (k + 1))) := by simp only [eq_self, or_true, true_or, or_false, false_or, jfc_jp, jupp_p, jup_a, Int.add_right_inj, Int.add_left_inj, Int.reduceEq, if_true, if_false, true_and, and_true, false_and, and_false, reduceIte]; exact q3
    rw [if_neg (by omega), e22, jrd_in hN (show jK (jp s 36 N 12 _) N = 36 from hK), Option.bind_some, e12, W32_in (z := a + (n - 1 - k)) (by omega) (by omega), e1, jlt_in (by omega) (by omega), Option.bind_some, em, L_and_255s q1 q2, jwr_in hN (show jK (jp s 36 N 12 _) N = 36 from hK), Option.bind_some, jp_jp, W32_in (z := n - 1 - k + -1) (by omega) (by omega)]
    have e2 : (n : Int) - 1 - k + -1 = n - 1 - (k + 1) := by omega
    have e3 : L_or (L_shl (fet g (a + n - k) k.toNat) 8) (g (a + n - (k + 1))) = fet g (a + n - (k + 1)) (k.toNat + 1) := by
      rw [l_shl_p (by omega) (by omega), show (2 : Int) ^ (8 : Int).toNat = 256 from rfl, W64_in (by omega) (by omega), L_or_hi 8 (by omega) (by show _ * 256 % 256 = 0; omega) q1 q2, W64_in (by omega) (by omega), fet_cons, show a + (n : Int) - (k + 1) + 1 = a + n - k by omega]
      omega
    rw [e3, e2, hk]
  · show b_X29_store_29 (jp s 36 N 12 (fet g (a + n - n) (n : Int).toNat)) M a n v (n - 1 - n) = _
    unfold b_X29_store_29
    rw [if_pos (by omega), Int.toNat_natCast, show a + (n : Int) - n = a by omega]
/-- both write bytes -/
theorem p_bytes {a v : Int} {n : Int} {C : Int → Int} (h : MrMem (jf s 1001 (M + 1)) (jf t 1000 (U + 3))) (h0 : 0 ≤ a) (h1 : a + n ≤ 131072) (hn : 0 ≤ n ∧ n ≤ 4) (hv : -2147483648 ≤ v ∧ v ≤ 2147483647) :
    jE2 (u_X29_store_75 s M a n v 0) (u_X43_store_47 t U a n v 0) fun r q => MrMem (jf r.1 1001 (M + 1)) (jf q.1 1000 (U + 3)) ∧ (∀ c x k, ¬ (c = 1001 ∧ x = M + 1) → jf r.1 c x k = jf s c x k) ∧ (∀ c x k, ¬ (c = 1000 ∧ x = U + 3) → jf q.1 c x k = jf t c x k) ∧ jSm s r.1 ∧ jSm t q.1 := by
  rw [eu_X29_store_75, du_X29_store_75, eu_X43_store_47, du_X43_store_47]
  refine jforWW (J := fun _ r q => MrMem (jf r 1001 (M + 1)) (jf q 1000 (U + 3)) ∧ (∀ c x k, ¬ (c = 1001 ∧ x = M + 1) → jf r c x k = jf s c x k) ∧ (∀ c x k, ¬ (c = 1000 ∧ x = U + 3) → jf q c x k = jf t c x k) ∧ jSm s r ∧ jSm t q) (fun k => [M, a, n, v, k]) (fun k => [U, a, n, v, k]) 0 n (by omega) ?_ ?_ ⟨h, fun _ _ _ _ => Eq.refl _, fun _ _ _ _ => Eq.refl _, jSm.rfl, jSm.rfl⟩
  · intro k s' t' k0 k1 ⟨g1, g2, g3, g4, g5⟩
    apply Or.inl
    apply jqst2
    case hx =>
      show b_X29_store_75 s' M a n v k = _
      unfold b_X29_store_75
      rw [if_pos k1, W32_in (z := 8 * k) (by omega) (by omega), W32_in (z := a + k) (by omega) (by omega), W32_in (z := k + 1) (by omega) (by omega), jst_in (by omega) (by omega)]
      rfl
    case hy =>
      show b_X43_store_47 t' U a n v k = _
      unfold b_X43_store_47
      rw [if_pos k1, W32_in (z := 8 * k) (by omega) (by omega), W32_in (z := a + k) (by omega) (by omega), W32_in (z := k + 1) (by omega) (by omega), jst_in (by omega) (by omega)]
      rfl
    refine ⟨?_, ?_, ?_, g4.jp, g5.jp⟩
    · simp only [eq_self, or_true, true_or, or_false, false_or, jfc_jp, jupp_p, jup_a, Int.add_right_inj, Int.add_left_inj, Int.reduceEq, if_true, if_false, true_and, and_true, false_and, and_false, reduceIte]
      rw [W8_W8, I_and_255]
      exact g1.put (Int.emod_nonneg _ (by decide)) (Int.emod_lt_of_pos _ (by decide))
    · intro c x j q
      rw [jf_jp, if_neg (fun z => q ⟨z.1, z.2.1⟩)]; exact g2 c x j q
    · intro c x j q
      rw [jf_jp, if_neg (fun z => q ⟨z.1, z.2.1⟩)]; exact g3 c x j q
  · intro s' t' g
    refine ⟨some (s', 0), some (t', 0), ?_, ?_, jE2_some.mpr g⟩
    · show b_X29_store_75 s' M a n v n = _
      unfold b_X29_store_75
      rw [if_neg (by omega)]
    · show b_X43_store_47 t' U a n v n = _
      unfold b_X43_store_47
      rw [if_neg (by omega)]
theorem jf_fn {s t : jS} {c x : Int} (h : ∀ k, jf t c x k = jf s c x k) : jf t c x = jf s c x := by funext k; exact h k
theorem jf_fn2 {s t : jS} {c : Int} (h : ∀ x k, jf t c x k = jf s c x k) : jf t c = jf s c := by funext x k; exact h x k
/-- other bytes -/
theorem Wk.mem {s' t' : jS} {n k u : Int} (h : Wk s M t U n k u) (g1 : MrMem (jf s' 1001 (M + 1)) (jf t' 1000 (U + 3))) (g2 : ∀ c x k, ¬ (c = 1001 ∧ x = M + 1) → jf s' c x k = jf s c x k) (g3 : ∀ c x k, ¬ (c = 1000 ∧ x = U + 3) → jf t' c x k = jf t c x k) (g4 : jSm s s') (g5 : jSm t t') : Wk s' M t' U n k u := by
  obtain ⟨⟨hK, hP, hMem, hMark, hSeg, hReg, hIn, hOut, hHalt, hSc, hRing⟩, hnow, h23⟩ := h
  have c1 : ∀ c x, ¬ (c = 1001 ∧ x = M + 1) → jf s' c x = jf s c x := fun c x q => jf_fn fun k => g2 c x k q
  have c2 : ∀ c x, ¬ (c = 1000 ∧ x = U + 3) → jf t' c x = jf t c x := fun c x q => jf_fn fun k => g3 c x k q
  have c3 : ∀ c, ¬ c = 1001 → jf s' c = jf s c := fun c q => jf_fn2 fun x k => g2 c x k (fun z => q z.1)
  refine ⟨⟨hK.sm g4, hP.at (c2 _ _ (by omega)), g1, ?_, ?_, ?_, ?_, ?_, ?_, ?_, ?_⟩, ?_, ?_⟩
  · rw [c1 _ _ (by omega), c2 _ _ (by omega)]; exact hMark
  · rw [c3 _ (by omega), c2 _ (U + 5) (by omega), c2 _ (U + 6) (by omega), c2 _ (U + 7) (by omega)]; exact hSeg
  · rw [c1 _ _ (by omega), c2 _ _ (by omega)]; exact hReg
  · rw [c1 33 _ (by omega), c1 1001 _ (by omega), c2 47 _ (by omega), c2 1000 _ (by omega)]; exact hIn
  · rw [c1 _ _ (by omega), c2 _ _ (by omega)]; exact hOut
  · rw [c1 33 _ (by omega), c1 1000 _ (by omega), c2 47 _ (by omega), c2 1000 _ (by omega)]; exact hHalt
  · rw [c1 33 _ (by omega), c2 47 _ (by omega)]; exact hSc
  · rw [c1 33 _ (by omega), c2 47 _ (by omega), c3 36 (by omega), c2 1000 _ (by omega)]; exact hRing
  · rw [c1 33 _ (by omega)]; exact hnow
  · rw [c2 47 _ (by omega)]; exact h23
theorem p_store {a v : Int} {m : Nat} {n k u : Int} (h : Wk s M t U n k u) (hm : m = 1 ∨ m = 2 ∨ m = 4) (h0 : 0 ≤ a) (h1 : a + m ≤ 131072) (hv : -2147483648 ≤ v ∧ v ≤ 2147483647) : jE2 (m_X29_store s M a m v) (m_X43_store t U a m v) fun r q => Wk r.1 M q.1 U n k u ∧ Wf s M t U r.1 q.1 ∧ jf r.1 33 = jf s 33 ∧ jf q.1 47 = jf t 47 := by
  have hh := h
  obtain ⟨⟨hK, hP, hMem, hMark, hSeg, hReg, hIn, hOut, hHalt, hSc, hRing⟩, hnow, h23⟩ := h
  rw [em_X29_store, em_X43_store]; unfold dm_X29_store dm_X43_store
  have hR := hRing
  unfold MrRing at hR
  rw [aC_20] at hR
  obtain ⟨a1, a2, a3, a4, a5, a6, a7, a8⟩ := hR
  have hrec := a8 1 (by omega) h23
  have hKn : 0 ≤ jf s 33 M 22 ∧ jK s (jf s 33 M 22) = 36 := by
    rw [hnow]
    have := hK.1
    exact ⟨by omega, hK.2.2.2 _ (by omega) (by omega)⟩
  have hM0 := hK.1
  have hNr : M + 18 ≤ M + 18 + (n - 1) % 101 ∧ M + 18 + (n - 1) % 101 ≤ M + 118 := by omega
  generalize hN : M + 18 + (n - 1) % 101 = N at *
  generalize hr1 : (jf t 47 U 24 - 1) % 100 = q at *
  have hq : 0 ≤ q ∧ q < 100 := by omega
  have l1 : m_X43_latest t U = some (13 * q) := by rw [s_latest a6 a7, hr1]
  have hB : ∀ k, 0 ≤ k → k < 131072 → 0 ≤ jf t 1000 (U + 3) k ∧ jf t 1000 (U + 3) k < 256 := fun k k0 k1 => ⟨(hMem k k0 k1).1, (hMem k k0 k1).2.1⟩
  have hf := s_X43_fetched (t := jp (jp t 1000 (U + 12) (13 * q + 10) a) 1000 (U + 12) (13 * q + 11) m) (U := U) (a := a) m (by simp only [eq_self, or_true, true_or, or_false, false_or, jfc_jp, jupp_p, jup_a, Int.add_right_inj, Int.add_left_inj, Int.reduceEq, if_true, if_false, true_and, and_true, false_and, and_false, reduceIte]; exact hB) h0 h1 (by omega)
  have ef : jf (jp (jp t 1000 (U + 12) (13 * q + 10) a) 1000 (U + 12) (13 * q + 11) m) 1000 (U + 3) = jf t 1000 (U + 3) := by simp only [eq_self, or_true, true_or, or_false, false_or, jfc_jp, jupp_p, jup_a, Int.add_right_inj, Int.add_left_inj, Int.reduceEq, if_true, if_false, true_and, and_true, false_and, and_false, reduceIte]
  rw [ef] at hf
  rw [l1, Option.bind_some, W32_in (z := 13 * q + 10) (by omega) (by omega), jst_in (by omega) (by omega), Option.bind_some, W32_in (z := 13 * q + 11) (by omega) (by omega), jst_in (by omega) (by omega), Option.bind_some, hf, Option.bind_some, W32_in (z := 13 * q + 12) (by omega) (by omega), jst_in (by omega) (by omega), Option.bind_some]
  rw [hnow] at hKn ⊢
  rw [jwr_in hKn.1 hKn.2, Option.bind_some]
  have e22 : jf (jp s 36 N 10 a) 33 M 22 = N := by simp only [eq_self, or_true, true_or, or_false, false_or, jfc_jp, jupp_p, jup_a, Int.add_right_inj, Int.add_left_inj, Int.reduceEq, if_true, if_false, true_and, and_true, false_and, and_false, reduceIte]; exact hnow
  rw [e22, jwr_in hKn.1 (show jK (jp s 36 N 10 a) N = 36 from hKn.2), Option.bind_some]
  have e22' : jf (jp (jp s 36 N 10 a) 36 N 11 m) 33 M 22 = N := by simp only [eq_self, or_true, true_or, or_false, false_or, jfc_jp, jupp_p, jup_a, Int.add_right_inj, Int.add_left_inj, Int.reduceEq, if_true, if_false, true_and, and_true, false_and, and_false, reduceIte]; exact hnow
  rw [e22', jwr_in hKn.1 (show jK (jp (jp s 36 N 10 a) 36 N 11 m) N = 36 from hKn.2), Option.bind_some]
  simp only [jlet]
  rw [W32_in (z := (m : Int) - 1) (by omega) (by omega), s_store29 (g := jf t 1000 (U + 3)) m (by simp only [eq_self, or_true, true_or, or_false, false_or, jfc_jp, jupp_p, jup_a, Int.add_right_inj, Int.add_left_inj, Int.reduceEq, if_true, if_false, true_and, and_true, false_and, and_false, reduceIte]; exact hMem) h0 h1 (by omega) (by omega) e22' hKn.1 hKn.2]
  simp only [eu_X29_store_72, du_X29_store_72]
  have hb := fet_b (B := jf t 1000 (U + 3)) (a := a) m (fun j j0 j1 => hB j (by omega) (by omega))
  have hp4 : (256 : Int) ^ m ≤ 4294967296 := by rcases hm with rfl | rfl | rfl <;> decide
  have hW0 : Wk (jp (jp (jp s 36 N 10 a) 36 N 11 m) 36 N 12 (fet (jf t 1000 (U + 3)) a m)) M (jp (jp (jp t 1000 (U + 12) (13 * q + 10) a) 1000 (U + 12) (13 * q + 11) m) 1000 (U + 12) (13 * q + 12) (W32 (fet (jf t 1000 (U + 3)) a m))) U n k u := by
    refine ⟨?_, ?_, ?_⟩
    · unfold MrG; simp only [eq_self, or_true, true_or, or_false, false_or, jfc_jp, jupp_p, jup_a, Int.add_right_inj, Int.add_left_inj, Int.reduceEq, if_true, if_false, true_and, and_true, false_and, and_false, reduceIte]
      refine ⟨hK, hP.at (by simp only [eq_self, or_true, true_or, or_false, false_or, jfc_jp, jupp_p, jup_a, Int.add_right_inj, Int.add_left_inj, Int.reduceEq, if_true, if_false, true_and, and_true, false_and, and_false, reduceIte]), hMem, hMark, hSeg, hReg, hIn, hOut, hHalt, hSc, hRing.top rfl rfl rfl rfl rfl ?_ ?_ ?_⟩
      · intro c hc
        rw [aC_20, hN] at hc
        simp only [jupp_p, hc, if_false]
      · intro x hx
        rw [hr1] at hx
        simp only [jup_a]
        rw [if_neg (by omega), if_neg (by omega), if_neg (by omega)]
      · rw [aC_20, hN, hr1]
        unfold MrRec at hrec ⊢
        simp only [eq_self, or_true, true_or, or_false, false_or, jfc_jp, jupp_p, jup_a, Int.add_right_inj, Int.add_left_inj, Int.reduceEq, if_true, if_false, true_and, and_true, false_and, and_false, reduceIte]
        obtain ⟨r1, r2, r3, r4, r5, r6, r7, r8, r9, r10, r11, r12, r13, r14, r15⟩ := hrec
        have z0 : ¬ (13 * q = 13 * q + 10) := by omega
        have z1 : ¬ (13 * q = 13 * q + 11) := by omega
        have z2 : ¬ (13 * q = 13 * q + 12) := by omega
        simp only [z0, z1, z2, if_false]
        refine ⟨r1, r2, r3, r4, r5, r6, r7, r8, r9, r10, r11, r12, r13, r14, .inr ⟨h0, by omega, by omega, h1, (W32_lo _).1, (W32_lo _).2, hb.1, by omega, fun i i0 i1 => ?_⟩⟩
        have := pSl_W32 (fet (jf t 1000 (U + 3)) a m) (8 * i.toNat) 8 (by omega)
        unfold pSl at this
        rw [p256]
        exact this.symm
    · simp only [eq_self, or_true, true_or, or_false, false_or, jfc_jp, jupp_p, jup_a, Int.add_right_inj, Int.add_left_inj, Int.reduceEq, if_true, if_false, true_and, and_true, false_and, and_false, reduceIte]; rw [hN]; exact hnow
    · simp only [eq_self, or_true, true_or, or_false, false_or, jfc_jp, jupp_p, jup_a, Int.add_right_inj, Int.add_left_inj, Int.reduceEq, if_true, if_false, true_and, and_true, false_and, and_false, reduceIte]; exact h23
  refine jE2_mono (p_bytes (C := fun x => x) (hW0.1.2.2.1) h0 h1 (by omega) hv) fun r z ⟨g1, g2, g3, g4, g5⟩ => ⟨hW0.mem g1 g2 g3 g4 g5, ⟨?_, ?_, ?_, ?_⟩, ?_, ?_⟩
  · refine jFm.trans (t := jp (jp (jp s 36 N 10 a) 36 N 11 m) 36 N 12 (fet (jf t 1000 (U + 3)) a m)) (by (repeat' (first | exact jFm.rfl | refine jFm.jp ?_ (by omega) (by omega)))) ⟨g4, fun c x j w => g2 c x j (by omega)⟩
  · refine jFm.trans (t := jp (jp (jp t 1000 (U + 12) (13 * q + 10) a) 1000 (U + 12) (13 * q + 11) m) 1000 (U + 12) (13 * q + 12) (W32 (fet (jf t 1000 (U + 3)) a m))) (by (repeat' (first | exact jFm.rfl | refine jFm.jp ?_ (by omega) (by omega)))) ⟨g5, fun c x j w => g3 c x j (by omega)⟩
  · rw [jf_fn2 fun x j => g2 34 x j (by omega)]; simp only [eq_self, or_true, true_or, or_false, false_or, jfc_jp, jupp_p, jup_a, Int.add_right_inj, Int.add_left_inj, Int.reduceEq, if_true, if_false, true_and, and_true, false_and, and_false, reduceIte]
  · rw [jf_fn fun j => g3 1000 (U + 2) j (by omega)]; simp only [eq_self, or_true, true_or, or_false, false_or, jfc_jp, jupp_p, jup_a, Int.add_right_inj, Int.add_left_inj, Int.reduceEq, if_true, if_false, true_and, and_true, false_and, and_false, reduceIte]
  · rw [jf_fn2 fun x j => g2 33 x j (by omega)]; simp only [eq_self, or_true, true_or, or_false, false_or, jfc_jp, jupp_p, jup_a, Int.add_right_inj, Int.add_left_inj, Int.reduceEq, if_true, if_false, true_and, and_true, false_and, and_false, reduceIte]
  · rw [jf_fn2 fun x j => g3 47 x j (by omega)]; simp only [eq_self, or_true, true_or, or_false, false_or, jfc_jp, jupp_p, jup_a, Int.add_right_inj, Int.add_left_inj, Int.reduceEq, if_true, if_false, true_and, and_true, false_and, and_false, reduceIte]
end jMstore
