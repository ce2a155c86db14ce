/-! the machines fetch and look -/
section jMfetch
variable {s t : jS} {M U : Int}
def fet (B : Int → Int) (a : Int) : Nat → Int
  | 0 => 0
  | n + 1 => fet B a n + B (a + n) * 256 ^ n
theorem fet_b {B : Int → Int} {a : Int} : ∀ (n : Nat), (∀ k : Int, a ≤ k → k < a + n → 0 ≤ B k ∧ B k < 256) → 0 ≤ fet B a n ∧ fet B a n < 256 ^ n
  | 0, _ => by unfold fet; decide
  | n + 1, h => by
    obtain ⟨q1, q2⟩ := fet_b n (fun k k0 k1 => h k k0 (by omega))
    obtain ⟨q3, q4⟩ := h (a + n) (by omega) (by omega)
    unfold fet
    have p : (0 : Int) < 256 ^ n := Int.pow_pos (by decide)
    have e : (256 : Int) ^ (n + 1) = 256 * 256 ^ n := by rw [Int.pow_succ, Int.mul_comm]
    rw [e]
    generalize (256 : Int) ^ n = P at *
    have q5 : 0 ≤ B (a + n) * P := Int.mul_nonneg q3 (by omega)
    have q6 : B (a + n) * P ≤ 255 * P := Int.mul_le_mul_of_nonneg_right (by omega) (by omega)
    omega
theorem fet_cons {B : Int → Int} {a : Int} : ∀ (n : Nat), fet B a (n + 1) = B a + 256 * fet B (a + 1) n
  | 0 => by unfold fet fet; simp
  | n + 1 => by
    have ih := fet_cons (B := B) (a := a) n
    have e1 : fet B a (n + 1 + 1) = fet B a (n + 1) + B (a + (n + 1 : Nat)) * 256 ^ (n + 1) := rfl
    have e2 : fet B (a + 1) (n + 1) = fet B (a + 1) n + B (a + 1 + n) * 256 ^ n := rfl
    have e3 : a + ((n + 1 : Nat) : Int) = a + 1 + n := by omega
    rw [e1, e2, ih, e3, Int.pow_succ]
    have : 256 * (fet B (a + 1) n + B (a + 1 + n) * 256 ^ n) = 256 * fet B (a + 1) n + B (a + 1 + n) * (256 ^ n * 256) := by
      rw [Int.mul_add, Int.mul_comm (256 ^ n) 256, ← Int.mul_assoc, ← Int.mul_assoc, Int.mul_comm 256 (B _)]
    omega
theorem p256 (n : Nat) : (256 : Int) ^ n = 2 ^ (8 * n) := by
  rw [show (256 : Int) = 2 ^ 8 from rfl, ← Int.pow_mul]
theorem s_X43_fetched {a : Int} (n : Nat) (hB : ∀ k, 0 ≤ k → k < 131072 → 0 ≤ jf t 1000 (U + 3) k ∧ jf t 1000 (U + 3) k < 256) (h0 : 0 ≤ a) (h1 : a + n ≤ 131072) (hn : n ≤ 4) : m_X43_fetched t U a (n : Int) = some (W32 (fet (jf t 1000 (U + 3)) a n)) := by
  simp only [em_X43_fetched, dm_X43_fetched]
  rw [eu_X43_fetched_5, du_X43_fetched_5]
  have hV : [U, a, (n : Int), 0, 0] = (fun k : Int => [U, a, (n : Int), W32 (fet (jf t 1000 (U + 3)) a k.toNat), k]) 0 := by
    show _ = [U, a, (n : Int), W32 (fet (jf t 1000 (U + 3)) a 0), 0]
    unfold fet; rw [W32_in (by decide) (by decide)]
  rw [hV]
  refine jforR (fun k : Int => [U, a, (n : Int), W32 (fet (jf t 1000 (U + 3)) a k.toNat), k]) 0 n (by omega) ?_ ?_
  · intro k k0 k1
    show b_X43_fetched_5 t U a n _ k = _
    unfold b_X43_fetched_5
    have hk : (k + 1).toNat = k.toNat + 1 := by omega
    have hk' : (k.toNat : Int) = k := by omega
    obtain ⟨q1, q2⟩ := hB (a + k) (by omega) (by omega)
    obtain ⟨q3, q4⟩ := fet_b (B := jf t 1000 (U + 3)) (a := a) k.toNat (fun j j0 j1 => hB j (by omega) (by omega))
    rw [if_pos k1, W32_in (z := a + k) (by omega) (by omega), jlt_in (by omega) (by omega), Option.bind_some, W32_in (z := k + 1) (by omega) (by omega), W32_in (z := 8 * k) (by omega) (by omega)]
    simp only [jlet]
    have e8 : (8 * k).toNat = 8 * k.toNat := by omega
    have hp : (2 : Int) ^ (8 * k.toNat) ≤ 2 ^ 24 := by
      rw [p2_nat, p2_nat]
      have := Nat.pow_le_pow_right (n := 2) (show 0 < 2 by decide) (show 8 * k.toNat ≤ 24 by omega)
      omega
    rw [p256] at q4
    have w1 : W32 (fet (jf t 1000 (U + 3)) a k.toNat) = fet (jf t 1000 (U + 3)) a k.toNat := W32_in (by omega) (by
      have : (2 : Int) ^ 24 = 16777216 := rfl
      omega)
    rw [i_shl_p (by omega) (by omega), e8, w1]
    have w2 : W32 (jf t 1000 (U + 3) (a + k) * 2 ^ (8 * k.toNat)) % 2 ^ (8 * k.toNat) = 0 := by
      rw [W32_mod_p _ _ (by omega), Int.mul_emod_left]
    rw [I_or_lo (8 * k.toNat) (by omega) q3 q4 w2, hk]
    show some (Sum.inl [U, a, (n : Int), _, k + 1]) = some (Sum.inl [U, a, (n : Int), W32 (fet (jf t 1000 (U + 3)) a (k.toNat + 1)), k + 1])
    have e : W32 (fet (jf t 1000 (U + 3)) a k.toNat + W32 (jf t 1000 (U + 3) (a + k) * 2 ^ (8 * k.toNat))) = W32 (fet (jf t 1000 (U + 3)) a (k.toNat + 1)) := by
      apply W32_cong
      have := W32_mod (jf t 1000 (U + 3) (a + k) * 2 ^ (8 * k.toNat))
      have e2 : fet (jf t 1000 (U + 3)) a (k.toNat + 1) = fet (jf t 1000 (U + 3)) a k.toNat + jf t 1000 (U + 3) (a + k) * 2 ^ (8 * k.toNat) := by
        show fet _ _ _ + jf t 1000 (U + 3) (a + (k.toNat : Int)) * 256 ^ k.toNat = _
        rw [hk', p256]
      rw [e2]
      omega
    rw [e]
  · show b_X43_fetched_5 t U a n _ n = _
    unfold b_X43_fetched_5
    rw [if_neg (by omega), Int.toNat_natCast]
theorem s_X29_load {a : Int} {g : Int → Int} (n : Nat) (hM : MrMem (jf s 1001 (M + 1)) g) (h0 : 0 ≤ a) (h1 : a + n ≤ 131072) (hn : n ≤ 4) (hn' : 1 ≤ n) : m_X29_load s M a (n : Int) = some (W32 (fet g a n)) := by
  simp only [em_X29_load, dm_X29_load, jlet]
  rw [eu_X29_load_7, du_X29_load_7, W32_in (z := (n : Int) - 1) (by omega) (by omega)]
  have hV : [M, a, 0, (n : Int) - 1] = (fun k : Int => [M, a, W32 (fet g (a + n - k) k.toNat), n - 1 - k]) 0 := by
    show _ = [M, a, W32 (fet g (a + n - 0) 0), (n : Int) - 1 - 0]
    unfold fet; rw [W32_in (by decide) (by decide), Int.sub_zero]
  rw [hV]
  refine jforR (fun k : Int => [M, a, W32 (fet g (a + n - k) k.toNat), n - 1 - k]) 0 n (by omega) ?_ ?_
  · intro k k0 k1
    show b_X29_load_7 s M a _ (n - 1 - k) = _
    unfold b_X29_load_7
    have hk : (k + 1).toNat = k.toNat + 1 := by omega
    have e1 : a + (n - 1 - k) = a + n - (k + 1) := by omega
    obtain ⟨q1, q2, q3⟩ := hM (a + n - (k + 1)) (by omega) (by omega)
    rw [if_neg (by omega), W32_in (z := a + (n - 1 - k)) (by omega) (by omega), e1, jlt_in (by omega) (by omega), Option.bind_some, W32_in (z := n - 1 - k + -1) (by omega) (by omega), q3, sb_and q1 q2]
    simp only [jlet]
    have e2 : (n : Int) - 1 - k + -1 = n - 1 - (k + 1) := by omega
    rw [i_shl_p (by omega) (by omega)]
    have w2 : W32 (W32 (fet g (a + n - k) k.toNat) * 2 ^ (8 : Int).toNat) % 2 ^ 8 = 0 := by
      rw [W32_mod_p _ _ (by omega)]
      show _ * 2 ^ 8 % 2 ^ 8 = 0
      rw [Int.mul_emod_left]
    rw [I_or_hi 8 (by omega) w2 q1 q2, hk, e2]
    have e : W32 (W32 (W32 (fet g (a + n - k) k.toNat) * 2 ^ (8 : Int).toNat) + g (a + n - (k + 1))) = W32 (fet g (a + n - (k + 1)) (k.toNat + 1)) := by
      apply W32_cong
      rw [fet_cons, show a + (n : Int) - (k + 1) + 1 = a + n - k by omega]
      have q5 := W32_mod (W32 (fet g (a + n - k) k.toNat) * 2 ^ (8 : Int).toNat)
      have q6 := W32_mod (fet g (a + n - k) k.toNat)
      have q7 : (2 : Int) ^ (8 : Int).toNat = 256 := rfl
      rw [q7] at q5 ⊢
      omega
    rw [e]
  · show b_X29_load_7 s M a _ (n - 1 - n) = _
    unfold b_X29_load_7
    rw [if_pos (by omega), Int.toNat_natCast, show a + (n : Int) - n = a by omega]
theorem s_X29_half {a : Int} {g : Int → Int} (hM : MrMem (jf s 1001 (M + 1)) g) (h0 : 0 ≤ a) (h1 : a + 1 < 131072) : m_X29_half s M a = some (fet g a 2) := by
  rw [em_X29_half]; unfold dm_X29_half
  obtain ⟨q1, q2, q3⟩ := hM a h0 (by omega)
  obtain ⟨r1, r2, r3⟩ := hM (a + 1) (by omega) h1
  rw [jlt_in h0 (by omega), W32_in (z := a + 1) (by omega) (by omega), jlt_in (by omega) h1, Option.bind_some, Option.bind_some, q3, r3, sb_and q1 q2, sb_and r1 r2, i_shl_p (by omega) (by omega)]
  have e : (2 : Int) ^ (8 : Int).toNat = 256 := rfl
  rw [e, W32_in (z := g (a + 1) * 256) (by omega) (by omega), I_or_lo 8 (by omega) q1 q2 (by show g (a + 1) * 256 % 256 = 0; omega), W32_in (by omega) (by omega)]
  rw [fet_cons, fet_cons]
  unfold fet
  congr 1
  omega
theorem fet_4 (g : Int → Int) (a : Int) : fet g a 4 = fet g a 2 + 65536 * fet g (a + 2) 2 := by
  rw [fet_cons, fet_cons, fet_cons, fet_cons]
  rw [show fet g a 2 = g a + 256 * (g (a + 1) + 256 * fet g (a + 1 + 1) 0) by rw [fet_cons, fet_cons]]
  rw [show fet g (a + 2) 2 = g (a + 2) + 256 * (g (a + 2 + 1) + 256 * fet g (a + 2 + 1 + 1) 0) by rw [fet_cons, fet_cons]]
  rw [show a + 1 + 1 = a + 2 by omega]
  unfold fet
  omega
/-- rights as a function -/
def jRho (s : jS) (M : Int) (t : jS) (U : Int) (ρ : Int → Int) : Prop := ∀ x, m_X29_rightsOf s M x = some (ρ x) ∧ m_X43_rightsOf t U x = some (ρ x) ∧ 0 ≤ ρ x ∧ ρ x ≤ 7 ∧ (¬ ρ x = 0 → 0 ≤ x ∧ x < 131072)
theorem p_rho (h : MrSeg M (jf s 35) (jf t 1000 (U + 5)) (jf t 1000 (U + 6)) (jf t 1000 (U + 7))) : ∃ ρ, jRho s M t U ρ := by
  have : ∀ x : Int, ∃ y : Int, m_X29_rightsOf s M x = some y ∧ m_X43_rightsOf t U x = some y ∧ 0 ≤ y ∧ y ≤ 7 ∧ (¬ y = 0 → 0 ≤ x ∧ x < 131072) := by
    intro x
    obtain ⟨y, z, e1, e2, e3, h0, h1, h2⟩ := jE2_get (p_rightsOf (a := x) (b := x) h (by omega))
    subst e3
    exact ⟨y, e1, e2, h0, h1, h2⟩
  exact Classical.skolem.mp this
theorem I_and_0l (y : Int) : I_and 0 y = 0 := by rw [I_and_eq, i_and_bv]; simp
theorem s_without {ρ : Int → Int} (hρ : jRho s M t U ρ) {b n r : Int} (hb : 0 ≤ b ∧ b ≤ 4294967296) (hn : 0 ≤ n ∧ n ≤ 4) :
    (∃ k, 0 ≤ k ∧ k < n ∧ I_and (ρ (b + k)) r = 0 ∧ (∀ j, 0 ≤ j → j < k → ¬ I_and (ρ (b + j)) r = 0) ∧ m_X43_without t U b n r = some (b + k)) ∨ ((∀ j, 0 ≤ j → j < n → ¬ I_and (ρ (b + j)) r = 0) ∧ m_X43_without t U b n r = some (-1)) := by
  simp only [em_X43_without, dm_X43_without, eu_X43_without_24, du_X43_without_24]
  rw [eu_X43_without_3, du_X43_without_3]
  refine jseekR (fun k => [U, b, n, r, k]) (fun k => I_and (ρ (b + k)) r = 0) (fun k => some (b + k)) (some (-1)) 0 n hn.1 ?_ ?_ ?_
  · intro k k0 k1 hP
    show b_X43_without_3 t U b n r k = _
    unfold b_X43_without_3
    rw [if_pos k1, W64_in (by omega) (by omega), (hρ _).2.1, Option.bind_some, if_neg hP, W32_in (by omega) (by omega)]
  · intro k k0 k1 hP
    show b_X43_without_3 t U b n r k = _
    unfold b_X43_without_3
    simp only [eu_X43_without_24, du_X43_without_24]
    rw [if_pos k1, W64_in (by omega) (by omega), (hρ _).2.1, Option.bind_some, if_pos hP]
  · show b_X43_without_3 t U b n r n = _
    unfold b_X43_without_3
    rw [if_neg (by omega)]
theorem s_fetches {ρ : Int → Int} (hρ : jRho s M t U ρ) (a : Int) :
    (∃ k, 0 ≤ k ∧ k < 2 ∧ I_and (ρ (W32 (a + k))) 4 = 0 ∧ (∀ j, 0 ≤ j → j < k → ¬ I_and (ρ (W32 (a + j))) 4 = 0) ∧ m_X29_fetches s M a = (m_X29_fails s M 1 (W32 (a + k))).bind fun q => some (q.1, Wz 0)) ∨ ((∀ j, 0 ≤ j → j < 2 → ¬ I_and (ρ (W32 (a + j))) 4 = 0) ∧ m_X29_fetches s M a = some (s, Wz 1)) := by
  simp only [em_X29_fetches, dm_X29_fetches, eu_X29_fetches_22, du_X29_fetches_22]
  rw [eu_X29_fetches_2, du_X29_fetches_2]
  refine jseekW (fun k => [M, a, k]) (fun k => I_and (ρ (W32 (a + k))) 4 = 0) (fun k => (m_X29_fails s M 1 (W32 (a + k))).bind fun q => some (q.1, Wz 0)) (some (s, Wz 1)) 0 2 (by omega) ?_ ?_ ?_
  · intro k k0 k1 hP
    show b_X29_fetches_2 s M a k = _
    unfold b_X29_fetches_2
    rw [if_pos k1, (hρ _).1, Option.bind_some, if_neg hP, W32_in (by omega) (by omega)]
  · intro k k0 k1 hP
    show b_X29_fetches_2 s M a k = _
    unfold b_X29_fetches_2
    simp only [eu_X29_fetches_22, du_X29_fetches_22]
    rw [if_pos k1, (hρ _).1, Option.bind_some, if_pos hP]
  · show b_X29_fetches_2 s M a 2 = _
    unfold b_X29_fetches_2
    rw [if_neg (by omega)]
/-- a number without sign, and one with -/
theorem rho_same {ρ : Int → Int} (hρ : jRho s M t U ρ) {a k : Int} (ha : 0 ≤ a ∧ a ≤ 2147483647) (hk : 0 ≤ k ∧ k ≤ 4) : ρ (W32 (a + k)) = ρ (a + k) := by
  by_cases c : a + k ≤ 2147483647
  · rw [W32_in (by omega) c]
  · have e : W32 (a + k) = a + k - 4294967296 := by
      have h1 := W32_mod (a + k)
      have h2 := W32_lo (a + k)
      omega
    have q1 := (hρ (W32 (a + k))).2.2.2.2
    have q2 := (hρ (a + k)).2.2.2.2
    by_cases z1 : ρ (W32 (a + k)) = 0
    · by_cases z2 : ρ (a + k) = 0
      · rw [z1, z2]
      · have := q2 z2; omega
    · have := q1 z1; omega
theorem rho_neg {ρ : Int → Int} (hρ : jRho s M t U ρ) {a : Int} (ha : ¬ (0 ≤ a ∧ a < 131072)) : ρ a = 0 := by
  apply Classical.byContradiction
  intro q
  exact ha ((hρ a).2.2.2.2 q)
/-- two bytes that may be executed -/
theorem p_fetch2 {ρ : Int → Int} (hρ : jRho s M t U ρ) {a b : Int} (ha : -2147483648 ≤ a ∧ a ≤ 2147483647) (hb : b = a % 4294967296) :
    (∃ x, m_X29_fetches s M a = (m_X29_fails s M 1 (L2i x)).bind (fun q => some (q.1, Wz 0)) ∧ m_X43_without t U b 2 4 = some x ∧ 0 ≤ x) ∨ (0 ≤ a ∧ a + 1 < 131072 ∧ m_X29_fetches s M a = some (s, Wz 1) ∧ m_X43_without t U b 2 4 = some (-1)) := by
  have h1 := s_fetches hρ a
  have h2 := s_without hρ (b := b) (n := 2) (r := 4) (by omega) (by omega)
  by_cases c : a < 0
  · have z1 : I_and (ρ (W32 (a + 0))) 4 = 0 := by
      rw [Int.add_zero, W32_in (by omega) (by omega), rho_neg hρ (by omega), I_and_0l]
    have z2 : I_and (ρ (b + 0)) 4 = 0 := by
      rw [Int.add_zero, rho_neg hρ (by omega), I_and_0l]
    rcases h1 with ⟨k, k0, k1, k2, k3, k4⟩ | ⟨k3, k4⟩
    · have hk : k = 0 := by
        apply Classical.byContradiction
        intro q
        exact k3 0 (by omega) (by omega) z1
      subst hk
      rcases h2 with ⟨j, j0, j1, j2, j3, j4⟩ | ⟨j3, j4⟩
      · have hj : j = 0 := by
          apply Classical.byContradiction
          intro q
          exact j3 0 (by omega) (by omega) z2
        subst hj
        refine .inl ⟨b + 0, ?_, j4, by omega⟩
        rw [k4, l2i_p, W32_cong (x := a + 0) (y := b + 0) (by omega)]
      · exact absurd z2 (j3 0 (by omega) (by omega))
    · exact absurd z1 (k3 0 (by omega) (by omega))
  · have hab : b = a := by omega
    subst hab
    rcases h1 with ⟨k, k0, k1, k2, k3, k4⟩ | ⟨k3, k4⟩
    · rw [rho_same hρ (by omega) (by omega)] at k2
      rcases h2 with ⟨j, j0, j1, j2, j3, j4⟩ | ⟨j3, j4⟩
      · have hjk : j = k := by
          rcases Int.lt_trichotomy j k with q | q | q
          · exact absurd j2 (by have := k3 j j0 q; rw [rho_same hρ (by omega) (by omega)] at this; exact this)
          · exact q
          · exact absurd k2 (j3 k k0 q)
        subst hjk
        refine .inl ⟨b + j, ?_, j4, by omega⟩
        rw [k4, l2i_p]
      · exact absurd k2 (j3 k k0 k1)
    · rcases h2 with ⟨j, j0, j1, j2, j3, j4⟩ | ⟨j3, j4⟩
      · exact absurd j2 (by have := k3 j j0 j1; rw [rho_same hρ (by omega) (by omega)] at this; exact this)
      · refine .inr ⟨by omega, ?_, k4, j4⟩
        have q := j3 1 (by omega) (by omega)
        apply Classical.byContradiction
        intro z
        exact q (by rw [rho_neg hρ (by omega), I_and_0l])
end jMfetch
