/-! loads and stores that may be -/
section jMreach
variable {s t : jS} {M U : Int}
theorem I_and_0r (x : Int) : I_and x 0 = 0 := by
  have := I_and_m x 0 (by omega)
  rw [show (2 : Int) ^ 0 - 1 = 0 from rfl] at this
  rw [this]; exact Int.emod_one x
theorem s_may {ρ : Int → Int} (hρ : jRho s M t U ρ) {a n r : Int} (hn : n = 1 ∨ n = 2 ∨ n = 4) :
    ((a % n = 0 ∧ ∀ j, 0 ≤ j → j < n → ¬ I_and (ρ (W32 (a + j))) r = 0) → m_X29_may s M a n r = some (s, Wz 1)) ∧
    (¬ (a % n = 0 ∧ ∀ j, 0 ≤ j → j < n → ¬ I_and (ρ (W32 (a + j))) r = 0) → m_X29_may s M a n r = (m_X29_fails s M (if r = 1 then 3 else 4) a).bind fun q => some (q.1, Wz 0)) := by
  have hF : u_X29_may_55 s M a r 0 = (m_X29_fails s M (if r = 1 then 3 else 4) a).bind fun q => some (q.1, Wz 0) := by
    simp only [eu_X29_may_55, du_X29_may_55, eu_X29_may_71, du_X29_may_71, if_true]
    by_cases c : r = 1
    · rw [if_pos c, if_pos c]
    · rw [if_neg c, if_neg c]
  have h0 : ∀ k, 0 ≤ k → jlpW (jc6 b_X29_may_18) [M, a, n, r, 0, k] s = (m_X29_fails s M (if r = 1 then 3 else 4) a).bind fun q => some (q.1, Wz 0) := by
    intro k k0
    apply jlpW_r
    show b_X29_may_18 s M a n r 0 k = _
    unfold b_X29_may_18
    rw [hF, if_pos rfl]
    by_cases c : k < n
    · rw [if_pos c]
    · rw [if_neg c]
  have h1 : ∀ (m : Nat) (k : Int), 0 ≤ k → k ≤ n → n - k = m → ((∀ j, k ≤ j → j < n → ¬ I_and (ρ (W32 (a + j))) r = 0) → jlpW (jc6 b_X29_may_18) [M, a, n, r, 1, k] s = some (s, Wz 1)) ∧ (¬ (∀ j, k ≤ j → j < n → ¬ I_and (ρ (W32 (a + j))) r = 0) → jlpW (jc6 b_X29_may_18) [M, a, n, r, 1, k] s = (m_X29_fails s M (if r = 1 then 3 else 4) a).bind fun q => some (q.1, Wz 0)) := by
    intro m
    induction m with
    | zero =>
      intro k k0 k1 hm
      refine ⟨fun _ => ?_, fun q => absurd (fun j j0 j1 => by omega) q⟩
      apply jlpW_r
      show b_X29_may_18 s M a n r 1 k = _
      unfold b_X29_may_18
      rw [if_neg (by omega)]
      simp only [eu_X29_may_55, du_X29_may_55]
      rw [if_neg (by omega)]
    | succ m ih =>
      intro k k0 k1 hm
      obtain ⟨i1, i2⟩ := ih (k + 1) (by omega) (by omega) (by omega)
      by_cases c : I_and (ρ (W32 (a + k))) r = 0
      · refine ⟨fun q => absurd c (q k (by omega) (by omega)), fun _ => ?_⟩
        rw [← h0 (k + 1) (by omega)]
        apply jlpW_l
        show b_X29_may_18 s M a n r 1 k = _
        unfold b_X29_may_18
        simp only [eu_X29_may_47, du_X29_may_47]
        rw [if_pos (by omega), if_neg (by omega), (hρ _).1, Option.bind_some, if_pos c, W32_in (by omega) (by omega)]
      · have st : jlpW (jc6 b_X29_may_18) [M, a, n, r, 1, k] s = jlpW (jc6 b_X29_may_18) [M, a, n, r, 1, k + 1] s := by
          apply jlpW_l
          show b_X29_may_18 s M a n r 1 k = _
          unfold b_X29_may_18
          simp only [eu_X29_may_47, du_X29_may_47]
          rw [if_pos (by omega), if_neg (by omega), (hρ _).1, Option.bind_some, if_neg c, W32_in (by omega) (by omega)]
        rw [st]
        refine ⟨fun q => i1 fun j j0 j1 => q j (by omega) j1, fun q => i2 fun z => q fun j j0 j1 => ?_⟩
        by_cases e : j = k
        · subst e; exact c
        · exact z j (by omega) j1
  have hA : m_X29_may s M a n r = if a % n = 0 then jlpW (jc6 b_X29_may_18) [M, a, n, r, 1, 0] s else jlpW (jc6 b_X29_may_18) [M, a, n, r, 0, 0] s := by
    rw [em_X29_may]; unfold dm_X29_may
    simp only [eu_X29_may_13, du_X29_may_13, eu_X29_may_18, du_X29_may_18]
    rcases hn with rfl | rfl | rfl
    · rw [W32_in (by omega) (by omega), show (1 : Int) - 1 = 0 from rfl, I_and_0r, if_pos rfl, if_pos (Int.emod_one a)]
    · rw [W32_in (by omega) (by omega), show (2 : Int) - 1 = 1 from rfl, I_and_1]
    · rw [W32_in (by omega) (by omega), show (4 : Int) - 1 = 3 from rfl, I_and_3]
  obtain ⟨i1, i2⟩ := h1 n.toNat 0 (by omega) (by omega) (by omega)
  rw [hA]
  by_cases c : a % n = 0
  · rw [if_pos c]
    exact ⟨fun q => i1 q.2, fun q => i2 fun z => q ⟨c, z⟩⟩
  · rw [if_neg c]
    exact ⟨fun q => absurd q.1 c, fun _ => h0 0 (by omega)⟩
theorem p_may {ρ : Int → Int} (hρ : jRho s M t U ρ) {a n r : Int} (hn : n = 1 ∨ n = 2 ∨ n = 4) (ha : -2147483648 ≤ a ∧ a ≤ 2147483647) :
    (m_X29_may s M a n r = some (s, Wz 1) ∧ a % n = 0 ∧ m_X43_without t U (a % 4294967296) n r = some (-1) ∧ 0 ≤ a ∧ a + n ≤ 131072) ∨
    (m_X29_may s M a n r = ((m_X29_fails s M (if r = 1 then 3 else 4) a).bind fun q => some (q.1, Wz 0)) ∧ (¬ a % n = 0 ∨ ∃ x, 0 ≤ x ∧ m_X43_without t U (a % 4294967296) n r = some x)) := by
  obtain ⟨m1, m2⟩ := s_may hρ (a := a) (r := r) hn
  have h2 := s_without hρ (b := a % 4294967296) (n := n) (r := r) (by omega) (by omega)
  by_cases c : a % n = 0
  · by_cases c0 : a < 0
    · refine .inr ⟨m2 fun q => q.2 0 (by omega) (by omega) ?_, .inr ?_⟩
      · rw [Int.add_zero, W32_in (by omega) (by omega), rho_neg hρ (by omega), I_and_0l]
      · rcases h2 with ⟨k, k0, k1, k2, k3, k4⟩ | ⟨k3, k4⟩
        · exact ⟨_, by omega, k4⟩
        · exact absurd (by rw [Int.add_zero, rho_neg hρ (by omega), I_and_0l]) (k3 0 (by omega) (by omega))
    · have e : a % 4294967296 = a := by omega
      rw [e] at h2 ⊢
      rcases h2 with ⟨k, k0, k1, k2, k3, k4⟩ | ⟨k3, k4⟩
      · refine .inr ⟨m2 fun q => q.2 k k0 k1 ?_, .inr ⟨_, by omega, k4⟩⟩
        rw [rho_same hρ (by omega) (by omega)]; exact k2
      · refine .inl ⟨m1 ⟨c, fun j j0 j1 => ?_⟩, c, k4, by omega, ?_⟩
        · rw [rho_same hρ (by omega) (by omega)]; exact k3 j j0 j1
        · have q := k3 (n - 1) (by omega) (by omega)
          apply Classical.byContradiction
          intro z
          exact q (by rw [rho_neg hρ (by omega), I_and_0l])
  · exact .inr ⟨m2 fun q => c q.1, .inl c⟩
def wid (k : Int) : Int := if k = 10 then 1 else if k = 13 then 1 else if k = 15 then 1 else if k = 11 then 2 else if k = 14 then 2 else if k = 16 then 2 else 4
theorem wid_n (k : Int) : wid k = 1 ∨ wid k = 2 ∨ wid k = 4 := by unfold wid; repeat' split; all_goals omega
/-- both look whether it may be -/
def MA (s : jS) (M : Int) (t : jS) (U : Int) (p : jP5) (r q : jS × Int) : Prop := MF s M t U r q ∨ r = (s, 1) ∧ q = (t, 1) ∧ (10 ≤ p.1 ∧ p.1 < 18 → 0 ≤ W32 (jf t 1000 (U + 9) p.2.2.1 + p.2.2.2.2) ∧ W32 (jf t 1000 (U + 9) p.2.2.1 + p.2.2.2.2) + wid p.1 ≤ 131072)
theorem p_allowed {p : jP5} (hK : MrK s M) (hW : MW s M t U p) (hReg : MrReg (jf s 1000 (M + 4)) (jf t 1000 (U + 9))) (hSeg : MrSeg M (jf s 35) (jf t 1000 (U + 5)) (jf t 1000 (U + 6)) (jf t 1000 (U + 7))) :
    jE2 (m_X29_isAllowed s M (M + 9)) (m_X43_canReach t U) (MA s M t U p) := by
  obtain ⟨hok, hne, w0, w1, w2, w3, w4, w5, w5', v26, v0, v1, v2, v3⟩ := hW
  obtain ⟨o1, o2, o3, o4, o5, o6, o7⟩ := hok
  obtain ⟨ρ, hρ⟩ := p_rho hSeg
  have hj : ∀ k, jrd s 34 (M + 9) k = some (jf s 34 (M + 9) k) := fun k => jrd_in (by have := hK.1; omega) hK.2.2.1
  rw [em_X29_isAllowed, em_X43_canReach]; unfold dm_X29_isAllowed dm_X43_canReach
  simp only [hj, w0, w2, w4, Option.bind_some, jlet, v26]
  rw [jlt_in (by omega) (by omega), Option.bind_some, (hReg.1 p.2.2.1 (by omega) (by omega)).1]
  simp only [em_X43_canReach, dm_X43_canReach, eu_X43_canReach_115, du_X43_canReach_115, eu_X43_canReach_105, du_X43_canReach_105, eu_X43_canReach_95, du_X43_canReach_95, eu_X43_canReach_40, du_X43_canReach_40, eu_X43_canReach_23, du_X43_canReach_23, eu_X43_canReach_22, du_X43_canReach_22, em_X29_isAllowed, dm_X29_isAllowed, eu_X29_isAllowed_66, du_X29_isAllowed_66, eu_X29_isAllowed_61, du_X29_isAllowed_61, eu_X29_isAllowed_46, du_X29_isAllowed_46, e_X43_isStore, e_X43_widthOf, e_X43_bare, v26, v1, v3, jlt_in (show 0 ≤ (1 : Int) by omega) (show (1 : Int) < 4 by omega), jlt_in (show 0 ≤ (3 : Int) by omega) (show (3 : Int) < 4 by omega), jlt_in (show 0 ≤ p.2.2.1 by omega) (show p.2.2.1 < 32 by omega), L_and_4294967295, L_cmp_0, L_cmp_lt, Wz_0, Wz_1, Option.bind_some]
  generalize hA : W32 (jf t 1000 (U + 9) p.2.2.1 + p.2.2.2.2) = A
  have hAr : -2147483648 ≤ A ∧ A ≤ 2147483647 := by rw [← hA]; exact W32_lo _
  have hl : L2i (A % 4294967296) = A := by
    rw [l2i_p]
    have q1 := W32_mod (A % 4294967296)
    have q2 := W32_lo (A % 4294967296)
    omega
  have hwd : (if p.1 = 10 then (1 : Int) else if p.1 = 13 then 1 else if p.1 = 15 then 1 else if p.1 = 11 then 2 else if p.1 = 14 then 2 else if p.1 = 16 then 2 else 4) = wid p.1 := rfl
  rw [hwd]
  have hwn := wid_n p.1
  have hmod : L_rem (A % 4294967296) (wid p.1) = A % wid p.1 := by
    rw [L_rem_n (by omega) (by omega) (by omega) (by omega)]
    rcases hwn with e | e | e <;> rw [e] <;> omega
  rw [jdv_in (show ¬ wid p.1 = 0 by omega), Option.bind_some, hmod, hl]
  have key : ∀ r : Int, jE2 ((m_X29_may s M A (wid p.1) r).bind fun q1 => some (q1.1, Wz q1.2)) (if A % wid p.1 = 0 then (m_X43_without t U (A % 4294967296) (wid p.1) r).bind fun v1 => if v1 < 0 then some (t, 1) else (m_X43_fail t U (if r = 1 then 3 else 4) A).bind fun q1 => some (q1.1, 0) else (m_X43_fail t U (if r = 1 then 3 else 4) A).bind fun q1 => some (q1.1, 0)) (fun r q => MF s M t U r q ∨ r = (s, 1) ∧ q = (t, 1) ∧ 0 ≤ A ∧ A + wid p.1 ≤ 131072) := by
    intro r
    have hx : 1 ≤ (if r = 1 then (3 : Int) else 4) ∧ (if r = 1 then (3 : Int) else 4) ≤ 4 := by split <;> omega
    rcases p_may hρ (r := r) hwn hAr with ⟨h1, h2, h3, h4, h5⟩ | ⟨h1, h2⟩
    · rw [h1, if_pos h2, h3, Option.bind_some, Option.bind_some, if_pos (by omega), Wz_1, Wz_1]
      exact jE2_some.mpr (.inr ⟨rfl, rfl, h4, h5⟩)
    · rw [h1, s_fails, s_fail]
      simp only [Option.bind_some, Wz_0]
      rcases h2 with h2 | ⟨x, x0, hx'⟩
      · rw [if_neg h2]
        exact jE2_some.mpr (.inl ⟨rfl, rfl, s, t, _, A, Cw.rfl, Tw.rfl, hx, rfl, rfl⟩)
      · rw [hx', Option.bind_some, if_neg (show ¬ x < 0 by omega), ite_self]
        exact jE2_some.mpr (.inl ⟨rfl, rfl, s, t, _, A, Cw.rfl, Tw.rfl, hx, rfl, rfl⟩)
  have k1 := key 1
  have k2 := key 2
  simp only [if_true] at k1
  simp only [show ((2 : Int) = 1) = False by simp, if_false] at k2
  have n1 : p.1 < 10 → jE2 (some (s, (1 : Int))) (some (t, (1 : Int))) (MA s M t U p) := fun q => jE2_some.mpr (.inr ⟨rfl, rfl, fun z => by omega⟩)
  by_cases a1 : p.1 < 10
  · have a2 : p.1 < 15 := by omega
    have a3 : ¬ 9 < p.1 := by omega
    have a4 : ¬ (14 < p.1 ∧ p.1 < 18) := by omega
    simp only [a1, a2, a3, a4, eq_self, and_false, false_and, and_true, true_and, if_true, if_false, reduceIte, Int.reduceEq, Int.reduceLT, Int.reduceLE, Int.reduceNeg, not_false_eq_true, Option.bind_some, jls]
    exact n1 a1
  by_cases a2 : p.1 < 15
  · have a3 : 9 < p.1 := by omega
    simp only [a1, a2, a3, eq_self, and_false, false_and, and_true, true_and, if_true, if_false, reduceIte, Int.reduceEq, Int.reduceLT, Int.reduceLE, Int.reduceNeg, not_false_eq_true, Option.bind_some, jls, show ¬ ((1 : Int) = 0) by omega]
    have fin : jE2 ((m_X29_may s M A (wid p.1) 1).bind fun q1 => some (q1.1, Wz q1.2)) (if A % wid p.1 = 0 then (m_X43_without t U (A % 4294967296) (wid p.1) 1).bind fun v1 => if v1 < 0 then some (t, 1) else (m_X43_fail t U 3 A).bind fun q1 => some (q1.1, 0) else (m_X43_fail t U 3 A).bind fun q1 => some (q1.1, 0)) (MA s M t U p) := by
      refine jE2_mono k1 fun r q h => ?_
      rcases h with h | ⟨h1, h2, h3⟩
      · exact .inl h
      · refine .inr ⟨h1, h2, fun _ => ?_⟩
        rw [hA]; exact h3
    have hc : p.1 = 10 ∨ p.1 = 11 ∨ p.1 = 12 ∨ p.1 = 13 ∨ p.1 = 14 := by omega
    rcases hc with e | e | e | e | e <;> rw [e] at fin ⊢ <;> exact fin
  by_cases a3 : p.1 < 18
  · have a4 : 9 < p.1 := by omega
    have a5 : 14 < p.1 ∧ p.1 < 18 := by omega
    have a6 : ¬ 17 < p.1 := by omega
    have fin : jE2 ((m_X29_may s M A (wid p.1) 2).bind fun q1 => if q1.2 = 0 then some (q1.1, 0) else some (q1.1, 1)) (if A % wid p.1 = 0 then (m_X43_without t U (A % 4294967296) (wid p.1) 2).bind fun v1 => if v1 < 0 then some (t, 1) else (m_X43_fail t U 4 A).bind fun q1 => some (q1.1, 0) else (m_X43_fail t U 4 A).bind fun q1 => some (q1.1, 0)) (MA s M t U p) := by
      have e : ((m_X29_may s M A (wid p.1) 2).bind fun q1 => if q1.2 = 0 then some (q1.1, 0) else some (q1.1, 1)) = ((m_X29_may s M A (wid p.1) 2).bind fun q1 => some (q1.1, Wz q1.2)) := by
        rcases p_may hρ (r := 2) hwn hAr with ⟨h1, _⟩ | ⟨h1, _⟩
        · rw [h1, Wz_1]; simp only [Option.bind_some, Wz_1]; rw [if_neg (by omega)]
        · rw [h1, s_fails]; simp only [Option.bind_some, Wz_0]; rw [if_pos trivial]
      rw [e]
      refine jE2_mono k2 fun r q h => ?_
      rcases h with h | ⟨h1, h2, h3⟩
      · exact .inl h
      · refine .inr ⟨h1, h2, fun _ => ?_⟩
        rw [hA]; exact h3
    have hs : I_shl 1 (W32 (p.1 - 15)) = wid p.1 := by
      have hc : p.1 = 15 ∨ p.1 = 16 ∨ p.1 = 17 := by omega
      rcases hc with e | e | e <;> rw [e, W32_in (by omega) (by omega), i_shl_p (by omega) (by omega)] <;> exact W32_in (by decide) (by decide)
    have a7 : ¬ p.1 < 15 := a2
    rw [hs]
    simp only [a1, a2, a3, a4, a5, a6, eq_self, and_false, false_and, and_true, true_and, if_true, if_false, reduceIte, Int.reduceEq, Int.reduceLT, Int.reduceLE, Int.reduceNeg, not_false_eq_true, Option.bind_some, jls, and_self, show ¬ ((1 : Int) = 0) by omega]
    exact fin
  · have a4 : 9 < p.1 := by omega
    have a5 : ¬ (14 < p.1 ∧ p.1 < 18) := by omega
    have a6 : 17 < p.1 := by omega
    simp only [a1, a2, a3, a4, a5, a6, eq_self, and_false, false_and, and_true, true_and, if_true, if_false, reduceIte, Int.reduceEq, Int.reduceLT, Int.reduceLE, Int.reduceNeg, not_false_eq_true, Option.bind_some, jls]
    exact jE2_some.mpr (.inr ⟨rfl, rfl, fun z => by omega⟩)
end jMreach
