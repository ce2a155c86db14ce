/-! steps back -/
section jMback
variable {s t : jS} {M U : Int}
theorem byte_back {B V k : Int} (hB : 0 ≤ B ∧ B ≤ 4294967295) (hV : -2147483648 ≤ V ∧ V ≤ 2147483647) (h0 : 0 ≤ k) (h1 : k < 4) (h : B / 256 ^ k.toNat % 256 = V / 256 ^ k.toNat % 256) : W8 (W8 (L2i (L_shr B (8 * k)))) = sb (I_and (I_shr V (8 * k)) 255) ∧ 0 ≤ I_and (I_shr V (8 * k)) 255 ∧ I_and (I_shr V (8 * k)) 255 < 256 := by
  have e8 : (8 * k).toNat = 8 * k.toNat := by omega
  rw [W8_W8, L2i_mod8, I_and_255, l_shr_p (by omega) (by omega) (by omega), i_shr_p hV (by omega) (by omega), e8, ← p256, h]
  exact ⟨rfl, Int.emod_nonneg _ (by decide), Int.emod_lt_of_pos _ (by decide)⟩
theorem p_back80 {n d N r m : Int} (hMem : MrMem (jf s 1001 (M + 1)) (jf t 1000 (U + 3))) (hr : 0 ≤ r ∧ r ≤ 1287) (hm : 0 ≤ m ∧ m ≤ 4) (f11 : jf s 36 N 11 = m)
    (hrec : (jf t 1000 (U + 12) (r + 10) = -1 ∧ m = 0) ∨ (0 ≤ jf t 1000 (U + 12) (r + 10) ∧ jf t 1000 (U + 12) (r + 11) = m ∧ jf t 1000 (U + 12) (r + 10) + m ≤ 131072 ∧ jf s 36 N 10 = jf t 1000 (U + 12) (r + 10) ∧ -2147483648 ≤ jf t 1000 (U + 12) (r + 12) ∧ jf t 1000 (U + 12) (r + 12) ≤ 2147483647 ∧ 0 ≤ jf s 36 N 12 ∧ jf s 36 N 12 ≤ 4294967295 ∧ ∀ i : Int, 0 ≤ i → i < m → jf s 36 N 12 / 256 ^ i.toNat % 256 = jf t 1000 (U + 12) (r + 12) / 256 ^ i.toNat % 256)) :
    ∃ s' t', u_X29_back_80 s M n d N 0 = u_X29_back_119 s' M n d N ∧ u_X43_back_153 t U n d r 0 = u_X43_back_222 t' U n d ∧ MrMem (jf s' 1001 (M + 1)) (jf t' 1000 (U + 3)) ∧ (∀ c x k, ¬ (c = 1001 ∧ x = M + 1) → jf s' c x k = jf s c x k) ∧ (∀ c x k, ¬ (c = 1000 ∧ x = U + 3) → jf t' c x k = jf t c x k) ∧ jSm s s' ∧ jSm t t' := by
  have w10 : W32 (r + 10) = r + 10 := W32_in (by omega) (by omega)
  have w11 : W32 (r + 11) = r + 11 := W32_in (by omega) (by omega)
  have w12 : W32 (r + 12) = r + 12 := W32_in (by omega) (by omega)
  have main : ∀ (j : Nat) (k : Int) (s1 t1 : jS), 0 ≤ k → m - k = j → MrMem (jf s1 1001 (M + 1)) (jf t1 1000 (U + 3)) → (∀ c x k, ¬ (c = 1001 ∧ x = M + 1) → jf s1 c x k = jf s c x k) → (∀ c x k, ¬ (c = 1000 ∧ x = U + 3) → jf t1 c x k = jf t c x k) → jSm s s1 → jSm t t1 →
      ∃ s' t', u_X29_back_80 s1 M n d N k = u_X29_back_119 s' M n d N ∧ u_X43_back_153 t1 U n d r k = u_X43_back_222 t' U n d ∧ MrMem (jf s' 1001 (M + 1)) (jf t' 1000 (U + 3)) ∧ (∀ c x k, ¬ (c = 1001 ∧ x = M + 1) → jf s' c x k = jf s c x k) ∧ (∀ c x k, ¬ (c = 1000 ∧ x = U + 3) → jf t' c x k = jf t c x k) ∧ jSm s s' ∧ jSm t t' := by
    intro j
    induction j with
    | zero =>
      intro k s1 t1 k0 hk g1 g2 g3 g4 g5
      refine ⟨s1, t1, ?_, ?_, g1, g2, g3, g4, g5⟩
      · rw [eu_X29_back_80, du_X29_back_80]
        apply jlpW_r
        show b_X29_back_80 s1 M n d N k = _
        unfold b_X29_back_80
        rw [g2 _ _ _ (by omega), f11, if_neg (by omega)]
      · rw [eu_X43_back_153, du_X43_back_153]
        apply jlpW_r
        show b_X43_back_153 t1 U n d r k = _
        unfold b_X43_back_153
        rw [w10, jlt_in (by omega) (by omega), Option.bind_some, g3 _ _ _ (by omega)]
        rcases hrec with ⟨q1, q2⟩ | ⟨q1, q2, q3⟩
        · rw [if_pos q1]
        · rw [if_neg (by omega), w11, jlt_in (by omega) (by omega), Option.bind_some, g3 _ _ _ (by omega), q2, if_neg (by omega)]
    | succ j ih =>
      intro k s1 t1 k0 hk g1 g2 g3 g4 g5
      rcases hrec with ⟨q1, q2⟩ | ⟨q1, q2, q3, q4, q5, q6, q7, q8, q9⟩
      · omega
      obtain ⟨b1, b2, b3⟩ := byte_back ⟨q7, q8⟩ ⟨q5, q6⟩ k0 (by omega) (q9 k k0 (by omega))
      have e1 : u_X29_back_80 s1 M n d N k = u_X29_back_80 (jp s1 1001 (M + 1) (jf t 1000 (U + 12) (r + 10) + k) (sb (I_and (I_shr (jf t 1000 (U + 12) (r + 12)) (8 * k)) 255))) M n d N (k + 1) := by
        rw [eu_X29_back_80, du_X29_back_80]
        apply jlpW_l
        show b_X29_back_80 s1 M n d N k = _
        unfold b_X29_back_80
        rw [g2 36 _ _ (by omega), g2 36 _ _ (by omega), g2 36 _ _ (by omega), f11, if_pos (by omega), q4, W32_in (z := jf t 1000 (U + 12) (r + 10) + k) (by omega) (by omega), W32_in (z := 8 * k) (by omega) (by omega), b1, jst_in (by omega) (by omega), Option.bind_some, W32_in (z := k + 1) (by omega) (by omega)]
      have e2 : u_X43_back_153 t1 U n d r k = u_X43_back_153 (jp t1 1000 (U + 3) (jf t 1000 (U + 12) (r + 10) + k) (I_and (I_shr (jf t 1000 (U + 12) (r + 12)) (8 * k)) 255)) U n d r (k + 1) := by
        rw [eu_X43_back_153, du_X43_back_153]
        apply jlpW_l
        show b_X43_back_153 t1 U n d r k = _
        unfold b_X43_back_153
        have x10 : jlt t1 1000 (U + 12) 1300 (r + 10) = some (jf t 1000 (U + 12) (r + 10)) := by rw [jlt_in (by omega) (by omega), g3 _ _ _ (by omega)]
        have x11 : jlt t1 1000 (U + 12) 1300 (r + 11) = some m := by rw [jlt_in (by omega) (by omega), g3 _ _ _ (by omega), q2]
        have x12 : jlt t1 1000 (U + 12) 1300 (r + 12) = some (jf t 1000 (U + 12) (r + 12)) := by rw [jlt_in (by omega) (by omega), g3 _ _ _ (by omega)]
        rw [w10, w11, w12, x10, x11, x12, Option.bind_some, if_neg (by omega), Option.bind_some, if_pos (by omega), Option.bind_some, Option.bind_some, W32_in (z := jf t 1000 (U + 12) (r + 10) + k) (by omega) (by omega), W32_in (z := 8 * k) (by omega) (by omega), jst_in (by omega) (by omega), Option.bind_some, W32_in (z := k + 1) (by omega) (by omega)]
      rw [e1, e2]
      refine ih (k + 1) _ _ (by omega) (by omega) ?_ ?_ ?_ g4.jp g5.jp
      · simp only [eq_self, or_true, true_or, or_false, false_or, jfc_jp, jupp_p, jup_a, Int.add_right_inj, Int.add_left_inj, Int.reduceEq, if_true, if_false, true_and, and_true, false_and, and_false, reduceIte]; exact g1.put b2 b3
      · intro c x y q; rw [jf_jp, if_neg (fun z => q ⟨z.1, z.2.1⟩)]; exact g2 c x y q
      · intro c x y q; rw [jf_jp, if_neg (fun z => q ⟨z.1, z.2.1⟩)]; exact g3 c x y q
  exact main m.toNat 0 s t (by omega) (by omega) hMem (fun _ _ _ _ => rfl) (fun _ _ _ _ => rfl) jSm.rfl jSm.rfl
/-- one step back -/
theorem p_back1 {n d : Int} (h : Mr s M t U) (hk : 0 < jf t 47 U 23) (hd : 0 ≤ d ∧ d < 2147483647) (hdn : d < n) : ∃ s' t', b_X29_back_2 s M n d = some (.inl (s', [M, n, d + 1])) ∧ b_X43_back_2 t U n d = some (.inl (t', [U, n, d + 1])) ∧ Mr s' M t' U ∧ jFm s s' M 119 ∧ jFm t t' U 13 := by
  have hh := h
  obtain ⟨hK, hP, hMem, hMark, hSeg, hReg, hIn, hOut, hHalt, hSc, hRing⟩ := hh
  have hM0 := hK.1
  have hR := hRing
  unfold MrRing at hR
  obtain ⟨a1, a2, a3, a4, a5, a6, a7, a8⟩ := hR
  have hrec := a8 1 (by omega) (by omega)
  unfold MrRec at hrec
  generalize hN : M + 18 + (jf s 33 M 20 - 1) % 101 = N at *
  have hNr : M + 18 ≤ N ∧ N ≤ M + 118 := by omega
  generalize hq : (jf t 47 U 24 - 1) % 100 = q at *
  have hq0 : 0 ≤ q ∧ q < 100 := by omega
  obtain ⟨r1, r2, r3, r4, r5, r6, r7, r8, r9, r10, r11, r12, r13, r14, r15⟩ := hrec
  have l1 : m_X43_latest t U = some (13 * q) := by rw [s_latest a6 a7, hq]
  have wn : ∀ k, 0 ≤ k → k ≤ 12 → W32 (13 * q + k) = 13 * q + k := fun k a b => W32_in (by omega) (by omega)
  -- the component up to its bytes
  have w21 : W32 (jf s 33 M 21 - 1) = jf t 47 U 23 - 1 := by rw [a3]; exact W32_in (by omega) (by omega)
  obtain ⟨s3, hs3, c3, m3⟩ : ∃ s3, b_X29_back_2 s M n d = u_X29_back_80 s3 M n d N 0 ∧ (∀ c a k, ¬ (c = 33 ∧ a = M ∧ (k = 20 ∨ k = 21)) → jf s3 c a k = if c = 1000 ∧ a = M + 4 ∧ k = jf t 1000 (U + 12) (13 * q + 8) ∧ ¬ jf t 1000 (U + 12) (13 * q + 8) = 0 then jf t 1000 (U + 12) (13 * q + 9) else jf s c a k) ∧ jSm s s3 ∧ jf s3 33 M 20 = (jf s 33 M 20 - 1) % 101 ∧ jf s3 33 M 21 = jf t 47 U 23 - 1 := by
    have e1 : b_X29_back_2 s M n d = u_X29_back_33 s M n d ((jf s 33 M 20 - 1) % 101) M := by
      unfold b_X29_back_2
      rw [if_pos hdn, if_pos (by omega)]
      by_cases c : jf s 33 M 20 = 0
      · rw [if_pos c, show (jf s 33 M 20 - 1) % 101 = 100 by omega]
      · rw [if_neg c, W32_in (by omega) (by omega), show (jf s 33 M 20 - 1) % 101 = jf s 33 M 20 - 1 by omega]
    rw [e1, eu_X29_back_33]; unfold du_X29_back_33
    simp only [jls, eu_X29_back_77, du_X29_back_77]
    have z21 : jf (jp s 33 M 20 ((jf s 33 M 20 - 1) % 101)) 33 M 21 = jf s 33 M 21 := by simp only [eq_self, or_true, true_or, or_false, false_or, jfc_jp, jupp_p, jup_a, Int.add_right_inj, Int.add_left_inj, Int.reduceEq, if_true, if_false, true_and, and_true, false_and, and_false, reduceIte]
    rw [z21, w21]
    generalize hS2 : jp (jp s 33 M 20 ((jf s 33 M 20 - 1) % 101)) 33 M 21 (jf t 47 U 23 - 1) = s2
    have s2f : ∀ c a k, ¬ (c = 33 ∧ a = M ∧ (k = 20 ∨ k = 21)) → jf s2 c a k = jf s c a k := fun c a k x => by rw [← hS2, jf_jp, if_neg (by omega), jf_jp, if_neg (by omega)]
    have s220 : jf s2 33 M 20 = (jf s 33 M 20 - 1) % 101 := by rw [← hS2]; simp only [eq_self, or_true, true_or, or_false, false_or, jfc_jp, jupp_p, jup_a, Int.add_right_inj, Int.add_left_inj, Int.reduceEq, if_true, if_false, true_and, and_true, false_and, and_false, reduceIte]
    have s221 : jf s2 33 M 21 = jf t 47 U 23 - 1 := by rw [← hS2]; simp only [eq_self, or_true, true_or, or_false, false_or, jfc_jp, jupp_p, jup_a, Int.add_right_inj, Int.add_left_inj, Int.reduceEq, if_true, if_false, true_and, and_true, false_and, and_false, reduceIte]
    have s2m : jSm s s2 := by rw [← hS2]; exact jSm.rfl
    rw [s220, jix_in (by omega) (by omega), Option.bind_some, show M + 8 + 10 + 1 * ((jf s 33 M 20 - 1) % 101) = N by omega]
    have s236 : ∀ k, jf s2 36 N k = jf s 36 N k := fun k => s2f _ _ _ (by omega)
    rw [s236, s236]
    rcases r14 with ⟨x1, x2⟩ | ⟨x1, x2, x3, x4, x5⟩
    · rw [if_pos x2]
      exact ⟨s2, rfl, fun c a k x => by rw [if_neg (by omega)]; exact s2f c a k x, s2m, s220, s221⟩
    · rw [if_neg (by omega), x3, x4, jst_in (by omega) (by omega), Option.bind_some]
      refine ⟨_, rfl, fun c a k x => ?_, s2m.jp, ?_, ?_⟩
      · rw [jf_jp]
        by_cases e : c = 1000 ∧ a = M + 4 ∧ k = jf t 1000 (U + 12) (13 * q + 8)
        · rw [if_pos e, if_pos ⟨e.1, e.2.1, e.2.2, by omega⟩]
        · rw [if_neg e, if_neg (fun z => e ⟨z.1, z.2.1, z.2.2.1⟩)]; exact s2f c a k x
      · rw [jf_jp, if_neg (by omega)]; exact s220
      · rw [jf_jp, if_neg (by omega)]; exact s221
  -- the twin up to its bytes
  obtain ⟨t3, ht3, d3, m4⟩ : ∃ t3, b_X43_back_2 t U n d = u_X43_back_153 t3 U n d (13 * q) 0 ∧ (∀ c a k, ¬ (c = 47 ∧ a = U ∧ (k = 11 ∨ k = 17 ∨ k = 18 ∨ k = 19 ∨ k = 20 ∨ k = 21 ∨ k = 16 ∨ k = 14)) → jf t3 c a k = if c = 1000 ∧ a = U + 9 ∧ k = jf t 1000 (U + 12) (13 * q + 8) ∧ ¬ jf t 1000 (U + 12) (13 * q + 8) = 0 then jf t 1000 (U + 12) (13 * q + 9) else jf t c a k) ∧ jSm t t3 ∧ jf t3 47 U 11 = jf t 1000 (U + 12) (13 * q) ∧ jf t3 47 U 17 = jf t 1000 (U + 12) (13 * q + 1) ∧ jf t3 47 U 18 = jf t 1000 (U + 12) (13 * q + 2) ∧ jf t3 47 U 19 = jf t 1000 (U + 12) (13 * q + 3) ∧ jf t3 47 U 20 = jf t 1000 (U + 12) (13 * q + 4) ∧ jf t3 47 U 21 = jf t 1000 (U + 12) (13 * q + 5) ∧ jf t3 47 U 16 = jf t 1000 (U + 12) (13 * q + 6) ∧ jf t3 47 U 14 = jf t 1000 (U + 12) (13 * q + 7) := by
    unfold b_X43_back_2
    rw [if_pos hdn, if_pos hk, l1, Option.bind_some]
    simp only [jls, eu_X43_back_150, du_X43_back_150]
    rw [wn 1 (by omega) (by omega), wn 2 (by omega) (by omega), wn 3 (by omega) (by omega), wn 4 (by omega) (by omega), wn 5 (by omega) (by omega), wn 6 (by omega) (by omega), wn 7 (by omega) (by omega), wn 8 (by omega) (by omega), wn 9 (by omega) (by omega)]
    have rd : ∀ (u : jS) (k : Int), jf u 1000 = jf t 1000 → 0 ≤ k → k ≤ 12 → jlt u 1000 (U + 12) 1300 (13 * q + k) = some (jf t 1000 (U + 12) (13 * q + k)) := fun u k hu k0 k1 => by rw [jlt_in (by omega) (by omega), hu]
    rw [jlt_in (by omega) (by omega), Option.bind_some]
    rw [rd _ 1 (by simp only [eq_self, or_true, true_or, or_false, false_or, jfc_jp, jupp_p, jup_a, Int.add_right_inj, Int.add_left_inj, Int.reduceEq, if_true, if_false, true_and, and_true, false_and, and_false, reduceIte]) (by omega) (by omega), Option.bind_some]
    rw [rd _ 2 (by simp only [eq_self, or_true, true_or, or_false, false_or, jfc_jp, jupp_p, jup_a, Int.add_right_inj, Int.add_left_inj, Int.reduceEq, if_true, if_false, true_and, and_true, false_and, and_false, reduceIte]) (by omega) (by omega), Option.bind_some]
    rw [rd _ 3 (by simp only [eq_self, or_true, true_or, or_false, false_or, jfc_jp, jupp_p, jup_a, Int.add_right_inj, Int.add_left_inj, Int.reduceEq, if_true, if_false, true_and, and_true, false_and, and_false, reduceIte]) (by omega) (by omega), Option.bind_some]
    rw [rd _ 4 (by simp only [eq_self, or_true, true_or, or_false, false_or, jfc_jp, jupp_p, jup_a, Int.add_right_inj, Int.add_left_inj, Int.reduceEq, if_true, if_false, true_and, and_true, false_and, and_false, reduceIte]) (by omega) (by omega), Option.bind_some]
    rw [rd _ 5 (by simp only [eq_self, or_true, true_or, or_false, false_or, jfc_jp, jupp_p, jup_a, Int.add_right_inj, Int.add_left_inj, Int.reduceEq, if_true, if_false, true_and, and_true, false_and, and_false, reduceIte]) (by omega) (by omega), Option.bind_some]
    rw [rd _ 6 (by simp only [eq_self, or_true, true_or, or_false, false_or, jfc_jp, jupp_p, jup_a, Int.add_right_inj, Int.add_left_inj, Int.reduceEq, if_true, if_false, true_and, and_true, false_and, and_false, reduceIte]) (by omega) (by omega), Option.bind_some]
    rw [rd _ 7 (by simp only [eq_self, or_true, true_or, or_false, false_or, jfc_jp, jupp_p, jup_a, Int.add_right_inj, Int.add_left_inj, Int.reduceEq, if_true, if_false, true_and, and_true, false_and, and_false, reduceIte]) (by omega) (by omega), Option.bind_some]
    generalize hT : jp (jp (jp (jp (jp (jp (jp (jp t 47 U 11 (jf t 1000 (U + 12) (13 * q))) 47 U 17 (jf t 1000 (U + 12) (13 * q + 1))) 47 U 18 (jf t 1000 (U + 12) (13 * q + 2))) 47 U 19 (jf t 1000 (U + 12) (13 * q + 3))) 47 U 20 (jf t 1000 (U + 12) (13 * q + 4))) 47 U 21 (jf t 1000 (U + 12) (13 * q + 5))) 47 U 16 (jf t 1000 (U + 12) (13 * q + 6))) 47 U 14 (jf t 1000 (U + 12) (13 * q + 7)) = t2
    have t2f : ∀ c a k, ¬ (c = 47 ∧ a = U ∧ (k = 11 ∨ k = 17 ∨ k = 18 ∨ k = 19 ∨ k = 20 ∨ k = 21 ∨ k = 16 ∨ k = 14)) → jf t2 c a k = jf t c a k := fun c a k x => by
      rw [← hT, jf_jp, if_neg (by omega), jf_jp, if_neg (by omega), jf_jp, if_neg (by omega), jf_jp, if_neg (by omega), jf_jp, if_neg (by omega), jf_jp, if_neg (by omega), jf_jp, if_neg (by omega), jf_jp, if_neg (by omega)]
    have t2m : jSm t t2 := by rw [← hT]; exact ⟨rfl, rfl, rfl, rfl, rfl, rfl, rfl⟩
    have v11 : jf t2 47 U 11 = jf t 1000 (U + 12) (13 * q) := by rw [← hT]; simp only [eq_self, or_true, true_or, or_false, false_or, jfc_jp, jupp_p, jup_a, Int.add_right_inj, Int.add_left_inj, Int.reduceEq, if_true, if_false, true_and, and_true, false_and, and_false, reduceIte]
    have v17 : jf t2 47 U 17 = jf t 1000 (U + 12) (13 * q + 1) := by rw [← hT]; simp only [eq_self, or_true, true_or, or_false, false_or, jfc_jp, jupp_p, jup_a, Int.add_right_inj, Int.add_left_inj, Int.reduceEq, if_true, if_false, true_and, and_true, false_and, and_false, reduceIte]
    have v18 : jf t2 47 U 18 = jf t 1000 (U + 12) (13 * q + 2) := by rw [← hT]; simp only [eq_self, or_true, true_or, or_false, false_or, jfc_jp, jupp_p, jup_a, Int.add_right_inj, Int.add_left_inj, Int.reduceEq, if_true, if_false, true_and, and_true, false_and, and_false, reduceIte]
    have v19 : jf t2 47 U 19 = jf t 1000 (U + 12) (13 * q + 3) := by rw [← hT]; simp only [eq_self, or_true, true_or, or_false, false_or, jfc_jp, jupp_p, jup_a, Int.add_right_inj, Int.add_left_inj, Int.reduceEq, if_true, if_false, true_and, and_true, false_and, and_false, reduceIte]
    have v20 : jf t2 47 U 20 = jf t 1000 (U + 12) (13 * q + 4) := by rw [← hT]; simp only [eq_self, or_true, true_or, or_false, false_or, jfc_jp, jupp_p, jup_a, Int.add_right_inj, Int.add_left_inj, Int.reduceEq, if_true, if_false, true_and, and_true, false_and, and_false, reduceIte]
    have v21 : jf t2 47 U 21 = jf t 1000 (U + 12) (13 * q + 5) := by rw [← hT]; simp only [eq_self, or_true, true_or, or_false, false_or, jfc_jp, jupp_p, jup_a, Int.add_right_inj, Int.add_left_inj, Int.reduceEq, if_true, if_false, true_and, and_true, false_and, and_false, reduceIte]
    have v16 : jf t2 47 U 16 = jf t 1000 (U + 12) (13 * q + 6) := by rw [← hT]; simp only [eq_self, or_true, true_or, or_false, false_or, jfc_jp, jupp_p, jup_a, Int.add_right_inj, Int.add_left_inj, Int.reduceEq, if_true, if_false, true_and, and_true, false_and, and_false, reduceIte]
    have v14 : jf t2 47 U 14 = jf t 1000 (U + 12) (13 * q + 7) := by rw [← hT]; simp only [eq_self, or_true, true_or, or_false, false_or, jfc_jp, jupp_p, jup_a, Int.add_right_inj, Int.add_left_inj, Int.reduceEq, if_true, if_false, true_and, and_true, false_and, and_false, reduceIte]
    have t2k : jf t2 1000 = jf t 1000 := jf_fn2 fun a k => t2f 1000 a k (by omega)
    rw [rd _ 8 t2k (by omega) (by omega), Option.bind_some, Option.bind_some, rd _ 9 t2k (by omega) (by omega), Option.bind_some]
    rcases r14 with ⟨x1, x2⟩ | ⟨x1, x2, x3, x4, x5⟩
    · rw [if_neg (by omega)]
      exact ⟨t2, rfl, fun c a k x => by rw [if_neg (by omega)]; exact t2f c a k x, t2m, v11, v17, v18, v19, v20, v21, v16, v14⟩
    · rw [if_pos (by omega), jst_in (by omega) (by omega), Option.bind_some]
      refine ⟨_, rfl, fun c a k x => ?_, t2m.jp, ?_, ?_, ?_, ?_, ?_, ?_, ?_, ?_⟩
      · rw [jf_jp]
        by_cases e : c = 1000 ∧ a = U + 9 ∧ k = jf t 1000 (U + 12) (13 * q + 8)
        · rw [if_pos e, if_pos ⟨e.1, e.2.1, e.2.2, by omega⟩]
        · rw [if_neg e, if_neg (fun z => e ⟨z.1, z.2.1, z.2.2.1⟩)]; exact t2f c a k x
      all_goals (rw [jf_jp, if_neg (by omega)]; assumption)
  obtain ⟨m3, c20, c21⟩ := m3
  obtain ⟨m4, v11, v17, v18, v19, v20, v21, v16, v14⟩ := m4
  have s3c : ∀ c a, ¬ c = 33 → ¬ (c = 1000 ∧ a = M + 4) → jf s3 c a = jf s c a := fun c a x y => jf_fn fun k => by rw [c3 _ _ _ (by omega), if_neg (by omega)]
  have t3c : ∀ c a, ¬ c = 47 → ¬ (c = 1000 ∧ a = U + 9) → jf t3 c a = jf t c a := fun c a x y => jf_fn fun k => by rw [d3 _ _ _ (by omega), if_neg (by omega)]
  obtain ⟨s4, t4, e1, e2, g1, g2, g3, g4, g5⟩ := p_back80 (s := s3) (t := t3) (M := M) (U := U) (n := n) (d := d) (N := N) (r := 13 * q) (m := jf s 36 N 11) (by rw [s3c _ _ (by omega) (by omega), t3c _ _ (by omega) (by omega)]; exact hMem) (by omega) (by omega) (by rw [s3c _ _ (by omega) (by omega)]) (by
    rw [t3c 1000 (U + 12) (by omega) (by omega), s3c 36 N (by omega) (by omega)]
    rcases r15 with ⟨x1, x2⟩ | ⟨x1, x2, x3, x4, x5, x6, x7, x8, x9, x10, x11⟩
    · exact .inl ⟨x1, x2⟩
    · exact .inr ⟨x1, x6.symm, by omega, x5, x7, x8, x9, x10, fun i i0 i1 => x11 i i0 (by omega)⟩)
  -- the end of both
  have s4c : ∀ c a, ¬ (c = 1001 ∧ a = M + 1) → jf s4 c a = jf s3 c a := fun c a x => jf_fn fun k => g2 c a k x
  have t4c : ∀ c a, ¬ (c = 1000 ∧ a = U + 3) → jf t4 c a = jf t3 c a := fun c a x => jf_fn fun k => g3 c a k x
  have s436 : jf s4 36 N = jf s 36 N := by rw [s4c _ _ (by omega), s3c _ _ (by omega) (by omega)]
  have s4C : ∀ k, ¬ k = 20 → ¬ k = 21 → jf s4 33 M k = jf s 33 M k := fun k x y => by rw [s4c _ _ (by omega), c3 _ _ _ (by omega), if_neg (by omega)]
  have t4D : ∀ k, ¬ (k = 11 ∨ k = 17 ∨ k = 18 ∨ k = 19 ∨ k = 20 ∨ k = 21 ∨ k = 16 ∨ k = 14) → jf t4 47 U k = jf t 47 U k := fun k x => by rw [t4c _ _ (by omega), d3 _ _ _ (by omega), if_neg (by omega)]
  have hx20 : jf s4 33 M 20 = (jf s 33 M 20 - 1) % 101 := by rw [s4c _ _ (by omega)]; exact c20
  have hx21 : jf s4 33 M 21 = jf t 47 U 23 - 1 := by rw [s4c _ _ (by omega)]; exact c21
  refine ⟨jp (jp (jp (jp (jp (jp (jp (jp s4 33 M 10 (jf s 36 N 0)) 33 M 11 (jf s 36 N 1)) 33 M 12 (jf s 36 N 2)) 33 M 13 (jf s 36 N 3)) 33 M 14 (jf s 36 N 4)) 33 M 15 (jf s 36 N 5)) 33 M 18 (jf s 36 N 6)) 33 M 17 (jf s 36 N 7), jp (jp t4 47 U 24 q) 47 U 23 (jf t 47 U 23 - 1), ?_, ?_, ?_, ?_, ?_⟩
  · rw [hs3, e1, eu_X29_back_119]; unfold du_X29_back_119
    simp only [jls]
    have rd : ∀ (u : jS) (k : Int), jf u 36 = jf s4 36 → jf u 36 N k = jf s 36 N k := fun u k hu => by rw [hu, s436]
    rw [rd _ 0 rfl, rd _ 1 (by simp only [eq_self, or_true, true_or, or_false, false_or, jfc_jp, jupp_p, jup_a, Int.add_right_inj, Int.add_left_inj, Int.reduceEq, if_true, if_false, true_and, and_true, false_and, and_false, reduceIte]), rd _ 2 (by simp only [eq_self, or_true, true_or, or_false, false_or, jfc_jp, jupp_p, jup_a, Int.add_right_inj, Int.add_left_inj, Int.reduceEq, if_true, if_false, true_and, and_true, false_and, and_false, reduceIte]), rd _ 3 (by simp only [eq_self, or_true, true_or, or_false, false_or, jfc_jp, jupp_p, jup_a, Int.add_right_inj, Int.add_left_inj, Int.reduceEq, if_true, if_false, true_and, and_true, false_and, and_false, reduceIte]), rd _ 4 (by simp only [eq_self, or_true, true_or, or_false, false_or, jfc_jp, jupp_p, jup_a, Int.add_right_inj, Int.add_left_inj, Int.reduceEq, if_true, if_false, true_and, and_true, false_and, and_false, reduceIte]), rd _ 5 (by simp only [eq_self, or_true, true_or, or_false, false_or, jfc_jp, jupp_p, jup_a, Int.add_right_inj, Int.add_left_inj, Int.reduceEq, if_true, if_false, true_and, and_true, false_and, and_false, reduceIte]), rd _ 6 (by simp only [eq_self, or_true, true_or, or_false, false_or, jfc_jp, jupp_p, jup_a, Int.add_right_inj, Int.add_left_inj, Int.reduceEq, if_true, if_false, true_and, and_true, false_and, and_false, reduceIte]), rd _ 7 (by simp only [eq_self, or_true, true_or, or_false, false_or, jfc_jp, jupp_p, jup_a, Int.add_right_inj, Int.add_left_inj, Int.reduceEq, if_true, if_false, true_and, and_true, false_and, and_false, reduceIte]), W32_in (by omega) (by omega)]
  · rw [ht3, e2, eu_X43_back_222]; unfold du_X43_back_222
    simp only [jls]
    rw [t4D 24 (by omega), W32_in (z := jf t 47 U 24 + 100) (by omega) (by omega), W32_in (z := jf t 47 U 24 + 100 - 1) (by omega) (by omega), I_rem_n (by omega) (by omega) (by omega) (by omega), jdv_in (by omega), Option.bind_some, show (jf t 47 U 24 + 100 - 1) % 100 = q by omega]
    have z23 : jf (jp t4 47 U 24 q) 47 U 23 = jf t 47 U 23 := by rw [jf_jp, if_neg (by omega)]; exact t4D 23 (by omega)
    rw [z23, W32_in (z := jf t 47 U 23 - 1) (by omega) (by omega), W32_in (z := d + 1) (by omega) (by omega)]
  · have hK4 : MrK s4 M := (hK.sm m3).sm g4
    unfold Mr; simp only [eq_self, or_true, true_or, or_false, false_or, jfc_jp, jupp_p, jup_a, Int.add_right_inj, Int.add_left_inj, Int.reduceEq, if_true, if_false, true_and, and_true, false_and, and_false, reduceIte]
    refine ⟨hK4, hP.at (by simp only [eq_self, or_true, true_or, or_false, false_or, jfc_jp, jupp_p, jup_a, Int.add_right_inj, Int.add_left_inj, Int.reduceEq, if_true, if_false, true_and, and_true, false_and, and_false, reduceIte]; rw [t4c _ _ (by omega), t3c _ _ (by omega) (by omega)]), g1, ?_, ?_, ?_, ?_, ?_, ?_, ?_, ?_⟩
    · rw [s4c _ _ (by omega), t4c _ _ (by omega), s3c _ _ (by omega) (by omega), t3c _ _ (by omega) (by omega)]; exact hMark
    · have e35 : jf s4 35 = jf s 35 := jf_fn2 fun a k => by rw [s4c _ _ (by omega), s3c _ _ (by omega) (by omega)]
      rw [e35, t4c _ (U + 5) (by omega), t3c _ (U + 5) (by omega) (by omega), t4c _ (U + 6) (by omega), t3c _ (U + 6) (by omega) (by omega), t4c _ (U + 7) (by omega), t3c _ (U + 7) (by omega) (by omega)]; exact hSeg
    · rw [s4c _ _ (by omega), t4c _ _ (by omega)]
      unfold MrReg at *
      refine ⟨fun k k0 k1 => ?_, ?_⟩
      · rw [c3 _ _ _ (by omega), d3 _ _ _ (by omega)]
        by_cases e : k = jf t 1000 (U + 12) (13 * q + 8) ∧ ¬ jf t 1000 (U + 12) (13 * q + 8) = 0
        · rw [if_pos ⟨rfl, rfl, e⟩, if_pos ⟨rfl, rfl, e⟩]; omega
        · rw [if_neg (fun z => e z.2.2), if_neg (fun z => e z.2.2)]; exact hReg.1 k k0 k1
      · rw [d3 _ _ _ (by omega), if_neg (by omega)]; exact hReg.2
    · rw [s4c 1001 _ (by omega), t4c 1000 _ (by omega), s3c 1001 _ (by omega) (by omega), t3c 1000 _ (by omega) (by omega)]
      unfold MrIn at *; simp only [eq_self, or_true, true_or, or_false, false_or, jfc_jp, jupp_p, jup_a, Int.add_right_inj, Int.add_left_inj, Int.reduceEq, if_true, if_false, true_and, and_true, false_and, and_false, reduceIte]
      rw [s4C 16 (by omega) (by omega), t4D 13 (by omega)]; exact hIn
    · rw [s4c _ _ (by omega), t4c _ _ (by omega), s3c _ _ (by omega) (by omega), t3c _ _ (by omega) (by omega)]; exact hOut
    · rw [s4c 1000 _ (by omega), t4c 1000 _ (by omega), s3c 1000 _ (by omega) (by omega), t3c 1000 _ (by omega) (by omega)]
      unfold MrHalt at *; simp only [eq_self, or_true, true_or, or_false, false_or, jfc_jp, jupp_p, jup_a, Int.add_right_inj, Int.add_left_inj, Int.reduceEq, if_true, if_false, true_and, and_true, false_and, and_false, reduceIte]
      rw [s4C 19 (by omega) (by omega), t4D 9 (by omega)]; exact hHalt
    · unfold MrSc at *; simp only [eq_self, or_true, true_or, or_false, false_or, jfc_jp, jupp_p, jup_a, Int.add_right_inj, Int.add_left_inj, Int.reduceEq, if_true, if_false, true_and, and_true, false_and, and_false, reduceIte]
      rw [s4C 9 (by omega) (by omega), t4D 7 (by omega), t4D 13 (by omega), t4c 47 _ (by omega), v11, v17, v18, v19, v20, v21, v16, v14]
      exact ⟨hSc.1, r1, r2, r3, r4, r5, r6, r7, r11, r12, r13, r8, r9, r10⟩
    · have e36 : jf s4 36 = jf s 36 := jf_fn2 fun a k => by rw [s4c _ _ (by omega), s3c _ _ (by omega) (by omega)]
      rw [e36, t4c 1000 _ (by omega), t3c 1000 _ (by omega) (by omega)]
      unfold MrRing; simp only [eq_self, or_true, true_or, or_false, false_or, jfc_jp, jupp_p, jup_a, Int.add_right_inj, Int.add_left_inj, Int.reduceEq, if_true, if_false, true_and, and_true, false_and, and_false, reduceIte]
      rw [hx20, hx21, t4D 13 (by omega)]
      refine ⟨by omega, by omega, rfl, by omega, by omega, by omega, by omega, fun j j0 j1 => ?_⟩
      have q1 : ((jf s 33 M 20 - 1) % 101 - j) % 101 = (jf s 33 M 20 - (j + 1)) % 101 := by omega
      have q2 : (q - j) % 100 = (jf t 47 U 24 - (j + 1)) % 100 := by omega
      rw [q1, q2]
      exact a8 (j + 1) (by omega) (by omega)
  · refine jFm.trans (t := s4) ⟨m3.trans g4, fun c a k x => by rw [g2 _ _ _ (by omega), c3 _ _ _ (by omega), if_neg (by omega)]⟩ ?_
    (repeat' (first | exact jFm.rfl | refine jFm.jp ?_ (by omega) (by omega)))
  · refine jFm.trans (t := t4) ⟨m4.trans g5, fun c a k x => by rw [g3 _ _ _ (by omega), d3 _ _ _ (by omega), if_neg (by omega)]⟩ ?_
    (repeat' (first | exact jFm.rfl | refine jFm.jp ?_ (by omega) (by omega)))
theorem p_back {n : Int} (h : Mr s M t U) (hn : n ≤ 2147483647) : jE2 (m_X29_back s M n) (m_X43_back t U n) (MrQ s M t U) := by
  simp only [em_X29_back, dm_X29_back, eu_X29_back_119, du_X29_back_119, eu_X29_back_77, du_X29_back_77, eu_X29_back_33, du_X29_back_33, em_X43_back, dm_X43_back, eu_X43_back_222, du_X43_back_222, eu_X43_back_150, du_X43_back_150]
  rw [eu_X29_back_2, du_X29_back_2, eu_X43_back_2, du_X43_back_2]
  have ex : ∀ (s' t' : jS) (d : Int), Mr s' M t' U → jFm s s' M 119 → jFm t t' U 13 → ¬ (d < n ∧ 0 < jf t' 47 U 23) → b_X29_back_2 s' M n d = jinr (some (s', d)) ∧ b_X43_back_2 t' U n d = jinr (some (t', d)) := by
    intro s' t' d g f1 f2 hd
    have e := g.2.2.2.2.2.2.2.2.2.2.2.2.1
    unfold b_X29_back_2 b_X43_back_2
    rw [e]
    by_cases c : d < n
    · rw [if_pos c, if_pos c, if_neg (fun q => hd ⟨c, q⟩), if_neg (fun q => hd ⟨c, q⟩)]
      exact ⟨rfl, rfl⟩
    · rw [if_neg c, if_neg c]; exact ⟨rfl, rfl⟩
  by_cases hn0 : n ≤ 0
  · obtain ⟨e1, e2⟩ := ex s t 0 h jFm.rfl jFm.rfl (by omega)
    rw [jlpW_r (show jc3 b_X29_back_2 [M, n, 0] s = _ from e1), jlpW_r (show jc3 b_X43_back_2 [U, n, 0] t = _ from e2)]
    exact jE2_some.mpr (MrQ_same h)
  refine jforWW (J := fun _ s' t' => Mr s' M t' U ∧ jFm s s' M 119 ∧ jFm t t' U 13) (fun d => [M, n, d]) (fun d => [U, n, d]) 0 n (by omega) ?_ ?_ ⟨h, jFm.rfl, jFm.rfl⟩
  · intro d s' t' d0 d1 ⟨g, f1, f2⟩
    by_cases c : 0 < jf t' 47 U 23
    · obtain ⟨s2, t2, e1, e2, e3, e4, e5⟩ := p_back1 g c ⟨d0, by omega⟩ d1
      exact .inl ⟨s2, t2, e1, e2, e3, f1.trans e4, f2.trans e5⟩
    · obtain ⟨e1, e2⟩ := ex s' t' d g f1 f2 (by omega)
      exact .inr ⟨_, _, e1, e2, jE2_some.mpr ⟨rfl, g, f1, f2⟩⟩
  · intro s' t' ⟨g, f1, f2⟩
    obtain ⟨e1, e2⟩ := ex s' t' n g f1 f2 (by omega)
    exact ⟨_, _, e1, e2, jE2_some.mpr ⟨rfl, g, f1, f2⟩⟩
end jMback
