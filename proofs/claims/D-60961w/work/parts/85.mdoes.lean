/-! what a word does -/
section jMdoes
variable {s t : jS} {M U : Int}
theorem I_shl_b {x y : Int} (h0 : 0 ≤ y) (h1 : y ≤ 31) : -2147483648 ≤ I_shl x y ∧ I_shl x y ≤ 2147483647 := by rw [i_shl_p h0 h1]; exact W32_lo _
theorem I_ushr_b {x y : Int} (h0 : 0 ≤ y) (h1 : y ≤ 31) : -2147483648 ≤ I_ushr x y ∧ I_ushr x y ≤ 2147483647 := by rw [i_ushr_p h0 h1]; exact W32_lo _
theorem I_shr_b {x y : Int} (hx : -2147483648 ≤ x ∧ x ≤ 2147483647) (h0 : 0 ≤ y) (h1 : y ≤ 31) : -2147483648 ≤ I_shr x y ∧ I_shr x y ≤ 2147483647 := by
  rw [i_shr_p hx h0 h1]
  have p := p2_pos y.toNat
  constructor
  · rw [Int.le_ediv_iff_mul_le p]
    have : (-2147483648 : Int) * 2 ^ y.toNat ≤ -2147483648 * 1 := Int.mul_le_mul_of_nonpos_left (by omega) (by omega)
    omega
  · have h1 : x < 2147483648 * 2 ^ y.toNat := by
      have : (2147483648 : Int) * 1 ≤ 2147483648 * 2 ^ y.toNat := Int.mul_le_mul_of_nonneg_left (by omega) (by omega)
      omega
    have := Int.ediv_lt_of_lt_mul p h1
    omega
theorem L2i_b (x : Int) : -2147483648 ≤ L2i x ∧ L2i x ≤ 2147483647 := by rw [l2i_p]; exact W32_lo _
def ib32 (v : Int) : Prop := -2147483648 ≤ v ∧ v ≤ 2147483647
theorem ite_ib {c : Prop} [Decidable c] {x y : Int} (hx : ib32 x) (hy : ib32 y) : ib32 (if c then x else y) := by
  split
  · exact hx
  · exact hy
theorem reck_b {k a b : Int} (ha : -2147483648 ≤ a ∧ a ≤ 2147483647) (hb : -2147483648 ≤ b ∧ b ≤ 2147483647) : -2147483648 ≤ v_X43_reckoned k a b ∧ v_X43_reckoned k a b ≤ 2147483647 := by
  have hs : 0 ≤ I_and b 31 ∧ I_and b 31 ≤ 31 := by rw [I_and_31]; omega
  show ib32 _
  unfold v_X43_reckoned v_X43_multiplied
  repeat' refine ite_ib ?_ ?_
  all_goals first
    | exact W32_lo _
    | exact I_xor_b _ _
    | exact I_or_b _ _
    | exact I_and_b _ _
    | exact I_shl_b hs.1 hs.2
    | exact I_ushr_b hs.1 hs.2
    | exact I_shr_b ha hs.1 hs.2
    | exact L2i_b _
    | (rw [i_div_p ha hb]; exact W32_lo _)
    | (rw [i_rem_p ha hb]; exact W32_lo _)
    | exact ha
    | (unfold ib32; omega)
theorem bare_nz {b : Int} (hb : -2147483648 ≤ b ∧ b ≤ 2147483647) (h : ¬ b = 0) : ¬ L_and b 4294967295 = 0 := by
  rw [L_and_4294967295]; omega
theorem s_reck (t : jS) {k a b : Int} (hb : -2147483648 ≤ b ∧ b ≤ 2147483647) : m_X43_reckoned t k a b = some (v_X43_reckoned k a b) := by
  refine e_X43_reckoned t k a b ?_ ?_
  · intros; exact bare_nz hb (by assumption)
  · intros; exact bare_nz hb (by assumption)
theorem s_reckC (s : jS) {k a b : Int} (hb : -2147483648 ≤ b ∧ b ≤ 2147483647) : m_X29_reckoned s k a b = some (v_X29_reckoned k a b) := by
  refine e_X29_reckoned s k a b ?_ ?_
  · intros; exact bare_nz hb (by assumption)
  · intros; exact bare_nz hb (by assumption)
theorem v_reck1 {k a b : Int} (h0 : 18 ≤ k) (h1 : k < 27) : v_X29_reckoned (v_X29_asRow k) a b = v_X43_reckoned k a b := by
  have : k = 18 ∨ k = 19 ∨ k = 20 ∨ k = 21 ∨ k = 22 ∨ k = 23 ∨ k = 24 ∨ k = 25 ∨ k = 26 := by omega
  rcases this with rfl | rfl | rfl | rfl | rfl | rfl | rfl | rfl | rfl <;> simp [v_X29_asRow, v_X29_reckoned, v_X43_reckoned]
theorem v_reck2 {k a b : Int} (h0 : 27 ≤ k) (h1 : k < 45) : v_X29_reckoned k a b = v_X43_reckoned k a b := by
  have : k = 27 ∨ k = 28 ∨ k = 29 ∨ k = 30 ∨ k = 31 ∨ k = 32 ∨ k = 33 ∨ k = 34 ∨ k = 35 ∨ k = 36 ∨ k = 37 ∨ k = 38 ∨ k = 39 ∨ k = 40 ∨ k = 41 ∨ k = 42 ∨ k = 43 ∨ k = 44 := by omega
  rcases this with rfl | rfl | rfl | rfl | rfl | rfl | rfl | rfl | rfl | rfl | rfl | rfl | rfl | rfl | rfl | rfl | rfl | rfl <;> simp [v_X29_reckoned, v_X43_reckoned, v_X43_multiplied, v_X29_product, v_X29_quotient]
theorem s_holds (s t : jS) (k a b : Int) : ∃ v, m_X29_holds s k a b = some v ∧ m_X43_branches t k a b = some v ∧ (v = 0 ∨ v = 1) := by
  have e : m_X29_holds s k a b = m_X43_branches t k a b := by
    rw [em_X29_holds, em_X43_branches]; unfold dm_X29_holds dm_X43_branches
    simp only [e_X29_plain, e_X43_bare]
  rw [e, e_X43_branches]
  by_cases c : p_X43_branches k a b
  · exact ⟨1, by rw [if_pos c], by rw [if_pos c], .inr rfl⟩
  · exact ⟨0, by rw [if_neg c], by rw [if_neg c], .inl rfl⟩
theorem sb_W8 {v : Int} (h0 : 0 ≤ v) (h1 : v < 256) : W8 v = I_shr (I_shl v 24) 24 := by
  rw [sxt_p (n := 8) (by omega) (by omega) h0 h1 (by omega), W8_sb]
  unfold sb sxt
  rw [show (2 : Int) ^ (8 - 1) = 128 from rfl, show (2 : Int) ^ 8 = 256 from rfl, show v % 256 = v by omega]
theorem sb_W16 {v : Int} (h0 : 0 ≤ v) (h1 : v < 65536) : W16 v = I_shr (I_shl v 16) 16 := by
  rw [sxt_p (n := 16) (by omega) (by omega) h0 h1 (by omega), w16_p]
  unfold sxt Int.bmod
  rw [show (2 : Int) ^ (16 - 1) = 32768 from rfl, show (2 : Int) ^ 16 = 65536 from rfl]
  show (if v % 65536 < (65536 + 1) / 2 then v % 65536 else v % 65536 - 65536) = _
  rw [show v % 65536 = v by omega]
  rfl
theorem p_loads {a A n k u : Int} {p : jP5} (h : Wk s M t U n k u) (hW : MW s M t U p) (hp : 10 ≤ p.1 ∧ p.1 < 15) (hA : 0 ≤ A ∧ A + wid p.1 ≤ 131072) (ha : a = W32 (jf t 47 U 11 + jf t 47 U 25)) (hj : jf t 47 U 28 = 0) (hz : jf t 47 U 17 = 0) :
    jE2 (m_X29_loads s M (M + 9) A a) ((m_X43_loaded t U A).bind fun v => (m_X43_become t U p.2.1 v).bind fun q => u_X43_work_336 q.1 U) (WE s M t U n k u) := by
  have hh := h
  obtain ⟨⟨hK, hP, hMem, hMark, hSeg, hReg, hIn, hOut, hHalt, hSc, hRing⟩, hnow, h23⟩ := h
  obtain ⟨hok, hne, w0, w1, w2, w3, w4, w5, w5', v26, v0, v1, v2, v3⟩ := hW
  obtain ⟨o1, o2, o3, o4, o5, o6, o7⟩ := hok
  have hj' : ∀ k, jrd s 34 (M + 9) k = some (jf s 34 (M + 9) k) := fun k => jrd_in (by have := hK.1; omega) hK.2.2.1
  have hB : ∀ k, 0 ≤ k → k < 131072 → 0 ≤ jf t 1000 (U + 3) k ∧ jf t 1000 (U + 3) k < 256 := fun k k0 k1 => ⟨(hMem k k0 k1).1, (hMem k k0 k1).2.1⟩
  rw [em_X29_loads, em_X43_loaded]; unfold dm_X29_loads dm_X43_loaded
  simp only [em_X29_loads, dm_X29_loads, eu_X29_loads_84, du_X29_loads_84, eu_X29_loads_36, du_X29_loads_36, eu_X29_loads_18, du_X29_loads_18, hj', w0, w1, Option.bind_some, e_X43_widthOf, v26]
  have hwd : (if p.1 = 10 then (1 : Int) else if p.1 = 13 then 1 else if p.1 = 15 then 1 else if p.1 = 11 then 2 else if p.1 = 14 then 2 else if p.1 = 16 then 2 else 4) = wid p.1 := rfl
  rw [hwd]
  have hld : ∀ m : Nat, (m = 1 ∨ m = 2 ∨ m = 4) → A + m ≤ 131072 → m_X29_load s M A (m : Int) = some (W32 (fet (jf t 1000 (U + 3)) A m)) ∧ m_X43_fetched t U A (m : Int) = some (W32 (fet (jf t 1000 (U + 3)) A m)) := fun m hm hm' =>
    ⟨s_X29_load m hMem hA.1 hm' (by omega) (by omega), s_X43_fetched m hB hA.1 hm' (by omega)⟩
  have b1 := fet_b (B := jf t 1000 (U + 3)) (a := A) 1
  have b2 := fet_b (B := jf t 1000 (U + 3)) (a := A) 2
  have fin : ∀ v, -2147483648 ≤ v ∧ v ≤ 2147483647 → jE2 ((m_X29_put s M p.2.1 v).bind fun q1 => jls (jp q1.1 33 M 10 a) fun s2 => some (s2, (0 : Int))) ((m_X43_become t U p.2.1 v).bind fun q => u_X43_work_336 q.1 U) (WE s M t U n k u) := fun v hv => p_put_plain hh o1.1 o1.2 hv ha w5' hj hz
  have hc : p.1 = 10 ∨ p.1 = 11 ∨ p.1 = 12 ∨ p.1 = 13 ∨ p.1 = 14 := by omega
  rcases hc with e | e | e | e | e
  · have ew : wid p.1 = 1 := by rw [e]; rfl
    rw [ew] at hA ⊢
    obtain ⟨l1, l2⟩ := hld 1 (by omega) (by omega)
    have b1 := b1 (fun j j0 j1 => hB j (by omega) (by omega))
    rw [show (256 : Int) ^ 1 = 256 from rfl] at b1
    have ew : W32 (fet (jf t 1000 (U + 3)) A 1) = fet (jf t 1000 (U + 3)) A 1 := W32_in (by omega) (by omega)
    rw [ew] at l1 l2
    simp only [e, eq_self, and_false, false_and, and_true, true_and, if_true, if_false, reduceIte, Int.reduceEq, Int.reduceLT, Int.reduceLE, Int.reduceNeg, not_false_eq_true, Option.bind_some, jls, show m_X29_load s M A 1 = _ from l1, show m_X43_fetched t U A 1 = _ from l2]
    rw [sb_W8 b1.1 b1.2]
    exact fin _ (I_shr_b (I_shl_b (by omega) (by omega)) (by omega) (by omega))
  · have ew : wid p.1 = 2 := by rw [e]; rfl
    rw [ew] at hA ⊢
    obtain ⟨l1, l2⟩ := hld 2 (by omega) (by omega)
    have b2 := b2 (fun j j0 j1 => hB j (by omega) (by omega))
    rw [show (256 : Int) ^ 2 = 65536 from rfl] at b2
    have ew : W32 (fet (jf t 1000 (U + 3)) A 2) = fet (jf t 1000 (U + 3)) A 2 := W32_in (by omega) (by omega)
    rw [ew] at l1 l2
    simp only [e, eq_self, and_false, false_and, and_true, true_and, if_true, if_false, reduceIte, Int.reduceEq, Int.reduceLT, Int.reduceLE, Int.reduceNeg, not_false_eq_true, Option.bind_some, jls, show m_X29_load s M A 2 = _ from l1, show m_X43_fetched t U A 2 = _ from l2]
    rw [sb_W16 b2.1 b2.2]
    exact fin _ (I_shr_b (I_shl_b (by omega) (by omega)) (by omega) (by omega))
  · have ew : wid p.1 = 4 := by rw [e]; rfl
    rw [ew] at hA ⊢
    obtain ⟨l1, l2⟩ := hld 4 (by omega) (by omega)
    simp only [e, eq_self, and_false, false_and, and_true, true_and, if_true, if_false, reduceIte, Int.reduceEq, Int.reduceLT, Int.reduceLE, Int.reduceNeg, not_false_eq_true, Option.bind_some, jls, show m_X29_load s M A 4 = _ from l1, show m_X43_fetched t U A 4 = _ from l2]
    exact fin _ (W32_lo _)
  · have ew : wid p.1 = 1 := by rw [e]; rfl
    rw [ew] at hA ⊢
    obtain ⟨l1, l2⟩ := hld 1 (by omega) (by omega)
    simp only [e, eq_self, and_false, false_and, and_true, true_and, if_true, if_false, reduceIte, Int.reduceEq, Int.reduceLT, Int.reduceLE, Int.reduceNeg, not_false_eq_true, Option.bind_some, jls, show m_X29_load s M A 1 = _ from l1, show m_X43_fetched t U A 1 = _ from l2]
    exact fin _ (W32_lo _)
  · have ew : wid p.1 = 2 := by rw [e]; rfl
    rw [ew] at hA ⊢
    obtain ⟨l1, l2⟩ := hld 2 (by omega) (by omega)
    simp only [e, eq_self, and_false, false_and, and_true, true_and, if_true, if_false, reduceIte, Int.reduceEq, Int.reduceLT, Int.reduceLE, Int.reduceNeg, not_false_eq_true, Option.bind_some, jls, show m_X29_load s M A 2 = _ from l1, show m_X43_fetched t U A 2 = _ from l2]
    exact fin _ (W32_lo _)
/-- numbers that only the twin has -/
theorem Wk.tw {x v n k u : Int} (h : Wk s M t U n k u) (hx : 25 ≤ x) : Wk s M (jp t 47 U x v) U n k u := by
  obtain ⟨⟨hK, hP, hMem, hMark, hSeg, hReg, hIn, hOut, hHalt, hSc, hRing⟩, hnow, h23⟩ := h
  have z : ∀ j : Int, j ≤ 24 → jf (jp t 47 U x v) 47 U j = jf t 47 U j := fun j hj => by rw [jf_jp, if_neg (by omega)]
  have e5 : ∀ a, jf (jp t 47 U x v) 1000 a = jf t 1000 a := fun a => by simp only [eq_self, or_true, true_or, or_false, false_or, jfc_jp, jupp_p, jup_a, Int.add_right_inj, Int.add_left_inj, Int.reduceEq, if_true, if_false, true_and, and_true, false_and, and_false, reduceIte]
  have e2 : ∀ a, jf (jp t 47 U x v) 1002 a = jf t 1002 a := fun a => by simp only [eq_self, or_true, true_or, or_false, false_or, jfc_jp, jupp_p, jup_a, Int.add_right_inj, Int.add_left_inj, Int.reduceEq, if_true, if_false, true_and, and_true, false_and, and_false, reduceIte]
  refine ⟨⟨hK, hP.at (e5 _), ?_, ?_, ?_, ?_, ?_, ?_, ?_, ?_, ?_⟩, hnow, by rw [z _ (by omega)]; exact h23⟩
  · rw [e5]; exact hMem
  · rw [e2]; exact hMark
  · rw [e5, e5, e5]; exact hSeg
  · rw [e5]; exact hReg
  · rw [e5]; unfold MrIn at *; rw [z 13 (by omega)]; exact hIn
  · rw [e5]; exact hOut
  · rw [e5]; unfold MrHalt at *; rw [z 9 (by omega)]; exact hHalt
  · unfold MrSc at *; simp only [z 7 (by omega), z 11 (by omega), z 17 (by omega), z 18 (by omega), z 19 (by omega), z 20 (by omega), z 21 (by omega), z 14 (by omega), z 13 (by omega), z 16 (by omega)]; exact hSc
  · rw [e5]; unfold MrRing at *; simp only [z 23 (by omega), z 24 (by omega), z 13 (by omega)]; exact hRing
theorem Wf.tw {x v : Int} : Wf s M t U s (jp t 47 U x v) := ⟨jFm.rfl, jFm.rfl.jp (by omega) (by omega), Eq.refl _, by simp only [eq_self, or_true, true_or, or_false, false_or, jfc_jp, jupp_p, jup_a, Int.add_right_inj, Int.add_left_inj, Int.reduceEq, if_true, if_false, true_and, and_true, false_and, and_false, reduceIte]⟩
theorem Wg.tw {x v : Int} (hx : 25 ≤ x) : Wg s M t U s (jp t 47 U x v) := ⟨fun _ _ => Eq.refl _, fun y q => by rw [jf_jp, if_neg (by omega)]⟩
theorem p_does {n k u : Int} {p : jP5} (h : Wk s M t U n k u) (hW : MW s M t U p) (hz : jf t 47 U 17 = 0) (hst : -2147483648 ≤ jf t 47 U 20 ∧ jf t 47 U 20 ≤ 2147483647)
    (hA : 10 ≤ p.1 ∧ p.1 < 18 → 0 ≤ W32 (jf t 1000 (U + 9) p.2.2.1 + p.2.2.2.2) ∧ W32 (jf t 1000 (U + 9) p.2.2.1 + p.2.2.2.2) + wid p.1 ≤ 131072) :
    jE2 (m_X29_does s M (M + 9)) (m_X43_work t U) (WE s M t U n k u) := by
  have W0 : Wk s M (jp t 47 U 28 0) U n k u := h.tw (by omega)
  have hhW := hW
  obtain ⟨⟨hK, hP, hMem, hMark, hSeg, hReg, hIn, hOut, hHalt, hSc, hRing⟩, hnow, h23⟩ := h
  obtain ⟨hok, hne, w0, w1, w2, w3, w4, w5, w5', v26, v0, v1, v2, v3⟩ := hW
  obtain ⟨o1, o2, o3, o4, o5, o6, o7⟩ := hok
  have hS := hSc
  unfold MrSc at hS
  simp only [aC_x _ _ _ _ 10 (by decide) (by decide) (by decide)] at hS
  have c10 : jf s 33 M 10 = jf t 47 U 11 := hS.2.1
  have hev := hS.2.2.1
  have hM0 := hK.1
  have hj' : ∀ k, jrd s 34 (M + 9) k = some (jf s 34 (M + 9) k) := fun k => jrd_in (by omega) hK.2.2.1
  have ra := hReg.1 p.2.2.1 (by omega) (by omega)
  have rb := hReg.1 p.2.2.2.1 (by omega) (by omega)
  have xa : jlt s 1000 (M + 4) 32 p.2.2.1 = some (jf t 1000 (U + 9) p.2.2.1) := by rw [jlt_in (by omega) (by omega), ra.1]
  have xb : jlt s 1000 (M + 4) 32 p.2.2.2.1 = some (jf t 1000 (U + 9) p.2.2.2.1) := by rw [jlt_in (by omega) (by omega), rb.1]
  have ya : jlt t 1000 (U + 9) 32 p.2.2.1 = some (jf t 1000 (U + 9) p.2.2.1) := jlt_in (by omega) (by omega)
  have yb : jlt t 1000 (U + 9) 32 p.2.2.2.1 = some (jf t 1000 (U + 9) p.2.2.2.1) := jlt_in (by omega) (by omega)
  have y4 : ∀ k : Int, 0 ≤ k → k < 4 → jlt t 1000 (U + 2) 4 k = some (jf t 1000 (U + 2) k) := fun k a b => jlt_in a b
  rw [em_X29_does, em_X43_work]; unfold dm_X29_does dm_X43_work
  simp only [hj', w0, w2, w3, w5, Option.bind_some, xa, xb, jlet, y4 0 (by omega) (by omega), y4 1 (by omega) (by omega), y4 2 (by omega) (by omega), y4 3 (by omega) (by omega), v0, v1, v2, v3, ya, yb, jzb_in (show (0 : Int) = 0 ∨ (0 : Int) = 1 by omega), jls]
  have g26 : jf (jp t 47 U 28 0) 47 U 26 = p.1 := by simp only [eq_self, or_true, true_or, or_false, false_or, jfc_jp, jupp_p, jup_a, Int.add_right_inj, Int.add_left_inj, Int.reduceEq, if_true, if_false, true_and, and_true, false_and, and_false, reduceIte]; exact v26
  have g11 : jf (jp t 47 U 28 0) 47 U 11 = jf t 47 U 11 := by simp only [eq_self, or_true, true_or, or_false, false_or, jfc_jp, jupp_p, jup_a, Int.add_right_inj, Int.add_left_inj, Int.reduceEq, if_true, if_false, true_and, and_true, false_and, and_false, reduceIte]
  have g25 : jf (jp t 47 U 28 0) 47 U 25 = jf t 47 U 25 := by simp only [eq_self, or_true, true_or, or_false, false_or, jfc_jp, jupp_p, jup_a, Int.add_right_inj, Int.add_left_inj, Int.reduceEq, if_true, if_false, true_and, and_true, false_and, and_false, reduceIte]
  have g17 : jf (jp t 47 U 28 0) 47 U 17 = 0 := by simp only [eq_self, or_true, true_or, or_false, false_or, jfc_jp, jupp_p, jup_a, Int.add_right_inj, Int.add_left_inj, Int.reduceEq, if_true, if_false, true_and, and_true, false_and, and_false, reduceIte]; exact hz
  have g28 : jf (jp t 47 U 28 0) 47 U 28 = 0 := by simp only [eq_self, or_true, true_or, or_false, false_or, jfc_jp, jupp_p, jup_a, Int.add_right_inj, Int.add_left_inj, Int.reduceEq, if_true, if_false, true_and, and_true, false_and, and_false, reduceIte]
  have g20 : jf (jp t 47 U 28 0) 47 U 20 = jf t 47 U 20 := by simp only [eq_self, or_true, true_or, or_false, false_or, jfc_jp, jupp_p, jup_a, Int.add_right_inj, Int.add_left_inj, Int.reduceEq, if_true, if_false, true_and, and_true, false_and, and_false, reduceIte]
  have gR : jf (jp t 47 U 28 0) 1000 = jf t 1000 := by simp only [eq_self, or_true, true_or, or_false, false_or, jfc_jp, jupp_p, jup_a, Int.add_right_inj, Int.add_left_inj, Int.reduceEq, if_true, if_false, true_and, and_true, false_and, and_false, reduceIte]
  rw [g26, c10, g11]
  have hW0 : MW s M (jp t 47 U 28 0) U p := by
    unfold MW at *
    rw [g26, g25, gR]; exact ⟨hhW.1, hhW.2.1, hhW.2.2.1, hhW.2.2.2.1, hhW.2.2.2.2.1, hhW.2.2.2.2.2.1, hhW.2.2.2.2.2.2.1, hhW.2.2.2.2.2.2.2.1, w5', rfl, v0, v1, v2, v3⟩
  generalize hRA : jf t 1000 (U + 9) p.2.2.1 = RA at *
  generalize hRB : jf t 1000 (U + 9) p.2.2.2.1 = RB at *
  generalize haa : W32 (jf t 47 U 11 + jf t 47 U 25) = aa at *
  have ha0 : aa = W32 (jf (jp t 47 U 28 0) 47 U 11 + jf (jp t 47 U 28 0) 47 U 25) := by rw [g11, g25, haa]
  have hb0 : jf (jp t 47 U 28 0) 47 U 25 = 2 ∨ jf (jp t 47 U 28 0) 47 U 25 = 4 := by rw [g25]; exact w5'
  have back : ∀ {a b : jS × Int}, WE s M (jp t 47 U 28 0) U n k u a b → WE s M t U n k u a b := fun q => q.of Wf.tw (Wg.tw (by omega))
  have fin : ∀ v, -2147483648 ≤ v ∧ v ≤ 2147483647 → jE2 ((m_X29_put s M p.2.1 v).bind fun q1 => some (jp q1.1 33 M 10 aa, (0 : Int))) ((m_X43_become (jp t 47 U 28 0) U p.2.1 v).bind fun q => u_X43_work_336 q.1 U) (WE s M t U n k u) := fun v hv =>
    jE2_mono (p_put_plain W0 o1.1 o1.2 hv ha0 hb0 g28 g17) fun _ _ q => back q
  have jmp : ∀ to, -2147483648 ≤ to ∧ to ≤ 2147483647 → to % 2 = 0 → jE2 ((m_X29_put s M p.2.1 aa).bind fun q1 => (m_X29_jumps q1.1 M to).bind fun q => some (q.1, (0 : Int))) ((m_X43_become (jp (jp (jp t 47 U 28 0) 47 U 27 to) 47 U 28 1) U p.2.1 aa).bind fun q => u_X43_work_336 q.1 U) (WE s M t U n k u) := by
    intro to hto hte
    have W2 : Wk s M (jp (jp (jp t 47 U 28 0) 47 U 27 to) 47 U 28 1) U n k u := (W0.tw (by omega)).tw (by omega)
    refine jE2_call (p_put W2 o1.1 o1.2 (by rw [← haa]; exact W32_lo _)) fun x y ⟨w, f, e1, e2⟩ => ?_
    have hJ := p_jump w hto hte (by rw [e2]; simp only [eq_self, or_true, true_or, or_false, false_or, jfc_jp, jupp_p, jup_a, Int.add_right_inj, Int.add_left_inj, Int.reduceEq, if_true, if_false, true_and, and_true, false_and, and_false, reduceIte]) (by rw [e2]; simp only [eq_self, or_true, true_or, or_false, false_or, jfc_jp, jupp_p, jup_a, Int.add_right_inj, Int.add_left_inj, Int.reduceEq, if_true, if_false, true_and, and_true, false_and, and_false, reduceIte]) (by rw [e2]; simp only [eq_self, or_true, true_or, or_false, false_or, jfc_jp, jupp_p, jup_a, Int.add_right_inj, Int.add_left_inj, Int.reduceEq, if_true, if_false, true_and, and_true, false_and, and_false, reduceIte]; exact hz)
    obtain ⟨r, q, h1, h2, h3⟩ := jE2_get hJ
    refine jE2_mk (r := (r.1, 0)) (by rw [h1]; rfl) h2 ?_
    refine (show WE x.1 M y.1 U n k u (r.1, 0) q from ⟨h3.1, h3.2.1, h3.2.2⟩).of (((Wf.tw (x := 28) (v := 0)).trans Wf.tw).trans Wf.tw |>.trans f) (((Wg.tw (x := 28) (v := 0) (by omega)).trans (Wg.tw (by omega))).trans (Wg.tw (by omega)) |>.trans (Wg.of e1 e2))
  have r28 : jf (jp (jp (jp t 47 U 28 0) 47 U 27 0) 47 U 28 1) 47 U 28 = 1 := by simp only [eq_self, or_true, true_or, or_false, false_or, jfc_jp, jupp_p, jup_a, Int.add_right_inj, Int.add_left_inj, Int.reduceEq, if_true, if_false, true_and, and_true, false_and, and_false, reduceIte]
  by_cases k0 : p.1 = 0
  · simp only [em_X29_does, dm_X29_does, eu_X29_does_339, du_X29_does_339, eu_X29_does_310, du_X29_does_310, eu_X29_does_272, du_X29_does_272, eu_X29_does_230, du_X29_does_230, eu_X29_does_200, du_X29_does_200, eu_X29_does_157, du_X29_does_157, eu_X29_does_121, du_X29_does_121, eu_X29_does_73, du_X29_does_73, hj', w1, w4, Option.bind_some, jls, k0, eq_self, and_false, false_and, and_true, true_and, if_true, if_false, reduceIte, Int.reduceEq, Int.reduceLT, Int.reduceLE, Int.reduceNeg, not_false_eq_true, Option.bind_some, jls]
    rw [Int.add_zero, W32_in (I_shl_b (by omega) (by omega)).1 (I_shl_b (by omega) (by omega)).2]
    exact fin _ (I_shl_b (by omega) (by omega))
  by_cases k1 : p.1 = 1
  · simp only [em_X29_does, dm_X29_does, eu_X29_does_339, du_X29_does_339, eu_X29_does_310, du_X29_does_310, eu_X29_does_272, du_X29_does_272, eu_X29_does_230, du_X29_does_230, eu_X29_does_200, du_X29_does_200, eu_X29_does_157, du_X29_does_157, eu_X29_does_121, du_X29_does_121, eu_X29_does_73, du_X29_does_73, hj', w1, w4, Option.bind_some, jls, k1, eq_self, and_false, false_and, and_true, true_and, if_true, if_false, reduceIte, Int.reduceEq, Int.reduceLT, Int.reduceLE, Int.reduceNeg, not_false_eq_true, Option.bind_some, jls]
    rw [Int.add_comm (I_shl p.2.2.2.2 12)]
    exact fin _ (W32_lo _)
  by_cases k2 : p.1 = 2
  · simp only [eu_X29_does_73, du_X29_does_73, eu_X29_does_121, du_X29_does_121, eu_X29_does_157, du_X29_does_157, eu_X43_work_106, du_X43_work_106, eu_X43_work_132, du_X43_work_132, hj', w1, w4, Option.bind_some, jls, k2, g26, g11, eq_self, and_false, false_and, and_true, true_and, if_true, if_false, reduceIte, Int.reduceEq, Int.reduceLT, Int.reduceLE, Int.reduceNeg, not_false_eq_true, Option.bind_some, jls, jzb_in (show (1 : Int) = 0 ∨ (1 : Int) = 1 by omega)]
    have q11 : jf (jp (jp (jp t 47 U 28 0) 47 U 27 (W32 (jf t 47 U 11 + p.2.2.2.2))) 47 U 28 1) 47 U 11 = jf t 47 U 11 := by simp only [eq_self, or_true, true_or, or_false, false_or, jfc_jp, jupp_p, jup_a, Int.add_right_inj, Int.add_left_inj, Int.reduceEq, if_true, if_false, true_and, and_true, false_and, and_false, reduceIte]
    have q25 : jf (jp (jp (jp t 47 U 28 0) 47 U 27 (W32 (jf t 47 U 11 + p.2.2.2.2))) 47 U 28 1) 47 U 25 = jf t 47 U 25 := by simp only [eq_self, or_true, true_or, or_false, false_or, jfc_jp, jupp_p, jup_a, Int.add_right_inj, Int.add_left_inj, Int.reduceEq, if_true, if_false, true_and, and_true, false_and, and_false, reduceIte]
    rw [q11, q25, haa]
    refine jE2_eqL ?_ (jmp _ (W32_lo _) (W32_ev (by have := o5 (.inl k2); omega)))
    obtain ⟨r1, r2, e1, e2, w, f, g1, g2⟩ := jE2_get (p_put W0 (r := p.2.1) (v := aa) o1.1 o1.2 (by rw [← haa]; exact W32_lo _))
    rw [e1]
    have hq : jrd r1.1 34 (M + 9) 4 = some p.2.2.2.2 := by
      have hk' : jK r1.1 (M + 9) = 34 := by rw [f.1.1.1]; exact hK.2.2.1
      rw [jrd_in (by omega) hk', f.2.2.1, w4]
    simp only [Option.bind_some, hq]
  by_cases k3 : p.1 = 3
  · simp only [eu_X29_does_73, du_X29_does_73, eu_X29_does_121, du_X29_does_121, eu_X29_does_157, du_X29_does_157, eu_X43_work_106, du_X43_work_106, eu_X43_work_132, du_X43_work_132, hj', w1, w4, Option.bind_some, jls, k3, g26, g11, eq_self, and_false, false_and, and_true, true_and, if_true, if_false, reduceIte, Int.reduceEq, Int.reduceLT, Int.reduceLE, Int.reduceNeg, not_false_eq_true, Option.bind_some, jls, jzb_in (show (1 : Int) = 0 ∨ (1 : Int) = 1 by omega)]
    have q11 : jf (jp (jp (jp t 47 U 28 0) 47 U 27 (I_and (W32 (RA + p.2.2.2.2)) (-2))) 47 U 28 1) 47 U 11 = jf t 47 U 11 := by simp only [eq_self, or_true, true_or, or_false, false_or, jfc_jp, jupp_p, jup_a, Int.add_right_inj, Int.add_left_inj, Int.reduceEq, if_true, if_false, true_and, and_true, false_and, and_false, reduceIte]
    have q25 : jf (jp (jp (jp t 47 U 28 0) 47 U 27 (I_and (W32 (RA + p.2.2.2.2)) (-2))) 47 U 28 1) 47 U 25 = jf t 47 U 25 := by simp only [eq_self, or_true, true_or, or_false, false_or, jfc_jp, jupp_p, jup_a, Int.add_right_inj, Int.add_left_inj, Int.reduceEq, if_true, if_false, true_and, and_true, false_and, and_false, reduceIte]
    rw [q11, q25, haa]
    refine jE2_eqL ?_ (jmp _ (I_and_b _ _) (I_ev _))
    obtain ⟨r1, r2, e1, e2, w, f, g1, g2⟩ := jE2_get (p_put W0 (r := p.2.1) (v := aa) o1.1 o1.2 (by rw [← haa]; exact W32_lo _))
    rw [e1]
    have hq : jrd r1.1 34 (M + 9) 4 = some p.2.2.2.2 := by
      have hk' : jK r1.1 (M + 9) = 34 := by rw [f.1.1.1]; exact hK.2.2.1
      rw [jrd_in (by omega) hk', f.2.2.1, w4]
    simp only [Option.bind_some, hq]
  by_cases k9 : p.1 < 10
  · have z1 : ¬ p.1 = 46 := by omega
    have z2 : ¬ p.1 = 47 := by omega
    have z3 : ¬ p.1 < 4 := by omega
    have z4 : ¬ p.1 < 2 := by omega
    have z5 : p.1 < 15 := by omega
    have z6 : p.1 < 18 := by omega
    have z7 : p.1 < 27 := by omega
    simp only [em_X29_does, dm_X29_does, eu_X29_does_339, du_X29_does_339, eu_X29_does_310, du_X29_does_310, eu_X29_does_272, du_X29_does_272, eu_X29_does_230, du_X29_does_230, eu_X29_does_200, du_X29_does_200, eu_X29_does_157, du_X29_does_157, eu_X29_does_121, du_X29_does_121, eu_X29_does_73, du_X29_does_73, hj', w4, Option.bind_some, jls, k0, k1, k2, k3, k9, z1, z2, z3, z4, z5, z6, z7, eq_self, and_false, false_and, and_true, true_and, if_true, if_false, reduceIte, Int.reduceEq, Int.reduceLT, Int.reduceLE, Int.reduceNeg, not_false_eq_true, Option.bind_some, jls]
    obtain ⟨v, hv1, hv2, hv3⟩ := s_holds s (jp (jp t 47 U 28 0) 47 U 27 (W32 (jf t 47 U 11 + p.2.2.2.2))) p.1 RA RB
    have q26 : jf (jp (jp t 47 U 28 0) 47 U 27 (W32 (jf t 47 U 11 + p.2.2.2.2))) 47 U 26 = p.1 := by simp only [eq_self, or_true, true_or, or_false, false_or, jfc_jp, jupp_p, jup_a, Int.add_right_inj, Int.add_left_inj, Int.reduceEq, if_true, if_false, true_and, and_true, false_and, and_false, reduceIte]; exact v26
    rw [hv1, q26, hv2]
    simp only [Option.bind_some, jzb_in hv3]
    have W2 : Wk s M (jp (jp (jp t 47 U 28 0) 47 U 27 (W32 (jf t 47 U 11 + p.2.2.2.2))) 47 U 28 v) U n k u := (W0.tw (by omega)).tw (by omega)
    rcases hv3 with e | e
    · subst e
      rw [if_pos rfl]
      exact jE2_mono (p_plain W2 (a := aa) (by simp only [eq_self, or_true, true_or, or_false, false_or, jfc_jp, jupp_p, jup_a, Int.add_right_inj, Int.add_left_inj, Int.reduceEq, if_true, if_false, true_and, and_true, false_and, and_false, reduceIte]; exact haa.symm) (by simp only [eq_self, or_true, true_or, or_false, false_or, jfc_jp, jupp_p, jup_a, Int.add_right_inj, Int.add_left_inj, Int.reduceEq, if_true, if_false, true_and, and_true, false_and, and_false, reduceIte]; exact w5') (by simp only [eq_self, or_true, true_or, or_false, false_or, jfc_jp, jupp_p, jup_a, Int.add_right_inj, Int.add_left_inj, Int.reduceEq, if_true, if_false, true_and, and_true, false_and, and_false, reduceIte]) (by simp only [eq_self, or_true, true_or, or_false, false_or, jfc_jp, jupp_p, jup_a, Int.add_right_inj, Int.add_left_inj, Int.reduceEq, if_true, if_false, true_and, and_true, false_and, and_false, reduceIte]; exact hz)) fun _ _ q => q.of (((Wf.tw (x := 28) (v := 0)).trans Wf.tw).trans Wf.tw) (((Wg.tw (x := 28) (v := 0) (by omega)).trans (Wg.tw (by omega))).trans (Wg.tw (by omega)))
    · subst e
      rw [if_neg (by omega)]
      have hJ := p_jump W2 (to := W32 (jf t 47 U 11 + p.2.2.2.2)) (W32_lo _) (W32_ev (by have := o5 (.inr (by omega)); omega)) (by simp only [eq_self, or_true, true_or, or_false, false_or, jfc_jp, jupp_p, jup_a, Int.add_right_inj, Int.add_left_inj, Int.reduceEq, if_true, if_false, true_and, and_true, false_and, and_false, reduceIte]) (by simp only [eq_self, or_true, true_or, or_false, false_or, jfc_jp, jupp_p, jup_a, Int.add_right_inj, Int.add_left_inj, Int.reduceEq, if_true, if_false, true_and, and_true, false_and, and_false, reduceIte]) (by simp only [eq_self, or_true, true_or, or_false, false_or, jfc_jp, jupp_p, jup_a, Int.add_right_inj, Int.add_left_inj, Int.reduceEq, if_true, if_false, true_and, and_true, false_and, and_false, reduceIte]; exact hz)
      obtain ⟨r, q, h1, h2, h3⟩ := jE2_get hJ
      refine jE2_mk (r := (r.1, 0)) (by rw [h1]; rfl) h2 ?_
      exact (show WE s M _ U n k u (r.1, 0) q from ⟨h3.1, h3.2.1, h3.2.2⟩).of (((Wf.tw (x := 28) (v := 0)).trans Wf.tw).trans Wf.tw) (((Wg.tw (x := 28) (v := 0) (by omega)).trans (Wg.tw (by omega))).trans (Wg.tw (by omega)))
  by_cases k15 : p.1 < 15
  · simp only [k0, k1, k2, k3, k9, k15, w4, Option.bind_some, eq_self, and_false, false_and, and_true, true_and, if_true, if_false, reduceIte, Int.reduceEq, Int.reduceLT, Int.reduceLE, Int.reduceNeg, not_false_eq_true, Option.bind_some, jls]
    have hL := p_loads W0 hW0 (by omega) (hA (by omega)) ha0 g28 g17
    obtain ⟨r, q, h1, h2, h3⟩ := jE2_get hL
    refine jE2_mk (r := (r.1, 0)) (by rw [h1]; rfl) h2 (back ⟨h3.1, h3.2.1, h3.2.2⟩)
  have z1 : ¬ p.1 < 2 := by omega
  have z2 : ¬ p.1 < 4 := by omega
  by_cases k18 : p.1 < 18
  · have z3 : ¬ p.1 = 46 := by omega
    have z4 : ¬ p.1 = 47 := by omega
    simp only [em_X29_does, dm_X29_does, eu_X29_does_339, du_X29_does_339, eu_X29_does_310, du_X29_does_310, eu_X29_does_272, du_X29_does_272, eu_X29_does_230, du_X29_does_230, eu_X29_does_200, du_X29_does_200, eu_X29_does_157, du_X29_does_157, eu_X29_does_121, du_X29_does_121, eu_X29_does_73, du_X29_does_73, hj', w4, Option.bind_some, jls, k0, k1, k2, k3, k9, k15, k18, z1, z2, z3, z4, eq_self, and_false, false_and, and_true, true_and, if_true, if_false, reduceIte, Int.reduceEq, Int.reduceLT, Int.reduceLE, Int.reduceNeg, not_false_eq_true, Option.bind_some, jls, e_X43_widthOf]
    have hwd : (if p.1 = 10 then (1 : Int) else if p.1 = 13 then 1 else if p.1 = 15 then 1 else if p.1 = 11 then 2 else if p.1 = 14 then 2 else if p.1 = 16 then 2 else 4) = wid p.1 := rfl
    have hs : I_shl 1 (W32 (p.1 - 15)) = wid p.1 := by
      have hc : p.1 = 15 ∨ p.1 = 16 ∨ p.1 = 17 := by omega
      rcases hc with e | e | e <;> rw [e, W32_in (by omega) (by omega), i_shl_p (by omega) (by omega)] <;> exact W32_in (by decide) (by decide)
    rw [hwd, hs]
    have hwn := wid_n p.1
    obtain ⟨m, hm, hm'⟩ : ∃ m : Nat, wid p.1 = (m : Int) ∧ (m = 1 ∨ m = 2 ∨ m = 4) := by
      rcases hwn with e | e | e
      · exact ⟨1, e, .inl rfl⟩
      · exact ⟨2, e, .inr (.inl rfl)⟩
      · exact ⟨4, e, .inr (.inr rfl)⟩
    have hA' := hA (by omega)
    rw [hm] at hA' ⊢
    refine jE2_call (p_store W0 hm' hA'.1 hA'.2 rb.2) fun x y ⟨w, f, e1, e2⟩ => ?_
    exact jE2_mono (p_plain w (a := aa) (by rw [e2]; exact ha0) (by rw [e2]; exact hb0) (by rw [e2]; exact g28) (by rw [e2]; exact g17)) fun _ _ q => back (q.of f (Wg.of e1 e2))
  by_cases k27 : p.1 < 27
  · have z3 : ¬ p.1 = 46 := by omega
    have z4 : ¬ p.1 = 47 := by omega
    simp only [em_X29_does, dm_X29_does, eu_X29_does_339, du_X29_does_339, eu_X29_does_310, du_X29_does_310, eu_X29_does_272, du_X29_does_272, eu_X29_does_230, du_X29_does_230, eu_X29_does_200, du_X29_does_200, eu_X29_does_157, du_X29_does_157, eu_X29_does_121, du_X29_does_121, eu_X29_does_73, du_X29_does_73, hj', w1, w4, Option.bind_some, jls, k0, k1, k2, k3, k9, k15, k18, k27, z1, z2, z3, z4, eq_self, and_false, false_and, and_true, true_and, if_true, if_false, reduceIte, Int.reduceEq, Int.reduceLT, Int.reduceLE, Int.reduceNeg, not_false_eq_true, Option.bind_some, jls, e_X29_asRow]
    rw [s_reckC _ (by omega), s_reck _ (by omega), v_reck1 (by omega) k27]
    exact fin _ (reck_b ra.2 (by omega))
  by_cases k45 : p.1 < 45
  · have z3 : ¬ p.1 = 46 := by omega
    have z4 : ¬ p.1 = 47 := by omega
    simp only [em_X29_does, dm_X29_does, eu_X29_does_339, du_X29_does_339, eu_X29_does_310, du_X29_does_310, eu_X29_does_272, du_X29_does_272, eu_X29_does_230, du_X29_does_230, eu_X29_does_200, du_X29_does_200, eu_X29_does_157, du_X29_does_157, eu_X29_does_121, du_X29_does_121, eu_X29_does_73, du_X29_does_73, hj', w1, w4, Option.bind_some, jls, k0, k1, k2, k3, k9, k15, k18, k27, k45, z1, z2, z3, z4, eq_self, and_false, false_and, and_true, true_and, if_true, if_false, reduceIte, Int.reduceEq, Int.reduceLT, Int.reduceLE, Int.reduceNeg, not_false_eq_true, Option.bind_some, jls]
    rw [s_reckC _ rb.2, s_reck _ rb.2, v_reck2 (by omega) k45]
    exact fin _ (reck_b ra.2 rb.2)
  by_cases k46 : p.1 = 46
  · simp only [em_X29_does, dm_X29_does, eu_X29_does_339, du_X29_does_339, eu_X29_does_310, du_X29_does_310, eu_X29_does_272, du_X29_does_272, eu_X29_does_230, du_X29_does_230, eu_X29_does_200, du_X29_does_200, eu_X29_does_157, du_X29_does_157, eu_X29_does_121, du_X29_does_121, eu_X29_does_73, du_X29_does_73, Option.bind_some, jls, k46, eq_self, and_false, false_and, and_true, true_and, if_true, if_false, reduceIte, Int.reduceEq, Int.reduceLT, Int.reduceLE, Int.reduceNeg, not_false_eq_true, Option.bind_some, jls]
    have hL := p_serve W0 ha0 hb0 g28 g17 (by rw [g20]; exact hst)
    obtain ⟨r, q, h1, h2, h3⟩ := jE2_get hL
    refine jE2_mk (r := (r.1, 0)) (by rw [h1]; rfl) h2 (back ⟨h3.1, h3.2.1, h3.2.2⟩)
  by_cases k47 : p.1 = 47
  · simp only [em_X29_does, dm_X29_does, eu_X29_does_339, du_X29_does_339, eu_X29_does_310, du_X29_does_310, eu_X29_does_272, du_X29_does_272, eu_X29_does_230, du_X29_does_230, eu_X29_does_200, du_X29_does_200, eu_X29_does_157, du_X29_does_157, eu_X29_does_121, du_X29_does_121, eu_X29_does_73, du_X29_does_73, Option.bind_some, jls, k47, c10, eq_self, and_false, false_and, and_true, true_and, if_true, if_false, reduceIte, Int.reduceEq, Int.reduceLT, Int.reduceLE, Int.reduceNeg, not_false_eq_true, Option.bind_some, jls]
    exact jE2_mono (p_stop W0 (x := 6) (by omega) g11.symm) fun _ _ q => back q
  · simp only [em_X29_does, dm_X29_does, eu_X29_does_339, du_X29_does_339, eu_X29_does_310, du_X29_does_310, eu_X29_does_272, du_X29_does_272, eu_X29_does_230, du_X29_does_230, eu_X29_does_200, du_X29_does_200, eu_X29_does_157, du_X29_does_157, eu_X29_does_121, du_X29_does_121, eu_X29_does_73, du_X29_does_73, hj', w1, w4, Option.bind_some, jls, k0, k1, k2, k3, k9, k15, k18, k27, k45, k46, k47, z1, z2, eq_self, and_false, false_and, and_true, true_and, if_true, if_false, reduceIte, Int.reduceEq, Int.reduceLT, Int.reduceLE, Int.reduceNeg, not_false_eq_true, Option.bind_some, jls]
    exact jE2_mono (p_plain W0 ha0 hb0 g28 g17) fun _ _ q => back q
end jMdoes
