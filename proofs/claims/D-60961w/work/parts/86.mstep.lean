/-! a step -/
section jMstep
variable {s t : jS} {M U : Int}
/-- what the component changes ahead of the word's work -/
def Rs (s s' : jS) (M N : Int) : Prop := jSm s s' ∧ ∀ c a k, ¬ (c = 36 ∧ a = N) → ¬ (c = 34 ∧ a = M + 9) → ¬ (c = 33 ∧ a = M ∧ (k = 22 ∨ k = 11 ∨ k = 12 ∨ k = 15)) → jf s' c a k = jf s c a k
theorem Rs.trans {u : jS} {N : Int} (h : Rs s t M N) (g : Rs t u M N) : Rs s u M N := ⟨h.1.trans g.1, fun c a k x y z => (g.2 c a k x y z).trans (h.2 c a k x y z)⟩
theorem Rs.of {N : Int} (h : Cw s t M) : Rs s t M N := ⟨h.1, fun c a k _ y _ => h.2 c a k y⟩
theorem Rs.jp {N k v : Int} (h : Rs s t M N) (hk : k = 22 ∨ k = 11 ∨ k = 12 ∨ k = 15) : Rs s (jp t 33 M k v) M N := ⟨h.1.jp, fun c a j x y z => by rw [jf_jp, if_neg (fun w => z ⟨w.1, w.2.1, by rw [w.2.2]; exact hk⟩)]; exact h.2 c a j x y z⟩
/-- what the twin changes -/
def Rt (t t' : jS) (U : Int) : Prop := jSm t t' ∧ ∀ c a k, ¬ (c = 1000 ∧ a = U + 2) → ¬ (c = 47 ∧ a = U ∧ (25 ≤ k ∨ k = 17 ∨ k = 18)) → jf t' c a k = jf t c a k
theorem Rt.trans {u : jS} (h : Rt s t U) (g : Rt t u U) : Rt s u U := ⟨h.1.trans g.1, fun c a k x y => (g.2 c a k x y).trans (h.2 c a k x y)⟩
theorem Rt.of (h : Tw s t U) : Rt s t U := ⟨h.1, fun c a k x y => h.2 c a k x (fun z => y ⟨z.1, z.2.1, .inl z.2.2.1⟩)⟩
theorem Rt.jp {k v : Int} (h : Rt s t U) (hk : 25 ≤ k ∨ k = 17 ∨ k = 18) : Rt s (jp t 47 U k v) U := ⟨h.1.jp, fun c a j x y => by rw [jf_jp, if_neg (fun w => y ⟨w.1, w.2.1, by rw [w.2.2]; exact hk⟩)]; exact h.2 c a j x y⟩
/-- a step that fails -/
theorem fail_Mr {s' t' : jS} (h : Mr s M t U) (hs : Rs s s' M (M + 18 + jf s 33 M 20)) (ht : Rt t t' U) (h11 : jf s' 33 M 11 = jf t' 47 U 17) (h12 : jf s' 33 M 12 = jf t' 47 U 18) (h15 : jf s' 33 M 15 = jf s 33 M 15) : Mr s' M t' U := by
  obtain ⟨hK, hP, hMem, hMark, hSeg, hReg, hIn, hOut, hHalt, hSc, hRing⟩ := h
  have hM0 := hK.1
  have c1 : ∀ c a, ¬ c = 36 → ¬ c = 34 → ¬ c = 33 → jf s' c a = jf s c a := fun c a x y z => jf_fn fun k => hs.2 c a k (by omega) (by omega) (by omega)
  have c35 : jf s' 35 = jf s 35 := jf_fn2 fun a k => hs.2 35 a k (by omega) (by omega) (by omega)
  have cC : ∀ k, ¬ k = 22 → ¬ k = 11 → ¬ k = 12 → ¬ k = 15 → jf s' 33 M k = jf s 33 M k := fun k x y z w => hs.2 33 M k (by omega) (by omega) (by omega)
  have d1 : ∀ c a, ¬ c = 47 → ¬ (c = 1000 ∧ a = U + 2) → jf t' c a = jf t c a := fun c a x y => jf_fn fun k => ht.2 c a k y (by omega)
  have dD : ∀ k, k < 25 → ¬ k = 17 → ¬ k = 18 → jf t' 47 U k = jf t 47 U k := fun k x y z => ht.2 47 U k (by omega) (by omega)
  refine ⟨hK.sm hs.1, hP.at (d1 _ _ (by omega) (by omega)), ?_, ?_, ?_, ?_, ?_, ?_, ?_, ?_, ?_⟩
  · rw [c1 _ _ (by omega) (by omega) (by omega), d1 _ _ (by omega) (by omega)]; exact hMem
  · rw [c1 _ _ (by omega) (by omega) (by omega), d1 _ _ (by omega) (by omega)]; exact hMark
  · rw [c35, d1 _ (U + 5) (by omega) (by omega), d1 _ (U + 6) (by omega) (by omega), d1 _ (U + 7) (by omega) (by omega)]; exact hSeg
  · rw [c1 _ _ (by omega) (by omega) (by omega), d1 _ _ (by omega) (by omega)]; exact hReg
  · rw [c1 1001 _ (by omega) (by omega) (by omega), d1 1000 _ (by omega) (by omega)]
    unfold MrIn at *
    rw [cC 16 (by omega) (by omega) (by omega) (by omega), dD 13 (by omega) (by omega) (by omega)]; exact hIn
  · rw [c1 _ _ (by omega) (by omega) (by omega), d1 _ _ (by omega) (by omega)]; exact hOut
  · rw [c1 1000 _ (by omega) (by omega) (by omega), d1 1000 _ (by omega) (by omega)]
    unfold MrHalt at *
    rw [cC 19 (by omega) (by omega) (by omega) (by omega), dD 9 (by omega) (by omega) (by omega)]; exact hHalt
  · unfold MrSc at *
    rw [cC 9 (by omega) (by omega) (by omega) (by omega), cC 10 (by omega) (by omega) (by omega) (by omega), cC 13 (by omega) (by omega) (by omega) (by omega), cC 14 (by omega) (by omega) (by omega) (by omega), h15, cC 17 (by omega) (by omega) (by omega) (by omega), cC 18 (by omega) (by omega) (by omega) (by omega), dD 7 (by omega) (by omega) (by omega), dD 11 (by omega) (by omega) (by omega), dD 19 (by omega) (by omega) (by omega), dD 20 (by omega) (by omega) (by omega), dD 21 (by omega) (by omega) (by omega), dD 14 (by omega) (by omega) (by omega), dD 13 (by omega) (by omega) (by omega), dD 16 (by omega) (by omega) (by omega)]
    exact ⟨hSc.1, hSc.2.1, hSc.2.2.1, h11, h12, hSc.2.2.2.2.2⟩
  · rw [d1 1000 _ (by omega) (by omega)]
    unfold MrRing at *
    rw [cC 20 (by omega) (by omega) (by omega) (by omega), cC 21 (by omega) (by omega) (by omega) (by omega), dD 23 (by omega) (by omega) (by omega), dD 24 (by omega) (by omega) (by omega), dD 13 (by omega) (by omega) (by omega)]
    refine ⟨hRing.1, hRing.2.1, hRing.2.2.1, hRing.2.2.2.1, hRing.2.2.2.2.1, hRing.2.2.2.2.2.1, hRing.2.2.2.2.2.2.1, fun j j0 j1 => ?_⟩
    have e : jf s' 36 (M + 18 + (jf s 33 M 20 - j) % 101) = jf s 36 (M + 18 + (jf s 33 M 20 - j) % 101) := jf_fn fun k => hs.2 36 _ k (by omega) (by omega) (by omega)
    rw [e]
    exact hRing.2.2.2.2.2.2.2 j j0 j1
theorem s_note (hK : MrK s M) (h0 : 0 ≤ jf s 33 M 20) (h1 : jf s 33 M 20 ≤ 100) : ∃ s1, m_X29_note s M = some (s1, 0) ∧ Rs s s1 M (M + 18 + jf s 33 M 20) ∧ (∀ k, ¬ k = 22 → jf s1 33 M k = jf s 33 M k) ∧ jf s1 33 M 22 = M + 18 + jf s 33 M 20 ∧
    jf s1 36 (M + 18 + jf s 33 M 20) 0 = jf s 33 M 10 ∧ jf s1 36 (M + 18 + jf s 33 M 20) 1 = jf s 33 M 11 ∧ jf s1 36 (M + 18 + jf s 33 M 20) 2 = jf s 33 M 12 ∧ jf s1 36 (M + 18 + jf s 33 M 20) 3 = jf s 33 M 13 ∧ jf s1 36 (M + 18 + jf s 33 M 20) 4 = jf s 33 M 14 ∧ jf s1 36 (M + 18 + jf s 33 M 20) 5 = jf s 33 M 15 ∧ jf s1 36 (M + 18 + jf s 33 M 20) 6 = jf s 33 M 18 ∧ jf s1 36 (M + 18 + jf s 33 M 20) 7 = jf s 33 M 17 ∧ jf s1 36 (M + 18 + jf s 33 M 20) 8 = -1 ∧ jf s1 36 (M + 18 + jf s 33 M 20) 11 = 0 := by
  have hM0 := hK.1
  rw [em_X29_note]; unfold dm_X29_note
  rw [jix_in h0 (by omega), Option.bind_some, show M + 8 + 10 + 1 * jf s 33 M 20 = M + 18 + jf s 33 M 20 by omega]
  generalize hN : M + 18 + jf s 33 M 20 = N
  have kN : ∀ u : jS, jSm s u → jK u N = 36 := fun u hu => by rw [hu.1, ← hN]; exact hK.2.2.2 _ h0 h1
  have N0 : 0 ≤ N := by omega
  simp only [jls]
  have p0 : jSm s (jp s 33 M 22 N) ∧ (∀ c a k, ¬ (c = 36 ∧ a = N) → ¬ (c = 33 ∧ a = M ∧ k = 22) → jf (jp s 33 M 22 N) c a k = jf s c a k) ∧ jf (jp s 33 M 22 N) 33 M 22 = N := ⟨jSm.rfl.jp, fun c a k _ y => by rw [jf_jp, if_neg y], by simp only [eq_self, or_true, true_or, or_false, false_or, jfc_jp, jupp_p, jup_a, Int.add_right_inj, Int.add_left_inj, Int.reduceEq, if_true, if_false, true_and, and_true, false_and, and_false, reduceIte]⟩
  have stp : ∀ (u : jS) (k v : Int), (jSm s u ∧ (∀ c a k, ¬ (c = 36 ∧ a = N) → ¬ (c = 33 ∧ a = M ∧ k = 22) → jf u c a k = jf s c a k) ∧ jf u 33 M 22 = N) → jwr u 36 (jf u 33 M 22) k v = some (jp u 36 N k v) ∧ (jSm s (jp u 36 N k v) ∧ (∀ c a j, ¬ (c = 36 ∧ a = N) → ¬ (c = 33 ∧ a = M ∧ j = 22) → jf (jp u 36 N k v) c a j = jf s c a j) ∧ jf (jp u 36 N k v) 33 M 22 = N) := fun u k v h =>
    ⟨by rw [h.2.2, jwr_in N0 (kN u h.1)], h.1.jp, fun c a j x y => by rw [jf_jp, if_neg (fun z => x ⟨z.1, z.2.1⟩)]; exact h.2.1 c a j x y, by rw [jf_jp, if_neg (by omega)]; exact h.2.2⟩
  obtain ⟨e1, p1⟩ := stp _ 0 (jf s 33 M 10) p0
  rw [p0.2.1 33 M 10 (by omega) (by omega), e1, Option.bind_some]
  obtain ⟨e2, p2⟩ := stp _ 1 (jf s 33 M 11) p1
  rw [p1.2.1 33 M 11 (by omega) (by omega), e2, Option.bind_some]
  obtain ⟨e3, p3⟩ := stp _ 2 (jf s 33 M 12) p2
  rw [p2.2.1 33 M 12 (by omega) (by omega), e3, Option.bind_some]
  obtain ⟨e4, p4⟩ := stp _ 3 (jf s 33 M 13) p3
  rw [p3.2.1 33 M 13 (by omega) (by omega), e4, Option.bind_some]
  obtain ⟨e5, p5⟩ := stp _ 4 (jf s 33 M 14) p4
  rw [p4.2.1 33 M 14 (by omega) (by omega), e5, Option.bind_some]
  obtain ⟨e6, p6⟩ := stp _ 5 (jf s 33 M 15) p5
  rw [p5.2.1 33 M 15 (by omega) (by omega), e6, Option.bind_some]
  obtain ⟨e7, p7⟩ := stp _ 6 (jf s 33 M 18) p6
  rw [p6.2.1 33 M 18 (by omega) (by omega), e7, Option.bind_some]
  obtain ⟨e8, p8⟩ := stp _ 7 (jf s 33 M 17) p7
  rw [p7.2.1 33 M 17 (by omega) (by omega), e8, Option.bind_some]
  obtain ⟨e9, p9⟩ := stp _ 8 (-1) p8
  rw [e9, Option.bind_some]
  obtain ⟨e10, p10⟩ := stp _ 11 0 p9
  rw [e10, Option.bind_some]
  refine ⟨_, rfl, ⟨p10.1, fun c a k x y z => p10.2.1 c a k x (by omega)⟩, fun k hk => p10.2.1 33 M k (by omega) (by omega), p10.2.2, ?_, ?_, ?_, ?_, ?_, ?_, ?_, ?_, ?_, ?_⟩
  all_goals simp only [eq_self, or_true, true_or, or_false, false_or, jfc_jp, jupp_p, jup_a, Int.add_right_inj, Int.add_left_inj, Int.reduceEq, if_true, if_false, true_and, and_true, false_and, and_false, reduceIte]
theorem s_keep (h0 : 0 ≤ jf t 47 U 24) (h1 : jf t 47 U 24 ≤ 99) (h2 : 0 ≤ jf t 47 U 23) (h3 : jf t 47 U 23 ≤ 100) : ∃ t1, m_X43_keep t U = some (t1, 0) ∧ jSm t t1 ∧ (∀ c a k, ¬ (c = 1000 ∧ a = U + 12 ∧ 13 * jf t 47 U 24 ≤ k ∧ k ≤ 13 * jf t 47 U 24 + 12) → ¬ (c = 47 ∧ a = U ∧ (k = 23 ∨ k = 24)) → jf t1 c a k = jf t c a k) ∧
    jf t1 47 U 24 = (jf t 47 U 24 + 1) % 100 ∧ jf t1 47 U 23 = (if jf t 47 U 23 < 100 then jf t 47 U 23 + 1 else 100) ∧
    jf t1 1000 (U + 12) (13 * jf t 47 U 24) = jf t 47 U 11 ∧ jf t1 1000 (U + 12) (13 * jf t 47 U 24 + 1) = jf t 47 U 17 ∧ jf t1 1000 (U + 12) (13 * jf t 47 U 24 + 2) = jf t 47 U 18 ∧ jf t1 1000 (U + 12) (13 * jf t 47 U 24 + 3) = jf t 47 U 19 ∧ jf t1 1000 (U + 12) (13 * jf t 47 U 24 + 4) = jf t 47 U 20 ∧ jf t1 1000 (U + 12) (13 * jf t 47 U 24 + 5) = jf t 47 U 21 ∧ jf t1 1000 (U + 12) (13 * jf t 47 U 24 + 6) = jf t 47 U 16 ∧ jf t1 1000 (U + 12) (13 * jf t 47 U 24 + 7) = jf t 47 U 14 ∧ jf t1 1000 (U + 12) (13 * jf t 47 U 24 + 8) = 0 ∧ jf t1 1000 (U + 12) (13 * jf t 47 U 24 + 10) = -1 := by
  rw [em_X43_keep]; unfold dm_X43_keep
  simp only [jlet, em_X43_keep, dm_X43_keep, eu_X43_keep_158, du_X43_keep_158, jls]
  generalize hD : jf t 47 U 24 = d at *
  have wn : ∀ k, 0 ≤ k → k ≤ 12 → W32 (13 * d + k) = 13 * d + k := fun k a b => W32_in (by omega) (by omega)
  have w0 : W32 (13 * d) = 13 * d := W32_in (by omega) (by omega)
  rw [w0, wn 1 (by omega) (by omega), wn 2 (by omega) (by omega), wn 3 (by omega) (by omega), wn 4 (by omega) (by omega), wn 5 (by omega) (by omega), wn 6 (by omega) (by omega), wn 7 (by omega) (by omega), wn 8 (by omega) (by omega), wn 10 (by omega) (by omega)]
  have stp : ∀ (u : jS) (k v : Int), 0 ≤ k → k ≤ 12 → (jSm t u ∧ (∀ c a k, ¬ (c = 1000 ∧ a = U + 12 ∧ 13 * d ≤ k ∧ k ≤ 13 * d + 12) → jf u c a k = jf t c a k)) → jst u 1000 (U + 12) 1300 (13 * d + k) v = some (jp u 1000 (U + 12) (13 * d + k) v) ∧ (jSm t (jp u 1000 (U + 12) (13 * d + k) v) ∧ (∀ c a j, ¬ (c = 1000 ∧ a = U + 12 ∧ 13 * d ≤ j ∧ j ≤ 13 * d + 12) → jf (jp u 1000 (U + 12) (13 * d + k) v) c a j = jf t c a j)) := fun u k v k0 k1 h =>
    ⟨by rw [jst_in (by omega) (by omega)], h.1.jp, fun c a j x => by rw [jf_jp, if_neg (by omega)]; exact h.2 c a j x⟩
  have p0 : jSm t (jp t 1000 (U + 12) (13 * d) (jf t 47 U 11)) ∧ (∀ c a k, ¬ (c = 1000 ∧ a = U + 12 ∧ 13 * d ≤ k ∧ k ≤ 13 * d + 12) → jf (jp t 1000 (U + 12) (13 * d) (jf t 47 U 11)) c a k = jf t c a k) := ⟨jSm.rfl.jp, fun c a j x => by rw [jf_jp, if_neg (by omega)]⟩
  rw [jst_in (show 0 ≤ 13 * d by omega) (show 13 * d < 1300 by omega), Option.bind_some]
  obtain ⟨e1, p1⟩ := stp _ 1 (jf t 47 U 17) (by omega) (by omega) p0
  rw [p0.2 47 U 17 (by omega), e1, Option.bind_some]
  obtain ⟨e2, p2⟩ := stp _ 2 (jf t 47 U 18) (by omega) (by omega) p1
  rw [p1.2 47 U 18 (by omega), e2, Option.bind_some]
  obtain ⟨e3, p3⟩ := stp _ 3 (jf t 47 U 19) (by omega) (by omega) p2
  rw [p2.2 47 U 19 (by omega), e3, Option.bind_some]
  obtain ⟨e4, p4⟩ := stp _ 4 (jf t 47 U 20) (by omega) (by omega) p3
  rw [p3.2 47 U 20 (by omega), e4, Option.bind_some]
  obtain ⟨e5, p5⟩ := stp _ 5 (jf t 47 U 21) (by omega) (by omega) p4
  rw [p4.2 47 U 21 (by omega), e5, Option.bind_some]
  obtain ⟨e6, p6⟩ := stp _ 6 (jf t 47 U 16) (by omega) (by omega) p5
  rw [p5.2 47 U 16 (by omega), e6, Option.bind_some]
  obtain ⟨e7, p7⟩ := stp _ 7 (jf t 47 U 14) (by omega) (by omega) p6
  rw [p6.2 47 U 14 (by omega), e7, Option.bind_some]
  obtain ⟨e8, p8⟩ := stp _ 8 0 (by omega) (by omega) p7
  rw [e8, Option.bind_some]
  obtain ⟨e9, p9⟩ := stp _ 10 (-1) (by omega) (by omega) p8
  rw [e9, Option.bind_some]
  rw [p9.2 47 U 24 (by omega)]
  have z : ∀ k : Int, ¬ k = 0 → (13 * d = 13 * d + k) = False := fun k hk => by simp; omega
  have z' : ∀ k : Int, ¬ k = 0 → (13 * d + k = 13 * d) = False := fun k hk => by simp; omega
  rw [hD, W32_in (z := d + 1) (by omega) (by omega), I_rem_n (by omega) (by omega) (by omega) (by omega), jdv_in (by omega), Option.bind_some]
  have q : ∀ (u : jS) (v : Int), jf u 47 U 23 = jf t 47 U 23 → jf (jp u 47 U 24 v) 47 U 23 = jf t 47 U 23 := fun u v h => by rw [jf_jp, if_neg (by omega)]; exact h
  rw [q _ _ (p9.2 47 U 23 (by omega)), W32_in (z := jf t 47 U 23 + 1) (by omega) (by omega)]
  by_cases c : jf t 47 U 23 < 100
  · rw [if_pos c, if_pos c]
    refine ⟨_, rfl, p9.1.jp.jp, fun c a k x y => ?_, ?_, ?_, ?_, ?_, ?_, ?_, ?_, ?_, ?_, ?_, ?_, ?_⟩
    · rw [jf_jp, if_neg (by omega), jf_jp, if_neg (by omega)]; exact p9.2 c a k x
    all_goals simp only [eq_self, or_true, true_or, or_false, false_or, jfc_jp, jupp_p, jup_a, Int.add_right_inj, Int.add_left_inj, Int.reduceEq, if_true, if_false, true_and, and_true, false_and, and_false, reduceIte, z, z', not_false_eq_true]
  · rw [if_neg c, if_neg c]
    refine ⟨_, rfl, p9.1.jp.jp, fun c a k x y => ?_, ?_, ?_, ?_, ?_, ?_, ?_, ?_, ?_, ?_, ?_, ?_, ?_⟩
    · rw [jf_jp, if_neg (by omega), jf_jp, if_neg (by omega)]; exact p9.2 c a k x
    all_goals simp only [eq_self, or_true, true_or, or_false, false_or, jfc_jp, jupp_p, jup_a, Int.add_right_inj, Int.add_left_inj, Int.reduceEq, if_true, if_false, true_and, and_true, false_and, and_false, reduceIte, z, z', not_false_eq_true]
end jMstep
