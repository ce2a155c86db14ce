/-! what a word does: both machines -/
section jMwork
variable {s t : jS} {M U : Int}
/-- the relation, the component's numbers told apart -/
def MrG (C : Int → Int) (s : jS) (M : Int) (t : jS) (U : Int) : Prop := MrK s M ∧ pRows t (U + 1) ∧ MrMem (jf s 1001 (M + 1)) (jf t 1000 (U + 3)) ∧ MrMark (jf s 1002 (M + 2)) (jf t 1002 (U + 4)) ∧ MrSeg M (jf s 35) (jf t 1000 (U + 5)) (jf t 1000 (U + 6)) (jf t 1000 (U + 7)) ∧ MrReg (jf s 1000 (M + 4)) (jf t 1000 (U + 9)) ∧ MrIn C (jf t 47 U) (jf s 1001 (M + 6)) (jf t 1000 (U + 10)) ∧ MrOut (jf s 1001 (M + 7)) (jf t 1000 (U + 11)) ∧ MrHalt C (jf t 47 U) (jf s 1000 (M + 5)) (jf t 1000 (U + 8)) ∧ MrSc C (jf t 47 U) ∧ MrRing M C (jf t 47 U) (jf s 36) (jf t 1000 (U + 12))
theorem MrG_Mr : MrG (jf s 33 M) s M t U ↔ Mr s M t U := Iff.rfl
/-- the component's numbers as they will be behind the step -/
def aC (C : Int → Int) (n k u : Int) : Int → Int := jup (jup (jup C 20 n) 21 k) 15 u
theorem aC_20 (C : Int → Int) (n k u : Int) : aC C n k u 20 = n := rfl
theorem aC_x (C : Int → Int) (n k u x : Int) (h1 : ¬ x = 20) (h2 : ¬ x = 21) (h3 : ¬ x = 15) : aC C n k u x = C x := by
  unfold aC; simp only [jup_a, h1, h2, h3, if_false]
theorem aC_upd (C : Int → Int) (n k u x v : Int) (h1 : ¬ x = 20) (h2 : ¬ x = 21) (h3 : ¬ x = 15) : aC (jup C x v) n k u = jup (aC C n k u) x v := by
  funext y
  unfold aC
  simp only [jup_a]
  by_cases e : y = x
  · subst e; simp only [h1, h2, h3, if_false]
  · simp only [e, if_false]
def Wk (s : jS) (M : Int) (t : jS) (U n k u : Int) : Prop := MrG (aC (jf s 33 M) n k u) s M t U ∧ jf s 33 M 22 = M + 18 + (n - 1) % 101 ∧ 1 ≤ jf t 47 U 23
theorem MrRec.cong {f g g' : Int → Int} {top r : Int} (h : MrRec f g top r) (hg : ∀ x, r ≤ x → x ≤ r + 12 → g' x = g x) : MrRec f g' top r := by
  unfold MrRec at *
  rw [hg r (by omega) (by omega), hg (r + 1) (by omega) (by omega), hg (r + 2) (by omega) (by omega), hg (r + 3) (by omega) (by omega), hg (r + 4) (by omega) (by omega), hg (r + 5) (by omega) (by omega), hg (r + 6) (by omega) (by omega), hg (r + 7) (by omega) (by omega), hg (r + 8) (by omega) (by omega), hg (r + 9) (by omega) (by omega), hg (r + 10) (by omega) (by omega), hg (r + 11) (by omega) (by omega), hg (r + 12) (by omega) (by omega)]
  exact h
/-- the newest record changes -/
theorem MrRing.top {C D C' D' : Int → Int} {f f' : Int → Int → Int} {g g' : Int → Int} (h : MrRing M C D f g) (h20 : C' 20 = C 20) (h21 : C' 21 = C 21) (h23 : D' 23 = D 23) (h24 : D' 24 = D 24) (h13 : D' 13 = D 13)
    (hf : ∀ c, ¬ c = M + 18 + (C 20 - 1) % 101 → f' c = f c) (hg : ∀ x, x < 13 * ((D 24 - 1) % 100) ∨ 13 * ((D 24 - 1) % 100) + 12 < x → g' x = g x) (hr : MrRec (f' (M + 18 + (C 20 - 1) % 101)) g' (D 13) (13 * ((D 24 - 1) % 100))) : MrRing M C' D' f' g' := by
  unfold MrRing at *
  obtain ⟨a1, a2, a3, a4, a5, a6, a7, a8⟩ := h
  refine ⟨by omega, by omega, by omega, by omega, by omega, by omega, by omega, fun j j0 j1 => ?_⟩
  rw [h20, h13, h24]
  by_cases e : j = 1
  · subst e; exact hr
  · rw [hf _ (by omega)]
    exact (a8 j j0 (by omega)).cong fun x x0 x1 => hg x (by omega)
theorem s_latest (h0 : 0 ≤ jf t 47 U 24) (h1 : jf t 47 U 24 ≤ 99) : m_X43_latest t U = some (13 * ((jf t 47 U 24 - 1) % 100)) := by
  rw [e_X43_latest, W32_in (z := jf t 47 U 24 + 100) (by omega) (by omega), W32_in (z := jf t 47 U 24 + 100 - 1) (by omega) (by omega), I_rem_n (by omega) (by omega) (by omega) (by omega), W32_in (by omega) (by omega)]
  congr 1
  omega
/-- what the parts of a step leave alone: the numbers and the word -/
def Wf (s : jS) (M : Int) (t : jS) (U : Int) (s' t' : jS) : Prop := jFm s s' M 119 ∧ jFm t t' U 13 ∧ jf s' 34 = jf s 34 ∧ jf t' 1000 (U + 2) = jf t 1000 (U + 2)
theorem Wf.rfl : Wf s M t U s t := ⟨jFm.rfl, jFm.rfl, Eq.refl _, Eq.refl _⟩
theorem Wf.trans {s' t' s2 t2 : jS} (h : Wf s M t U s' t') (g : Wf s' M t' U s2 t2) : Wf s M t U s2 t2 := ⟨h.1.trans g.1, h.2.1.trans g.2.1, g.2.2.1.trans h.2.2.1, g.2.2.2.trans h.2.2.2⟩
theorem p_put {r v n k u : Int} (h : Wk s M t U n k u) (h0 : 0 ≤ r) (h1 : r ≤ 31) (hv : -2147483648 ≤ v ∧ v ≤ 2147483647) : jE2 (m_X29_put s M r v) (m_X43_become t U r v) fun a b => Wk a.1 M b.1 U n k u ∧ Wf s M t U a.1 b.1 ∧ jf a.1 33 = jf s 33 ∧ jf b.1 47 = jf t 47 := by
  have hh := h
  obtain ⟨⟨hK, hP, hMem, hMark, hSeg, hReg, hIn, hOut, hHalt, hSc, hRing⟩, hnow, h23⟩ := h
  rw [em_X29_put, em_X43_become]; unfold dm_X29_put dm_X43_become
  by_cases e : r = 0
  · rw [if_pos e, if_pos e]
    exact jE2_some.mpr ⟨hh, Wf.rfl, Eq.refl _, Eq.refl _⟩
  rw [if_neg e, if_neg e]
  have hR := hRing
  unfold MrRing at hR
  rw [aC_20] at hR
  obtain ⟨a1, a2, a3, a4, a5, a6, a7, a8⟩ := hR
  have hrec := a8 1 (by omega) h23
  have hKn : 0 ≤ jf s 33 M 22 ∧ jK s (jf s 33 M 22) = 36 := by
    rw [hnow]
    have := hK.1
    exact ⟨by omega, hK.2.2.2 _ (by omega) (by omega)⟩
  generalize hN : M + 18 + (n - 1) % 101 = N at *
  generalize hr1 : (jf t 47 U 24 - 1) % 100 = q at *
  have hq : 0 ≤ q ∧ q < 100 := by omega
  have l1 : m_X43_latest t U = some (13 * q) := by rw [s_latest a6 a7, hr1]
  have w8 : W32 (13 * q + 8) = 13 * q + 8 := W32_in (by omega) (by omega)
  have w9 : W32 (13 * q + 9) = 13 * q + 9 := W32_in (by omega) (by omega)
  have l2 : m_X43_latest (jp t 1000 (U + 12) (13 * q + 8) r) U = some (13 * q) := by
    rw [s_latest (by simp only [eq_self, or_true, true_or, or_false, false_or, jfc_jp, jupp_p, jup_a, Int.add_right_inj, Int.add_left_inj, Int.reduceEq, if_true, if_false, true_and, and_true, false_and, and_false, reduceIte]; exact a6) (by simp only [eq_self, or_true, true_or, or_false, false_or, jfc_jp, jupp_p, jup_a, Int.add_right_inj, Int.add_left_inj, Int.reduceEq, if_true, if_false, true_and, and_true, false_and, and_false, reduceIte]; exact a7)]
    simp only [eq_self, or_true, true_or, or_false, false_or, jfc_jp, jupp_p, jup_a, Int.add_right_inj, Int.add_left_inj, Int.reduceEq, if_true, if_false, true_and, and_true, false_and, and_false, reduceIte]
    rw [hr1]
  rw [jwr_in hKn.1 hKn.2, Option.bind_some, jlt_in h0 (by omega), Option.bind_some, l1, Option.bind_some, w8, jst_in (by omega) (by omega), Option.bind_some, l2, Option.bind_some, jlt_in h0 (by omega), Option.bind_some, w9, jst_in (by omega) (by omega), Option.bind_some, jst_in h0 (by omega), Option.bind_some]
  have e22 : jf (jp s 36 (jf s 33 M 22) 8 r) 33 M 22 = jf s 33 M 22 := by simp only [eq_self, or_true, true_or, or_false, false_or, jfc_jp, jupp_p, jup_a, Int.add_right_inj, Int.add_left_inj, Int.reduceEq, if_true, if_false, true_and, and_true, false_and, and_false, reduceIte]
  rw [e22, jwr_in hKn.1 (show jK (jp s 36 (jf s 33 M 22) 8 r) _ = 36 from hKn.2), Option.bind_some, jst_in h0 (by omega), Option.bind_some, hnow]
  refine jE2_some.mpr ⟨⟨?_, ?_, ?_⟩, ⟨?_, ?_, ?_, ?_⟩, ?_, ?_⟩
  · unfold MrG; simp only [eq_self, or_true, true_or, or_false, false_or, jfc_jp, jupp_p, jup_a, Int.add_right_inj, Int.add_left_inj, Int.reduceEq, if_true, if_false, true_and, and_true, false_and, and_false, reduceIte]
    refine ⟨hK, hP.at (by simp only [eq_self, or_true, true_or, or_false, false_or, jfc_jp, jupp_p, jup_a, Int.add_right_inj, Int.add_left_inj, Int.reduceEq, if_true, if_false, true_and, and_true, false_and, and_false, reduceIte]), hMem, hMark, hSeg, ?_, hIn, hOut, hHalt, hSc, hRing.top rfl rfl rfl rfl rfl ?_ ?_ ?_⟩
    · unfold MrReg at *
      refine ⟨fun x x0 x1 => ?_, ?_⟩
      · simp only [jup_a]
        by_cases e : x = r
        · rw [if_pos e, if_pos e]; omega
        · rw [if_neg e, if_neg e]; exact hReg.1 x x0 x1
      · rw [jup_a, if_neg (by omega)]; exact hReg.2
    · intro c hc
      rw [aC_20, hN] at hc
      simp only [jupp_p, hc, if_false]
    · intro x hx
      rw [hr1] at hx
      simp only [jup_a]
      rw [if_neg (by omega), if_neg (by omega)]
    · rw [aC_20, hN, hr1]
      unfold MrRec at hrec ⊢
      simp only [eq_self, or_true, true_or, or_false, false_or, jfc_jp, jupp_p, jup_a, Int.add_right_inj, Int.add_left_inj, Int.reduceEq, if_true, if_false, true_and, and_true, false_and, and_false, reduceIte]
      obtain ⟨r1, r2, r3, r4, r5, r6, r7, r8, r9, r10, r11, r12, r13, r14, r15⟩ := hrec
      have z0 : ¬ (13 * q = 13 * q + 8) := by omega
      have z1 : ¬ (13 * q = 13 * q + 9) := by omega
      simp only [z0, z1, if_false]
      have zr := hReg.1 r h0 (by omega)
      exact ⟨r1, r2, r3, r4, r5, r6, r7, r8, r9, r10, r11, r12, r13, .inr ⟨by omega, h1, zr.1, zr.2.1, zr.2.2⟩, r15⟩
  · simp only [eq_self, or_true, true_or, or_false, false_or, jfc_jp, jupp_p, jup_a, Int.add_right_inj, Int.add_left_inj, Int.reduceEq, if_true, if_false, true_and, and_true, false_and, and_false, reduceIte]; rw [hN]; exact hnow
  · simp only [eq_self, or_true, true_or, or_false, false_or, jfc_jp, jupp_p, jup_a, Int.add_right_inj, Int.add_left_inj, Int.reduceEq, if_true, if_false, true_and, and_true, false_and, and_false, reduceIte]; exact h23
  · have := hK.1; (repeat' (first | exact jFm.rfl | refine jFm.jp ?_ (by omega) (by omega)))
  · (repeat' (first | exact jFm.rfl | refine jFm.jp ?_ (by omega) (by omega)))
  all_goals simp only [eq_self, or_true, true_or, or_false, false_or, jfc_jp, jupp_p, jup_a, Int.add_right_inj, Int.add_left_inj, Int.reduceEq, if_true, if_false, true_and, and_true, false_and, and_false, reduceIte]
end jMwork
