/-! step, run -/
section jMrun
variable {s t : jS} {M U : Int}
theorem p_isEnd (h : Mr s M t U) : ∃ x, m_X29_isEnd s M = some x ∧ m_X43_isEnd t U = some x ∧ ((x = 0 ∧ (jf t 47 U 17 = 0 ∨ jf t 47 U 17 = 9)) ∨ (x = 1 ∧ ¬ jf t 47 U 17 = 0 ∧ ¬ jf t 47 U 17 = 9)) := by
  have e := h.2.2.2.2.2.2.2.2.2.1.2.2.2.1
  rw [e_X29_isEnd, e_X43_isEnd, e]
  by_cases c : ¬ jf t 47 U 17 = 0 ∧ ¬ jf t 47 U 17 = 9
  · exact ⟨1, by rw [if_pos c], by rw [if_pos c], .inr ⟨rfl, c⟩⟩
  · exact ⟨0, by rw [if_neg c], by rw [if_neg c], .inl ⟨rfl, by omega⟩⟩
theorem p_step (h : Mr s M t U) : jE2 (m_X29_step s M) (m_X43_step t U) (MrQ s M t U) := by
  obtain ⟨x, e1, e2, hx⟩ := p_isEnd h
  have hst := h.2.2.2.2.2.2.2.2.2.1.2.2.2.1
  rw [em_X29_step]; unfold dm_X29_step
  simp only [eu_X29_step_12, du_X29_step_12]
  rw [e1, Option.bind_some]
  rcases hx with ⟨rfl, hx⟩ | ⟨rfl, hx⟩
  · rw [if_pos rfl]
    obtain ⟨r, q, h1, h2, g1, g2, g3, g4, g5⟩ := jE2_get (p_goes h hx)
    rw [h1, h2, Option.bind_some]
    exact jE2_some.mpr ⟨by rw [g4]; exact g1.2.2.2.2.2.2.2.2.2.1.2.2.2.1, g1, g2, g3⟩
  · rw [if_neg (by omega), em_X43_step]; unfold dm_X43_step
    rw [e2, Option.bind_some, if_neg (by omega), hst]
    exact jE2_some.mpr (MrQ_same h)
/-- whether the next step is a unit -/
theorem p_unit2 (h : Mr s M t U) : ∃ w, (w = 0 ∨ w = 1) ∧ m_X43_isUnit t U = some w ∧ ∀ {α : Type} (A B : Option α), (if jf s 33 M 9 = 0 then A else (m_X29_isMarked s M (jf s 33 M 10)).bind fun v => if v = 0 then B else A) = if w = 0 then B else A := by
  obtain ⟨hK, hP, hMem, hMark, hSeg, hReg, hIn, hOut, hHalt, hSc, hRing⟩ := h
  have h9 := hSc.1
  have h10 := hSc.2.1
  have hpc := hSc.2.2.1
  rw [em_X43_isUnit]; unfold dm_X43_isUnit
  rw [h9, h10]
  by_cases c : jf t 47 U 7 = 0
  · refine ⟨1, .inr rfl, by rw [if_pos c, Wz_1], fun A B => ?_⟩
    rw [if_pos c, if_neg (by omega)]
  · rw [if_neg c, e_X43_bare, Option.bind_some, L_and_4294967295]
    obtain ⟨x, y, e1, e2, e3, hx⟩ := jE2_get (p_isMarked (s := s) (t := t) (M := M) (U := U) (a := jf t 47 U 11) (b := jf t 47 U 11 % 4294967296) hMark hpc.2.2 (by omega))
    subst e3
    refine ⟨x, hx, ?_, fun A B => ?_⟩
    · rw [e2, Option.bind_some, Wz_0, Wz_1]
      rcases hx with rfl | rfl
      · rw [if_pos rfl]
      · rw [if_neg (by omega)]
    · rw [if_neg c, e1, Option.bind_some]
/-- both fail alike -/
theorem Mr_fails {x : Int} (h : Mr s M t U) : Mr (jp (jp s 33 M 11 x) 33 M 12 (jf t 47 U 11)) M (jp (jp t 47 U 17 x) 47 U 18 (jf t 47 U 11)) U := by
  obtain ⟨hK, hP, hMem, hMark, hSeg, hReg, hIn, hOut, hHalt, hSc, hRing⟩ := h
  (unfold Mr; simp only [eq_self, or_true, true_or, or_false, false_or, jfc_jp, jupp_p, jup_a, Int.add_right_inj, Int.add_left_inj, Int.reduceEq, if_true, if_false, true_and, and_true, false_and, and_false, reduceIte]; refine ⟨hK, hP.at (by simp only [eq_self, or_true, true_or, or_false, false_or, jfc_jp, jupp_p, jup_a, Int.add_right_inj, Int.add_left_inj, Int.reduceEq, if_true, if_false, true_and, and_true, false_and, and_false, reduceIte]), hMem, hMark, hSeg, hReg, (by unfold MrIn at *; simp only [eq_self, or_true, true_or, or_false, false_or, jfc_jp, jupp_p, jup_a, Int.add_right_inj, Int.add_left_inj, Int.reduceEq, if_true, if_false, true_and, and_true, false_and, and_false, reduceIte]; exact hIn), hOut, (by unfold MrHalt at *; simp only [eq_self, or_true, true_or, or_false, false_or, jfc_jp, jupp_p, jup_a, Int.add_right_inj, Int.add_left_inj, Int.reduceEq, if_true, if_false, true_and, and_true, false_and, and_false, reduceIte]; exact hHalt), (by unfold MrSc at *; simp only [eq_self, or_true, true_or, or_false, false_or, jfc_jp, jupp_p, jup_a, Int.add_right_inj, Int.add_left_inj, Int.reduceEq, if_true, if_false, true_and, and_true, false_and, and_false, reduceIte]; omega), (by unfold MrRing at *; simp only [eq_self, or_true, true_or, or_false, false_or, jfc_jp, jupp_p, jup_a, Int.add_right_inj, Int.add_left_inj, Int.reduceEq, if_true, if_false, true_and, and_true, false_and, and_false, reduceIte]; exact hRing)⟩)
theorem p_run {n : Int} (h : Mr s M t U) : jE2 (m_X29_run s M n) (m_X43_run t U n) (MrQ s M t U) := by
  obtain ⟨x0, e1, e2, hx0⟩ := p_isEnd h
  have hS := h.2.2.2.2.2.2.2.2.2.1
  unfold MrSc at hS
  rw [em_X29_run, em_X43_run]; unfold dm_X29_run dm_X43_run
  by_cases c1 : n < 0
  · rw [if_pos c1, if_pos c1]; exact jE2_some.mpr (MrQ_same h)
  by_cases c2 : 2000 < n
  · rw [if_neg c1, if_neg c1, if_pos c2, if_pos c2]; exact jE2_some.mpr (MrQ_same h)
  rw [if_neg c1, if_neg c1, if_neg c2, if_neg c2, e2, Option.bind_some]
  have e15 : jf s 33 M 15 = jf t 47 U 21 := hS.2.2.2.2.2.2.2.1.1
  have e14 : jf s 33 M 14 = jf t 47 U 20 := hS.2.2.2.2.2.2.1.1
  have hr20 := hS.2.2.2.2.2.2.1.2
  rw [e15, e14]
  generalize jf t 47 U 21 = u0
  generalize h20 : jf t 47 U 20 = s0 at *
  have hy : (if x0 = 0 then u_X43_run_32 t U n u0 0 1 else u_X43_run_32 t U n u0 0 0) = u_X43_run_34 t U n u0 0 (1 - x0) := by
    rcases hx0 with ⟨rfl, _⟩ | ⟨rfl, _⟩
    · rw [if_pos rfl, eu_X43_run_32]; rfl
    · rw [if_neg (by omega), eu_X43_run_32]; rfl
  rw [hy, eu_X29_run_26, du_X29_run_26, eu_X43_run_34, du_X43_run_34]
  -- the loops
  have out : ∀ (s' t' : jS) (k : Int) (f : Int), Mr s' M t' U → jFm s s' M 119 → jFm t t' U 13 → jE2 (some (s', W32 (jf s' 33 M 15 - u0))) (jlpW (jc5 b_X43_run_34) [U, n, u0, k, 0] t') (MrQ s M t U) := by
    intro s' t' k f g f1 f2
    have : jlpW (jc5 b_X43_run_34) [U, n, u0, k, 0] t' = some (t', W32 (jf t' 47 U 21 - u0)) := by
      apply jlpW_r
      show b_X43_run_34 t' U n u0 k 0 = _
      unfold b_X43_run_34
      simp only [eu_X43_run_127, du_X43_run_127]
      rw [if_pos trivial]
    rw [this]
    have e := g.2.2.2.2.2.2.2.2.2.1.2.2.2.2.2.2.2.1.1
    rw [e]
    exact jE2_some.mpr ⟨rfl, g, f1, f2⟩
  have one : ∀ (k : Int) (s' t' : jS) (x f : Int), 0 ≤ k → k ≤ 20000 → Mr s' M t' U → jFm s s' M 119 → jFm t t' U 13 → m_X43_isEnd t' U = some x → (x = 0 → jf t' 47 U 20 = W32 (s0 + k)) → ((f = 1 ∧ k = 0) ∨ (f = 0 ∧ 0 < k)) →
      (k < 20000 → ∀ (s2 t2 : jS) (x2 : Int), Mr s2 M t2 U → jFm s s2 M 119 → jFm t t2 U 13 → m_X43_isEnd t2 U = some x2 → (x2 = 0 → jf t2 47 U 20 = W32 (s0 + (k + 1))) → jE2 (jlpW (jc5 b_X29_run_26) [M, n, u0, s0, 0] s2) (jlpW (jc5 b_X43_run_34) [U, n, u0, k + 1, 1 - x2] t2) (MrQ s M t U)) →
      jE2 (jlpW (jc5 b_X29_run_26) [M, n, u0, s0, f] s') (jlpW (jc5 b_X43_run_34) [U, n, u0, k, 1 - x] t') (MrQ s M t U) := by
    intro k s' t' x f k0 k1 g f1 f2 hx hs hf ih
    have hS' := g.2.2.2.2.2.2.2.2.2.1
    unfold MrSc at hS'
    obtain ⟨x', i1, i2, hx'⟩ := p_isEnd g
    rw [hx] at i2
    cases i2
    rcases hx' with ⟨rfl, q⟩ | ⟨rfl, q⟩
    case inr =>
      have : jlpW (jc5 b_X29_run_26) [M, n, u0, s0, f] s' = some (s', W32 (jf s' 33 M 15 - u0)) := by
        apply jlpW_r
        show b_X29_run_26 s' M n u0 s0 f = _
        unfold b_X29_run_26
        simp only [eu_X29_run_128, du_X29_run_128]
        rw [i1, Option.bind_some, if_neg (by omega)]
      rw [this]
      exact out s' t' k f g f1 f2
    have hs := hs rfl
    -- the tail: a unit, or on
    have tail : jE2 ((u_X29_run_67 s' M n u0 s0).bind (jcont (jc5 b_X29_run_26))) ((u_X43_run_72 t' U n u0 k).bind (jcont (jc5 b_X43_run_34))) (MrQ s M t U) := by
      obtain ⟨w, hw, hu, hC⟩ := p_unit2 g
      have hd : jE2 ((u_X29_run_97 s' M n u0 s0).bind (jcont (jc5 b_X29_run_26))) ((u_X43_run_89 t' U n u0 k).bind (jcont (jc5 b_X43_run_34))) (MrQ s M t U) := by
        simp only [eu_X29_run_97, du_X29_run_97, eu_X43_run_89, du_X43_run_89, eu_X29_run_109, du_X29_run_109, eu_X43_run_96, du_X43_run_96, eu_X43_run_122, du_X43_run_122]
        have hk : W32 (jf s' 33 M 14 - s0) = k := by
          rw [hS'.2.2.2.2.2.2.1.1, hs]
          have q1 := W32_mod (s0 + k)
          have q2 := W32_mod (W32 (s0 + k) - s0)
          have q3 := W32_lo (W32 (s0 + k) - s0)
          omega
        rw [hk]
        by_cases c : k = 20000
        · rw [if_pos c, if_pos c]
          exact out s' t' k f g f1 f2
        · rw [if_neg c, if_neg c]
          obtain ⟨r, q', h1, h2, g1, g2, g3, g4, g5⟩ := jE2_get (p_goes g q)
          obtain ⟨x2, j1, j2, hx2⟩ := p_isEnd g1
          rw [h1, h2]
          simp only [Option.bind_some, j2]
          have hm : (if x2 = 0 then some (Sum.inl (q'.1, [U, n, u0, W32 (k + 1), 1])) else some (Sum.inl (q'.1, [U, n, u0, W32 (k + 1), 0])) : Option ((jS × List Int) ⊕ (jS × Int))) = some (Sum.inl (q'.1, [U, n, u0, k + 1, 1 - x2])) := by
            rw [W32_in (by omega) (by omega)]
            rcases hx2 with ⟨rfl, _⟩ | ⟨rfl, _⟩
            · rw [if_pos rfl]; rfl
            · rw [if_neg (by omega)]; rfl
          rw [hm]
          refine ih (by omega) r.1 q'.1 x2 g1 (f1.trans g2) (f2.trans g3) j2 fun z => ?_
          rcases g5 with ⟨_, g5⟩ | ⟨_, g5⟩
          · rw [g5, hs]
            apply W32_cong
            have q1 := W32_mod (s0 + k)
            omega
          · omega
      simp only [eu_X29_run_67, du_X29_run_67, eu_X43_run_72, du_X43_run_72]
      rw [hu, Option.bind_some, hS'.2.2.2.2.2.2.2.1.1]
      by_cases c : W32 (jf t' 47 U 21 - u0) = n
      · rw [if_pos c, hC, if_pos c]
        rcases hw with rfl | rfl
        · rw [if_pos rfl, if_pos rfl]; exact hd
        · rw [if_neg (by omega), if_neg (by omega)]
          simp only [eu_X43_run_96, du_X43_run_96]
          have o := out s' t' k f g f1 f2
          rw [hS'.2.2.2.2.2.2.2.1.1, c] at o
          exact o
      · rw [if_neg c, if_neg c]
        rcases hw with rfl | rfl
        · rw [if_pos rfl]; exact hd
        · rw [if_neg (by omega)]; exact hd
    have hb1 : jc5 b_X29_run_26 [M, n, u0, s0, f] s' = if f = 0 then (m_X29_haltAt s' M (jf t' 47 U 11)).bind fun v2 => if v2 = -1 then u_X29_run_67 s' M n u0 s0 else jinr (u_X29_run_50 s' M u0) else u_X29_run_67 s' M n u0 s0 := by
      show b_X29_run_26 s' M n u0 s0 f = _
      unfold b_X29_run_26
      rw [i1, Option.bind_some, if_pos rfl, hS'.2.1]
    have hb2 : jc5 b_X43_run_34 [U, n, u0, k, 1 - 0] t' = if 0 < k then (m_X43_haltAt t' U (jf t' 47 U 11)).bind fun v1 => if v1 = -1 then u_X43_run_72 t' U n u0 k else (m_X43_fail t' U 9 (jf t' 47 U 11)).bind fun q2 => some (Sum.inl (q2.1, [U, n, u0, k, 0])) else u_X43_run_72 t' U n u0 k := by
      show b_X43_run_34 t' U n u0 k (1 - 0) = _
      unfold b_X43_run_34
      rw [if_neg (show ¬ (1 : Int) - 0 = 0 by omega)]
    rw [jlpW_stc, jlpW_stc, hb1, hb2]
    rcases hf with ⟨rfl, rfl⟩ | ⟨rfl, hk⟩
    · rw [if_neg (by omega), if_neg (by omega)]; exact tail
    · rw [if_pos rfl, if_pos hk]
      have hH := g.2.2.2.2.2.2.2.2.1
      unfold MrHalt at hH
      obtain ⟨y, z, ey, ez, exy, hy⟩ := jE2_get (p_haltAt (C := jf t' 47 U 9) _ _ rfl rfl hH.1 rfl hH.2.1 hH.2.2.1 hH.2.2.2 (jf t' 47 U 11))
      subst exy
      rw [ey, ez, Option.bind_some, Option.bind_some]
      by_cases c : y = -1
      · rw [if_pos c, if_pos c]; exact tail
      · rw [if_neg c, if_neg c]
        simp only [eu_X29_run_50, du_X29_run_50, hS'.2.1, s_fails, s_fail, Option.bind_some]
        exact out (jp (jp s' 33 M 11 9) 33 M 12 (jf t' 47 U 11)) _ k 0 (Mr_fails g) ((f1.jp (by omega) (by omega)).jp (by omega) (by omega)) ((f2.jp (by omega) (by omega)).jp (by omega) (by omega))
  have main : ∀ (m : Nat) (k : Int) (s' t' : jS) (x f : Int), 0 ≤ k → 20000 - k = m → Mr s' M t' U → jFm s s' M 119 → jFm t t' U 13 → m_X43_isEnd t' U = some x → (x = 0 → jf t' 47 U 20 = W32 (s0 + k)) → ((f = 1 ∧ k = 0) ∨ (f = 0 ∧ 0 < k)) →
      jE2 (jlpW (jc5 b_X29_run_26) [M, n, u0, s0, f] s') (jlpW (jc5 b_X43_run_34) [U, n, u0, k, 1 - x] t') (MrQ s M t U) := by
    intro m
    induction m with
    | zero =>
      intro k s' t' x f k0 hm g f1 f2 hx hs hf
      exact one k s' t' x f k0 (by omega) g f1 f2 hx hs hf (fun q => absurd q (by omega))
    | succ m ih =>
      intro k s' t' x f k0 hm g f1 f2 hx hs hf
      exact one k s' t' x f k0 (by omega) g f1 f2 hx hs hf (fun q s2 t2 x2 g2 f3 f4 hx2 hs2 => ih (k + 1) s2 t2 x2 0 (by omega) (by omega) g2 f3 f4 hx2 hs2 (.inr ⟨rfl, by omega⟩))
  exact main 20000 0 s t x0 1 (by omega) (by omega) h jFm.rfl jFm.rfl e2 (fun _ => by rw [Int.add_zero, W32_in (by omega) (by omega)]; exact h20) (.inl ⟨rfl, rfl⟩)
end jMrun
