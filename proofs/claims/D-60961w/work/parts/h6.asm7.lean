/-! the assembler: the stacks of values, the twin's sums, what is reckoned *-/
section jAsm7
variable {s t u v w s1 t1 : jS} {A H b lo N k i j o c a n p q r X Y d e m : Int} {NL : List (List Int)} {I : pI} {OL : List pvO} {SL : List pvS} {z : pvS}
theorem y_sum128 {x : Int} (m0 : 0 ≤ m) (m1 : m < 64) : ∃ u, u_X37_sum_128 t H m x m (H + 165) = some (u, 1) ∧ wr3 t u (H + 163) (H + 164) (H + 165) m (if jf t 1000 (H + 164) m = x then (jf t 1000 (H + 163) m, -1, -1) else (jf t 1000 (H + 163) m, jf t 1000 (H + 164) m, x)) := by
  rw [eu_X37_sum_128]; unfold du_X37_sum_128
  rw [jst_in m0 m1, Option.bind_some]
  obtain ⟨t1, E1⟩ : ∃ t1, t1 = jp t 1000 (H + 165) m x := ⟨_, rfl⟩
  obtain ⟨f1, p1, -⟩ := jpF E1
  have sm1 : jSm t t1 := by rw [E1]; exact jSm.rfl.jp
  have w1 : wr3 t t1 (H + 163) (H + 164) (H + 165) m (jf t 1000 (H + 163) m, jf t 1000 (H + 164) m, x) := ⟨sm1, rd3_eq (f1 _ _ _ (by omega)) (f1 _ _ _ (by omega)) p1, fun c a j z => f1 _ _ _ (by omega)⟩
  rw [← E1, jlt_in m0 m1, Option.bind_some, f1 1000 (H + 164) m (by omega)]
  have w2 : ∃ u, (jst t1 1000 (H + 164) 64 m (-1)).bind (fun s5 => (jst s5 1000 (H + 165) 64 m (-1)).bind fun s6 => some (s6, Wz 1)) = some (u, 1) ∧ wr3 t u (H + 163) (H + 164) (H + 165) m (jf t 1000 (H + 163) m, -1, -1) := by
    rw [jst_in m0 m1, Option.bind_some, jst_in m0 m1, Option.bind_some, Wz_1]
    refine ⟨_, rfl, (sm1.jp).jp, rd3_eq ?_ ?_ ?_, fun c a j z => by rw [jf_neg (by omega), jf_neg (by omega), f1 _ _ _ (by omega)]⟩
    · rw [jf_neg (by omega), jf_neg (by omega), f1 _ _ _ (by omega)]
    · rw [jf_neg (by omega), jf_pos ⟨rfl, rfl, rfl⟩]
    · rw [jf_pos ⟨rfl, rfl, rfl⟩]
  by_cases c : jf t 1000 (H + 164) m = -1
  · rw [if_pos c, Wz_1]
    by_cases cx : jf t 1000 (H + 164) m = x
    · rw [if_pos cx]
      refine ⟨t1, rfl, ?_⟩
      rw [c, show x = -1 by omega] at w1
      exact w1
    · rw [if_neg cx]; exact ⟨t1, rfl, w1⟩
  · rw [if_neg c, Option.bind_some, jlt_in m0 m1, Option.bind_some, p1]
    by_cases cx : jf t 1000 (H + 164) m = x
    · rw [if_pos cx, if_pos cx]; exact w2
    · rw [if_neg cx, if_neg cx, Wz_1]; exact ⟨t1, rfl, w1⟩
theorem y_sumV (m0 : 0 ≤ m) (m1 : m + 1 < 64) : (pAdG (rd3 t (H + 163) (H + 164) (H + 165) m) (rd3 t (H + 163) (H + 164) (H + 165) (m + 1)) → ∃ u, m_X37_sum t H m = some (u, 1) ∧ wr3 t u (H + 163) (H + 164) (H + 165) m (pAd (rd3 t (H + 163) (H + 164) (H + 165) m) (rd3 t (H + 163) (H + 164) (H + 165) (m + 1)))) ∧ (¬ pAdG (rd3 t (H + 163) (H + 164) (H + 165) m) (rd3 t (H + 163) (H + 164) (H + 165) (m + 1)) → m_X37_sum t H m = some (t, 0)) := by
  have e46 : ∃ u, u_X37_sum_46 t H m = some (u, 1) ∧ wr3 t u (H + 163) (H + 164) (H + 165) m (pAd (rd3 t (H + 163) (H + 164) (H + 165) m) (rd3 t (H + 163) (H + 164) (H + 165) (m + 1))) := by
    rw [eu_X37_sum_46]; unfold du_X37_sum_46
    rw [jlt_in m0 (by omega), Option.bind_some, W32_in (by omega) (by omega), jlt_in (by omega) (by omega), Option.bind_some, jst_in m0 (by omega), Option.bind_some]
    obtain ⟨t1, E1⟩ : ∃ t1, t1 = jp t 1000 (H + 163) m (W32 (jf t 1000 (H + 163) m + jf t 1000 (H + 163) (m + 1))) := ⟨_, rfl⟩
    obtain ⟨f1, p1, -⟩ := jpF E1
    have sm1 : jSm t t1 := by rw [E1]; exact jSm.rfl.jp
    have e95 : (if jf t1 1000 (H + 164) m = -1 then (jlt t1 1000 (H + 164) 64 (m + 1)).bind fun v5 => u_X37_sum_95 t1 H m v5 m (H + 164) else (some (jf t1 1000 (H + 164) m)).bind fun v6 => u_X37_sum_95 t1 H m v6 m (H + 164)) = u_X37_sum_95 t1 H m (if jf t 1000 (H + 164) m = -1 then jf t 1000 (H + 164) (m + 1) else jf t 1000 (H + 164) m) m (H + 164) := by
      rw [f1 1000 (H + 164) m (by omega)]
      by_cases c : jf t 1000 (H + 164) m = -1
      · rw [if_pos c, if_pos c, jlt_in (by omega) (by omega), Option.bind_some, f1 1000 (H + 164) (m + 1) (by omega)]
      · rw [if_neg c, if_neg c, Option.bind_some]
    rw [← E1, jlt_in m0 (by omega), Option.bind_some, e95, eu_X37_sum_95]; unfold du_X37_sum_95
    generalize hax : (if jf t 1000 (H + 164) m = -1 then jf t 1000 (H + 164) (m + 1) else jf t 1000 (H + 164) m) = ax
    rw [jst_in m0 (by omega), Option.bind_some]
    obtain ⟨t2, E2⟩ : ∃ t2, t2 = jp t1 1000 (H + 164) m ax := ⟨_, rfl⟩
    obtain ⟨f2, p2, -⟩ := jpF E2
    have sm2 : jSm t t2 := by rw [E2]; exact sm1.jp
    have o2 : ∀ x, jf t2 1000 (H + 165) x = jf t 1000 (H + 165) x := fun x => by rw [f2 _ _ _ (by omega), f1 _ _ _ (by omega)]
    have e128 : (if jf t2 1000 (H + 165) m = -1 then (jlt t2 1000 (H + 165) 64 (W32 (m + 1))).bind fun v3 => u_X37_sum_128 t2 H m v3 m (H + 165) else (some (jf t2 1000 (H + 165) m)).bind fun v4 => u_X37_sum_128 t2 H m v4 m (H + 165)) = u_X37_sum_128 t2 H m (if jf t 1000 (H + 165) m = -1 then jf t 1000 (H + 165) (m + 1) else jf t 1000 (H + 165) m) m (H + 165) := by
      rw [o2]
      by_cases c : jf t 1000 (H + 165) m = -1
      · rw [if_pos c, if_pos c, W32_in (by omega) (by omega), jlt_in (by omega) (by omega), Option.bind_some, o2]
      · rw [if_neg c, if_neg c, Option.bind_some]
    rw [← E2, jlt_in m0 (by omega), Option.bind_some, e128]
    generalize hox : (if jf t 1000 (H + 165) m = -1 then jf t 1000 (H + 165) (m + 1) else jf t 1000 (H + 165) m) = ox
    obtain ⟨u, d1, d2, d3, d4⟩ := y_sum128 (t := t2) (H := H) (x := ox) m0 (by omega : m < 64)
    refine ⟨u, d1, sm2.trans d2, ?_, fun c a j z => by rw [d4 _ _ _ z, f2 _ _ _ (by omega), f1 _ _ _ (by omega)]⟩
    rw [d3, p2, f2 1000 (H + 163) m (by omega), p1]
    unfold pAd
    show _ = if (if jf t 1000 (H + 164) m = -1 then jf t 1000 (H + 164) (m + 1) else jf t 1000 (H + 164) m) = (if jf t 1000 (H + 165) m = -1 then jf t 1000 (H + 165) (m + 1) else jf t 1000 (H + 165) m) then ((W32 (jf t 1000 (H + 163) m + jf t 1000 (H + 163) (m + 1)), -1, -1) : vT) else (W32 (jf t 1000 (H + 163) m + jf t 1000 (H + 163) (m + 1)), (if jf t 1000 (H + 164) m = -1 then jf t 1000 (H + 164) (m + 1) else jf t 1000 (H + 164) m), (if jf t 1000 (H + 165) m = -1 then jf t 1000 (H + 165) (m + 1) else jf t 1000 (H + 165) m))
    rw [hax, hox]
  rw [em_X37_sum]; unfold dm_X37_sum
  rw [jlt_in m0 (by omega), Option.bind_some]
  have e22g : (jf t 1000 (H + 165) m = -1 ∨ jf t 1000 (H + 165) (m + 1) = -1) → u_X37_sum_22 t H m = u_X37_sum_46 t H m := fun g => by
    rw [eu_X37_sum_22]; unfold du_X37_sum_22
    rw [jlt_in m0 (by omega), Option.bind_some]
    by_cases c : jf t 1000 (H + 165) m = -1
    · rw [if_pos c]
    · rw [if_neg c, W32_in (by omega) (by omega), jlt_in (by omega) (by omega), Option.bind_some, if_pos (by omega)]
  have e22b : ¬ (jf t 1000 (H + 165) m = -1 ∨ jf t 1000 (H + 165) (m + 1) = -1) → u_X37_sum_22 t H m = some (t, 0) := fun g => by
    rw [eu_X37_sum_22]; unfold du_X37_sum_22
    rw [jlt_in m0 (by omega), Option.bind_some, if_neg (by omega), W32_in (by omega) (by omega), jlt_in (by omega) (by omega), Option.bind_some, if_neg (by omega), Wz_0]
  refine ⟨fun g => ?_, fun g => ?_⟩
  · have g1 : jf t 1000 (H + 164) m = -1 ∨ jf t 1000 (H + 164) (m + 1) = -1 := g.1
    by_cases c : jf t 1000 (H + 164) m = -1
    · rw [if_pos c, e22g g.2]; exact e46
    · rw [if_neg c, W32_in (by omega) (by omega), jlt_in (by omega) (by omega), Option.bind_some, if_pos (by omega), e22g g.2]; exact e46
  · by_cases c : jf t 1000 (H + 164) m = -1
    · rw [if_pos c]; exact e22b fun z => g ⟨.inl c, z⟩
    · rw [if_neg c, W32_in (by omega) (by omega), jlt_in (by omega) (by omega), Option.bind_some]
      by_cases c2 : jf t 1000 (H + 164) (m + 1) = -1
      · rw [if_pos c2]; exact e22b fun z => g ⟨.inr c2, z⟩
      · rw [if_neg c2, Wz_0]
theorem c_reckon (h : jf s 37 A 36 = m + 1) (m0 : 0 ≤ m) (m1 : m + 1 < 2000) (ho : 14 ≤ o ∧ o ≤ 21) (hg : pReG o (rd3 s (A + 23) (A + 24) (A + 25) m) (rd3 s (A + 23) (A + 24) (A + 25) (m + 1))) : ∃ u, m_X33_reckon s A o j = some (u, false, 0) ∧ wr3 s u (A + 23) (A + 24) (A + 25) m (pRe o (rd3 s (A + 23) (A + 24) (A + 25) m) (rd3 s (A + 23) (A + 24) (A + 25) (m + 1))) := by
  obtain ⟨g1, g2, g3⟩ := hg
  have hk : W32 (jf s 37 A 36 - 1) = m := by rw [h, W32_in (by omega) (by omega)]; omega
  have g3' : ¬ (jf s 1000 (A + 23) (m + 1) = 0 ∧ (o = 15 ∨ o = 16)) := g3
  have e63 : ∃ u, u_X33_reckon_63 s A o j m (jf s 1000 (A + 23) m) (jf s 1000 (A + 23) (m + 1)) A = some (u, false, 0) ∧ wr3 s u (A + 23) (A + 24) (A + 25) m (pRe o (rd3 s (A + 23) (A + 24) (A + 25) m) (rd3 s (A + 23) (A + 24) (A + 25) (m + 1))) := by
    have st : ∀ v, v = v_X39_worked o (jf s 1000 (A + 23) m) (jf s 1000 (A + 23) (m + 1)) → ∃ u, (jst s 1000 (A + 23) 2000 m v).bind (fun s2 => some (s2, false, (0 : Int))) = some (u, false, 0) ∧ wr3 s u (A + 23) (A + 24) (A + 25) m (pRe o (rd3 s (A + 23) (A + 24) (A + 25) m) (rd3 s (A + 23) (A + 24) (A + 25) (m + 1))) := fun v hv => by
      rw [jst_in m0 (by omega), Option.bind_some]
      have k1 : jf s 1000 (A + 24) m = -1 := g1.1
      have k2 : jf s 1000 (A + 25) m = -1 := g1.2
      exact ⟨_, rfl, jSm.rfl.jp, rd3_eq (by rw [jf_pos ⟨rfl, rfl, rfl⟩, hv]; rfl) (by rw [jf_neg (by omega), k1]; rfl) (by rw [jf_neg (by omega), k2]; rfl), fun c a j z => jf_neg (by omega)⟩
    rw [eu_X33_reckon_63]; unfold du_X33_reckon_63
    rw [eu_X33_reckon_68]; unfold du_X33_reckon_68
    rw [needAt1 (by decide), Option.bind_some]
    show ∃ u, (jth false _ _) = some (u, false, 0) ∧ _
    rw [jth_ff]
    unfold v_X39_worked at st
    rw [if_neg (show ¬ o = 12 by omega), if_neg (show ¬ o = 13 by omega)] at st
    by_cases c14 : o = 14
    · rw [if_pos c14] at st ⊢; exact st _ rfl
    rw [if_neg c14] at st ⊢
    by_cases c15 : o = 15
    · rw [if_pos c15] at st ⊢
      by_cases cm : jf s 1000 (A + 23) (m + 1) = -1
      · rw [if_pos cm] at st ⊢
        rw [eu_X33_reckon_150]; unfold du_X33_reckon_150
        exact st _ rfl
      · rw [if_neg cm] at st ⊢
        rw [jdv_in (by omega), Option.bind_some, eu_X33_reckon_150]; unfold du_X33_reckon_150
        exact st _ rfl
    rw [if_neg c15] at st ⊢
    by_cases c16 : o = 16
    · rw [if_pos c16] at st ⊢
      by_cases cm : jf s 1000 (A + 23) (m + 1) = -1
      · rw [if_pos cm] at st ⊢
        rw [eu_X33_reckon_172]; unfold du_X33_reckon_172
        exact st _ rfl
      · rw [if_neg cm] at st ⊢
        rw [jdv_in (by omega), Option.bind_some, eu_X33_reckon_172]; unfold du_X33_reckon_172
        exact st _ rfl
    rw [if_neg c16] at st ⊢
    by_cases c17 : o = 17
    · rw [if_pos c17] at st ⊢; exact st _ rfl
    rw [if_neg c17] at st ⊢
    by_cases c18 : o = 18
    · rw [if_pos c18] at st ⊢; exact st _ rfl
    rw [if_neg c18] at st ⊢
    by_cases c19 : o = 19
    · rw [if_pos c19] at st ⊢; exact st _ rfl
    rw [if_neg c19] at st ⊢
    by_cases c20 : o = 20
    · rw [if_pos c20] at st ⊢; exact st _ rfl
    rw [if_neg c20] at st ⊢
    exact st _ rfl
  rw [em_X33_reckon]; unfold dm_X33_reckon
  simp only [jlet]
  rw [hk, h, jlt_in m0 (by omega), Option.bind_some, jlt_in (by omega) (by omega), Option.bind_some, c_isPlainAt m0 (by omega), Option.bind_some, if_pos g1, if_neg (by decide), c_isPlainAt (by omega) (by omega), Option.bind_some, if_pos g2, if_neg (by decide)]
  by_cases c0 : jf s 1000 (A + 23) (m + 1) = 0
  · rw [if_pos c0, if_neg (by omega), if_neg (by omega)]; exact e63
  · rw [if_neg c0]; exact e63
/-- where it can't be reckoned -/
theorem c_reckonB {q1 : jS} {q3 : Int} (h : jf s 37 A 36 = m + 1) (m0 : 0 ≤ m) (m1 : m + 1 < 2000) (hg : ¬ pReG o (rd3 s (A + 23) (A + 24) (A + 25) m) (rd3 s (A + 23) (A + 24) (A + 25) (m + 1))) (he : m_X33_needAt s A 0 14 j = some (q1, true, q3)) : m_X33_reckon s A o j = some (q1, true, q3) := by
  have hk : W32 (jf s 37 A 36 - 1) = m := by rw [h, W32_in (by omega) (by omega)]; omega
  have e67 : ∀ x y : Int, u_X33_reckon_67 s A o j m x y A = some (q1, true, q3) := fun x y => by
    rw [eu_X33_reckon_67]; unfold du_X33_reckon_67
    rw [eu_X33_reckon_68]; unfold du_X33_reckon_68
    rw [he, Option.bind_some]; rfl
  rw [em_X33_reckon]; unfold dm_X33_reckon
  simp only [jlet]
  rw [hk, h, jlt_in m0 (by omega), Option.bind_some, jlt_in (by omega) (by omega), Option.bind_some, c_isPlainAt m0 (by omega), Option.bind_some]
  by_cases g1 : pPl (rd3 s (A + 23) (A + 24) (A + 25) m)
  rotate_left
  · rw [if_neg g1, if_pos rfl, e67]
  rw [if_pos g1, if_neg (by decide), c_isPlainAt (by omega) (by omega), Option.bind_some]
  by_cases g2 : pPl (rd3 s (A + 23) (A + 24) (A + 25) (m + 1))
  rotate_left
  · rw [if_neg g2, if_pos rfl, e67]
  rw [if_pos g2, if_neg (by decide)]
  have g3 : jf s 1000 (A + 23) (m + 1) = 0 ∧ (o = 15 ∨ o = 16) := Classical.byContradiction fun z => hg ⟨g1, g2, z⟩
  rw [if_pos g3.1]
  by_cases c15 : o = 15
  · rw [if_pos c15, e67]
  · rw [if_neg c15, if_pos (by omega), e67]
theorem c_addB {q1 : jS} {q3 : Int} (h : jf s 37 A 36 = m + 1) (m0 : 0 ≤ m) (m1 : m + 1 < 2000) (hg : ¬ pAdG (rd3 s (A + 23) (A + 24) (A + 25) m) (rd3 s (A + 23) (A + 24) (A + 25) (m + 1))) (he : m_X33_needAt s A 0 14 j = some (q1, true, q3)) : m_X33_addUp s A j = some (q1, true, q3) := by
  have hk : W32 (jf s 37 A 36 - 1) = m := by rw [h, W32_in (by omega) (by omega)]; omega
  have e58 : u_X33_addUp_58 s A j m A = some (q1, true, q3) := by
    rw [eu_X33_addUp_58]; unfold du_X33_addUp_58
    rw [eu_X33_addUp_59]; unfold du_X33_addUp_59
    rw [he, Option.bind_some]; rfl
  have e31 : ¬ (jf s 1000 (A + 25) m = -1 ∨ jf s 1000 (A + 25) (m + 1) = -1) → u_X33_addUp_31 s A j m A = some (q1, true, q3) := fun z => by
    rw [eu_X33_addUp_31]; unfold du_X33_addUp_31
    rw [jlt_in m0 (by omega), Option.bind_some, if_neg (by omega), h, jlt_in (by omega) (by omega), Option.bind_some, if_neg (by omega), e58]
  rw [em_X33_addUp]; unfold dm_X33_addUp
  simp only [jlet]
  rw [hk, jlt_in m0 (by omega), Option.bind_some]
  by_cases c : jf s 1000 (A + 24) m = -1
  · rw [if_pos c]; exact e31 fun z => hg ⟨.inl c, z⟩
  · rw [if_neg c, h, jlt_in (by omega) (by omega), Option.bind_some]
    by_cases c2 : jf s 1000 (A + 24) (m + 1) = -1
    · rw [if_pos c2]; exact e31 fun z => hg ⟨.inr c2, z⟩
    · rw [if_neg c2, e58]
theorem y_apply_b (m0 : 0 ≤ m) (m1 : m + 1 < 64) (ho : 14 ≤ o ∧ o ≤ 21) : (pReG o (rd3 t (H + 163) (H + 164) (H + 165) m) (rd3 t (H + 163) (H + 164) (H + 165) (m + 1)) → ∃ u, m_X37_apply t H o (m + 1) = some (u, 1) ∧ wr3 t u (H + 163) (H + 164) (H + 165) m (pRe o (rd3 t (H + 163) (H + 164) (H + 165) m) (rd3 t (H + 163) (H + 164) (H + 165) (m + 1)))) ∧ (¬ pReG o (rd3 t (H + 163) (H + 164) (H + 165) m) (rd3 t (H + 163) (H + 164) (H + 165) (m + 1)) → m_X37_apply t H o (m + 1) = some (t, 0)) := by
  have hm : W32 (m + 1 - 1) = m := by rw [W32_in (by omega) (by omega)]; omega
  rw [em_X37_apply]; unfold dm_X37_apply
  rw [if_neg (by omega), if_neg (by omega), if_neg (by omega), eu_X37_apply_50]; unfold du_X37_apply_50
  rw [if_neg (by omega), hm, y_isNumber m0 (by omega), Option.bind_some]
  by_cases g1 : pPl (rd3 t (H + 163) (H + 164) (H + 165) m)
  rotate_left
  · rw [if_neg g1, if_pos rfl, Wz_0]; exact ⟨fun g => absurd g.1 g1, fun _ => rfl⟩
  rw [if_pos g1, if_neg (by decide), y_isNumber (by omega) (by omega), Option.bind_some]
  by_cases g2 : pPl (rd3 t (H + 163) (H + 164) (H + 165) (m + 1))
  rotate_left
  · rw [if_neg g2, if_pos rfl, Wz_0]; exact ⟨fun g => absurd g.2.1 g2, fun _ => rfl⟩
  rw [if_pos g2, if_neg (by decide)]
  have e105 : ¬ (jf t 1000 (H + 163) (m + 1) = 0 ∧ (o = 15 ∨ o = 16)) → ∃ u, u_X37_apply_105 t H o (m + 1) = some (u, 1) ∧ wr3 t u (H + 163) (H + 164) (H + 165) m (pRe o (rd3 t (H + 163) (H + 164) (H + 165) m) (rd3 t (H + 163) (H + 164) (H + 165) (m + 1))) := fun z => by
    rw [eu_X37_apply_105]; unfold du_X37_apply_105
    rw [hm, jlt_in m0 (by omega), Option.bind_some, jlt_in (by omega) (by omega), Option.bind_some, e_X39_worked _ _ _ _ (fun _ _ _ h15 _ => by omega) (fun _ _ _ _ h16 _ => by omega), Option.bind_some, jst_in m0 (by omega), Option.bind_some, Wz_1]
    have k1 : jf t 1000 (H + 164) m = -1 := g1.1
    have k2 : jf t 1000 (H + 165) m = -1 := g1.2
    exact ⟨_, rfl, jSm.rfl.jp, rd3_eq (by rw [jf_pos ⟨rfl, rfl, rfl⟩]; rfl) (by rw [jf_neg (by omega), k1]; rfl) (by rw [jf_neg (by omega), k2]; rfl), fun c a j z => jf_neg (by omega)⟩
  have e94 : (o = 15 ∨ o = 16) → u_X37_apply_94 t H o (m + 1) = if jf t 1000 (H + 163) (m + 1) = 0 then some (t, 0) else u_X37_apply_105 t H o (m + 1) := fun _ => by
    rw [eu_X37_apply_94]; unfold du_X37_apply_94
    rw [jlt_in (by omega) (by omega), Option.bind_some, Wz_0]
  by_cases c15 : o = 15
  · rw [if_pos c15, e94 (.inl c15)]
    by_cases c0 : jf t 1000 (H + 163) (m + 1) = 0
    · rw [if_pos c0]; exact ⟨fun g => absurd ⟨c0, .inl c15⟩ g.2.2, fun _ => rfl⟩
    · rw [if_neg c0]; exact ⟨fun g => e105 fun z => c0 z.1, fun g => absurd ⟨g1, g2, fun z => c0 z.1⟩ g⟩
  rw [if_neg c15]
  by_cases c16 : o = 16
  · rw [if_pos c16, e94 (.inr c16)]
    by_cases c0 : jf t 1000 (H + 163) (m + 1) = 0
    · rw [if_pos c0]; exact ⟨fun g => absurd ⟨c0, .inr c16⟩ g.2.2, fun _ => rfl⟩
    · rw [if_neg c0]; exact ⟨fun g => e105 fun z => c0 z.1, fun g => absurd ⟨g1, g2, fun z => c0 z.1⟩ g⟩
  rw [if_neg c16]
  exact ⟨fun g => e105 fun z => by omega, fun g => absurd ⟨g1, g2, fun z => by omega⟩ g⟩
end jAsm7
