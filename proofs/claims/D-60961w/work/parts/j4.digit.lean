/-! statements: labels that are digits *-/
set_option maxRecDepth 100000
section jDigit
variable {s t u w s1 t1 s0 u1 : jS} {v A H b lo k c a x y d n j m i : Int} {l : List Int} {NL : List (List Int)} {I : pI} {OL : List pvO} {SL : List pvS} {z : pvS} {zo : pvO} {Q Q' : jS → jS → Int → Prop} {xx : Option (jS × Bool × Int)} {yy : Option (jS × Int)} {q : jS × Bool × Int} {r : jS}
theorem yd_is (i0 : 0 ≤ i) (i1 : i < 100) : m_X37_define t H i x y = some (jp (jp t 1000 (H + 144) i x) 1000 (H + 145) i y, 0) := by
  rw [em_X37_define]; unfold dm_X37_define
  rw [jst_in i0 i1, Option.bind_some, jst_in i0 i1, Option.bind_some]
theorem dig_core (h : AR s t A H b lo NL I OL SL k z) (hp : jf t 1000 (H + 153) (jf t 41 H 34) = jf t 41 H 47) (d0 : 0 ≤ d) (d1 : d < 10) (i0 : 0 ≤ i) (i1 : i < jf t 41 H 12) (hw : jf t 1000 (H + 144) i = -2) (hnc : ∀ e, 0 ≤ e → e < 10 → ¬ e = d → ¬ jf t 1000 (H + 150) e = i) :
    stMt s t A H b lo NL I OL SL k z ((u_X33_digitLabel_23 s A d i).bind fun q9 => jth q9.2.1 (some (q9.1, true, q9.2.2)) ((m_X33_define q9.1 A q9.2.2 (jf q9.1 37 A 30) (jf q9.1 37 A 32) 0).bind fun q8 => jth q8.2.1 (some (q8.1, true, q8.2.2)) (some (q8.1, false, 0)))) (u_X37_statement_202 t H d i) := by
  have n100 := h.n100
  obtain ⟨aS, aT, aI, aB, aM, aSt, aK, aH, a0⟩ := id h.2.2.2.1
  have b0 := aB.1.2
  rw [eu_X33_digitLabel_23, eu_X37_statement_202]; unfold du_X33_digitLabel_23 du_X37_statement_202
  rw [if_neg (by omega), jst_in d0 d1, Option.bind_some, jst_in d0 d1, Option.bind_some, Option.bind_some, jlt_in b0.1 (by omega), Option.bind_some]
  obtain ⟨u1, E1⟩ : ∃ u1, u1 = jp s 1000 (A + 16) d (-1) := ⟨_, rfl⟩
  obtain ⟨u2, E2⟩ : ∃ u2, u2 = jp u1 1000 (A + 15) d i := ⟨_, rfl⟩
  obtain ⟨w1, G1⟩ : ∃ w1, w1 = jp t 1000 (H + 149) d i := ⟨_, rfl⟩
  obtain ⟨w2, G2⟩ : ∃ w2, w2 = jp w1 1000 (H + 150) d (-1) := ⟨_, rfl⟩
  obtain ⟨f1, p1, -⟩ := jpF E1
  obtain ⟨f2, p2, -⟩ := jpF E2
  obtain ⟨g1, r1, -⟩ := jpF G1
  obtain ⟨g2, r2, -⟩ := jpF G2
  rw [← E1, ← E2]
  have cF : cFa A s u2 0 0 := (cFa.rfl.wr E1 (by omega)).wr E2 (by omega)
  have tf : tF H t w2 := (tF.rfl.wr G1 (by omega)).wr G2 (by omega)
  have fu : ∀ c a k, ¬ (c = 1000 ∧ (a = A + 15 ∨ a = A + 16)) → jf u2 c a k = jf s c a k := fun c a k z => by rw [f2 _ _ _ (by omega), f1 _ _ _ (by omega)]
  have fv : ∀ c a k, ¬ (c = 1000 ∧ (a = H + 149 ∨ a = H + 150)) → jf w2 c a k = jf t c a k := fun c a k z => by rw [g2 _ _ _ (by omega), g1 _ _ _ (by omega)]
  have R : AR u2 w2 A H b lo NL I OL SL k z := h.mk cF tf ⟨aS.cg (fun c a j _ => fu _ _ _ (by omega)) (fun c a j _ => fv _ _ _ (by omega)), ⟨fun j j0 j1 => ?_, fun e e0 e1 => ?_⟩, ⟨fun j j0 j1 j2 => ?_, fun e e0 e1 e2 => ?_, fun e e' e0 e1 e2 e3 e4 e5 => ?_⟩, aB.cg (fun c a j _ => fu _ _ _ (by omega)) (fun c a j _ => fv _ _ _ (by omega)), aM.cg (fun c a j _ => fu _ _ _ (by omega)) (fun c a j _ => fv _ _ _ (by omega)), aSt.cg (fun c a j _ => fu _ _ _ (by omega)) (fun c a j _ => fv _ _ _ (by omega)), aK.cg (fun c a j _ => fu _ _ _ (by omega)) (fun c a j _ => fv _ _ _ (by omega)), aH.cg (fun c a j _ => fu _ _ _ (by omega)) (fun c a j _ => fv _ _ _ (by omega)) (by rw [fv _ _ _ (by omega)]; omega), by rw [fv _ _ _ (by omega)]; exact a0⟩
  rotate_left
  · rw [fu _ _ _ (by omega), fv _ _ _ (by omega), fv _ _ _ (by omega)]; exact aT.1 j j0 j1
  · obtain ⟨x1, x2, x3⟩ := aT.2 e e0 e1
    by_cases ce : e = d
    · subst ce
      rw [p2, f2 _ _ _ (by omega), p1, g2 1000 (H + 149) _ (by omega), r1, r2, fv 41 H 12 (by omega)]
      exact ⟨⟨rfl, by omega, i1⟩, ⟨rfl, by omega, by omega⟩, fun q => absurd rfl q⟩
    · rw [f2 1000 (A + 15) e (by omega), f1 _ _ _ (by omega), f2 1000 (A + 16) e (by omega), f1 _ _ _ (by omega), fu 1000 (A + 17) _ (by omega), g2 1000 (H + 149) e (by omega), g1 _ _ _ (by omega), g2 1000 (H + 150) e (by omega), g1 _ _ _ (by omega), fv 1000 (H + 151) _ (by omega), fv 41 H 12 (by omega)]
      exact ⟨x1, x2, x3⟩
  · rw [fv 1000 (H + 148) _ (by omega)] at j2 ⊢
    rw [fv _ _ _ (by omega)]; exact aI.1 j j0 j1 j2
  · by_cases ce : e = d
    · subst ce; rw [r2] at e2; omega
    · rw [g2 1000 (H + 150) _ (by omega), g1 _ _ _ (by omega)] at e2 ⊢
      rw [fv _ _ _ (by omega), fv _ _ _ (by omega)]; exact aI.2.1 e e0 e1 e2
  · by_cases ce : e = d
    · subst ce; rw [r2] at e4; omega
    · by_cases ce' : e' = d
      · subst ce'; rw [r2] at e5; rw [e5] at e4; omega
      · rw [g2 1000 (H + 150) e (by omega), g1 _ _ _ (by omega)] at e4 e5
        rw [g2 1000 (H + 150) e' (by omega), g1 _ _ _ (by omega)] at e5
        exact aI.2.2 e e' e0 e1 e2 e3 e4 e5
  have q34 : jf w2 41 H 34 = jf t 41 H 34 := fv _ _ _ (by omega)
  have q153 : ∀ i, jf w2 1000 (H + 153) i = jf t 1000 (H + 153) i := fun i => fv _ _ _ (by omega)
  have q12 : jf w2 41 H 12 = jf t 41 H 12 := fv _ _ _ (by omega)
  have q144 : jf w2 1000 (H + 144) i = -2 := by rw [fv _ _ _ (by omega)]; exact hw
  have hnc2 : ∀ e, 0 ≤ e → e < 10 → ¬ jf w2 1000 (H + 150) e = i := fun e e0 e1 => by
    by_cases ce : e = d
    · subst ce; rw [r2]; omega
    · rw [g2 _ _ _ (by omega), g1 _ _ _ (by omega)]; exact hnc e e0 e1 ce
  dsimp only
  rw [jth_ff]
  rcases lab_def (i := i) R i0 (by rw [q12]; exact i1) hnc2 (by rw [q34, q153, fv 41 H 47 (by omega)]; exact hp) with ⟨q, r, d1', d2, d3, d4⟩ | ⟨u', w', e1, e2, e3, e4, e5, e6, e7⟩
  · exact absurd q144 d2
  rw [yd_is i0 (by omega), q34, q153] at e3
  rw [yd_is i0 (by omega), Option.bind_some, e1, Option.bind_some]
  dsimp only
  rw [jst_in d0 d1, Option.bind_some, jst_in d0 d1, Option.bind_some, Wz_1]
  have ew := congrArg Prod.fst (Option.some.inj e3)
  dsimp only at ew
  rw [G2, G1, jp_sw (show ¬ (1000 = 1000 ∧ H + 150 = H + 144 ∧ d = i) by omega), jp_sw (show ¬ (1000 = 1000 ∧ H + 149 = H + 144 ∧ d = i) by omega), jp_sw (show ¬ (1000 = 1000 ∧ H + 150 = H + 145 ∧ d = i) by omega), jp_sw (show ¬ (1000 = 1000 ∧ H + 149 = H + 145 ∧ d = i) by omega)] at ew
  rw [ew]
  exact .inr ⟨u', w', 0, rfl, rfl, e4, (cF.tr0 e5).o, tf.trans e6, by rw [e7, fv 41 H 26 (by omega)]; omega⟩
/-- a label that is a digit *-/
theorem dig2 (h : AR s t A H b lo NL I OL SL k z) (hp : jf t 1000 (H + 153) (jf t 41 H 34) = jf t 41 H 47) (d0 : 0 ≤ d) (d1 : d < 10) :
    stMt s t A H b lo NL I OL SL k z ((m_X33_digitLabel s A d).bind fun q9 => jth q9.2.1 (some (q9.1, true, q9.2.2)) ((m_X33_define q9.1 A q9.2.2 (jf q9.1 37 A 30) (jf q9.1 37 A 32) 0).bind fun q8 => jth q8.2.1 (some (q8.1, true, q8.2.2)) (some (q8.1, false, 0)))) ((jlt t 1000 (H + 150) 10 d).bind fun v8 => if v8 = (-1) then (m_X37_newHidden t H).bind fun q9 => u_X37_statement_202 q9.1 H d q9.2 else (jlt t 1000 (H + 150) 10 d).bind fun v10 => u_X37_statement_202 t H d v10) := by
  obtain ⟨aS, aT, aI, aB, aM, aSt, aK, aH, a0⟩ := id h.2.2.2.1
  obtain ⟨x1, x2, x3⟩ := aT.2 d d0 d1
  rw [em_X33_digitLabel]; unfold dm_X33_digitLabel
  simp only [jlt_in d0 d1, Option.bind_some]
  rw [x2.1]
  by_cases c : jf t 1000 (H + 150) d = -1
  rotate_left
  · rw [if_neg c, if_neg c]
    exact dig_core h hp d0 d1 (by omega) x2.2.2 (aI.2.1 d d0 d1 (by omega)).2 fun e e0 e1 ne q => ne (aI.2.2 e d e0 e1 d0 d1 (by omega) q)
  rw [if_pos c, if_pos c]
  rcases hid2 h with ⟨q, r, e1, e2, e3⟩ | ⟨e0, u, v, e1, e2, e3, e4, e5, e6, e7, e8, e9, e10⟩
  · rw [e1, e2, Option.bind_some, Option.bind_some, e3.th, eu_X37_statement_202]; unfold du_X37_statement_202
    refine .inl ⟨q, r, ?_, by rw [if_pos rfl, Wz_0], e3.out⟩
    show some (q.1, true, q.2.2) = some q
    rw [← e3.th]
  · rw [e1, e2, Option.bind_some, Option.bind_some]
    dsimp only
    rw [jth_ff]
    have fr : ∀ c a j, ¬ (c = 41 ∧ a = H ∧ (j = 12 ∨ j = 19)) → ¬ (c = 1000 ∧ H + 143 ≤ a ∧ a ≤ H + 147) → jf v c a j = jf t c a j := fun c a j z1 z2 => e9 c a j z1 (by omega)
    refine stMt.pre (dig_core e3 ?_ d0 d1 (by have := aS.2.1; omega) (by rw [e6]; omega) e8 fun e e0 e1 ne q => ?_) e4.o e5 (fr _ _ _ (by omega) (by omega))
    · rw [fr _ _ _ (by omega) (by omega), fr _ _ _ (by omega) (by omega), fr _ _ _ (by omega) (by omega)]; exact hp
    · rw [fr _ _ _ (by omega) (by omega)] at q
      have := (aT.2 e e0 e1).2.1.2.2
      omega
end jDigit
