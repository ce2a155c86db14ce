/-! directives: common places *-/
section jDirec3
variable {s t u w : jS} {v A H b lo W k c a hh x y m f d n o j i e : Int} {l : List Int} {NL : List (List Int)} {I : pI} {OL : List pvO} {SL : List pvS} {z : pvS} {zo : pvO} {Q Q' : jS → jS → Int → Prop}
/-- a common place is defined *-/
theorem comD (g : AG s t A H b lo NL I OL SL k z) (i0 : 0 ≤ i) (i1 : i < jf t 41 H 12) (he : 0 ≤ e ∧ e ≤ 4096) (hy : jin y) (hnc : ∀ d, 0 ≤ d → d < 10 → ¬ jf t 1000 (H + 150) d = i) : stO s t A H b lo NL I OL SL k z ((m_X33_define s A i 5 y e).bind fun q2 => jth q2.2.1 (some (q2.1, true, q2.2.2)) ((jix 100 i ((A + 1) + 26 + 1 * i)).bind fun v3 => (jzb 1).bind fun v4 => jls (jp q2.1 38 v3 4 v4) fun s5 => some (s5, false, 0))) ((jlt t 1000 (H + 144) 100 i).bind fun v7 => if v7 = (-2) then (jlt t 1000 (H + 147) 100 i).bind fun v8 => if v8 = 2 then u_X37_common_149 t H else (m_X37_define t H i 5 y).bind fun q9 => (jst q9.1 1000 (H + 146) 100 i e).bind fun s10 => (jst s10 1000 (H + 147) 100 i 1).bind fun s11 => some (s11, Wz 1) else u_X37_common_149 t H) (dQ t H) := by
  have n100 := g.1.n100
  obtain ⟨q1, q2, q3, q4, q5, q6, q7, q8, q9, q10, q11⟩ := aS1.at g.1 i0 i1
  rw [jlt_in i0 (by omega), Option.bind_some, jlt_in i0 (by omega), Option.bind_some, em_X33_define]; unfold dm_X33_define
  rw [jix_in i0 (by omega), Option.bind_some]
  have bad : stO s t A H b lo NL I OL SL k z ((u_X33_define_35 s A i 5 y e A).bind fun q2 => jth q2.2.1 (some (q2.1, true, q2.2.2)) ((some ((A + 1) + 26 + 1 * i)).bind fun v3 => (jzb 1).bind fun v4 => jls (jp q2.1 38 v3 4 v4) fun s5 => some (s5, false, 0))) (u_X37_common_149 t H) (dQ t H) := by
    rw [eu_X33_define_35, eu_X37_common_149]; unfold du_X33_define_35 du_X37_common_149
    rw [eu_X33_define_36]; unfold du_X33_define_36
    rw [Option.bind_assoc]
    exact .bad0 g (by decide) fun _ _ => rfl
  by_cases c1 : jf s 38 (A + 1 + 26 + 1 * i) 1 = -1
  rotate_left
  · rw [if_neg c1, if_neg (by rw [q3, if_neg c1]; omega)]
    exact bad
  rw [if_pos c1, if_pos rfl, if_pos (by rw [q3, if_pos c1]), Option.bind_some]
  by_cases c5 : jf s 38 (A + 1 + 26 + 1 * i) 5 = 0
  rotate_left
  · rw [if_neg c5, if_pos (by rw [q11, if_pos (q10.resolve_left c5)])]
    exact bad
  rw [if_pos c5, if_neg (by rw [q11, if_neg (by omega)]; split <;> omega), eu_X33_define_31, em_X37_define]; unfold du_X33_define_31 dm_X37_define
  rw [eu_X33_define_36]; unfold du_X33_define_36
  rw [needOk (by decide)]
  dsimp only
  rw [jth_ff, jix_in i0 (by omega), jst_in i0 (by omega), jzb_in (.inr rfl)]
  simp only [jls, Option.bind_some]
  obtain ⟨u1, E1⟩ : ∃ u1, u1 = jp s 38 (A + 1 + 26 + 1 * i) 1 5 := ⟨_, rfl⟩
  obtain ⟨u2, E2⟩ : ∃ u2, u2 = jp u1 38 (A + 1 + 26 + 1 * i) 2 y := ⟨_, rfl⟩
  obtain ⟨u3, E3⟩ : ∃ u3, u3 = jp u2 38 (A + 1 + 26 + 1 * i) 3 e := ⟨_, rfl⟩
  obtain ⟨u4, E4⟩ : ∃ u4, u4 = jp u3 38 (A + 1 + 26 + 1 * i) 4 1 := ⟨_, rfl⟩
  obtain ⟨w1, G1⟩ : ∃ w1, w1 = jp t 1000 (H + 144) i 5 := ⟨_, rfl⟩
  obtain ⟨w2, G2⟩ : ∃ w2, w2 = jp w1 1000 (H + 145) i y := ⟨_, rfl⟩
  obtain ⟨w3, G3⟩ : ∃ w3, w3 = jp w2 1000 (H + 146) i e := ⟨_, rfl⟩
  obtain ⟨w4, G4⟩ : ∃ w4, w4 = jp w3 1000 (H + 147) i 1 := ⟨_, rfl⟩
  obtain ⟨f1, p1, -⟩ := jpF E1
  obtain ⟨f2, p2, -⟩ := jpF E2
  obtain ⟨f3, p3, -⟩ := jpF E3
  obtain ⟨f4, p4, -⟩ := jpF E4
  obtain ⟨g1, r1, -⟩ := jpF G1
  obtain ⟨g2, r2, -⟩ := jpF G2
  obtain ⟨g3, r3, -⟩ := jpF G3
  obtain ⟨g4, r4, -⟩ := jpF G4
  rw [← E1, ← E2, ← E3, ← G1, jst_in i0 (by omega), Option.bind_some, ← G2, jth_ff, ← E4, Option.bind_some]
  dsimp only
  rw [jst_in i0 (by omega), Option.bind_some, ← G3, jst_in i0 (by omega), Option.bind_some, ← G4, Wz_1]
  have cF : cFa A s u4 0 0 := (((cF1 (A := A) E1 (by omega)).wr E2 (by omega)).wr E3 (by omega)).wr E4 (by omega)
  have tf : tF H t w4 := (((tF.rfl.wr G1 (by omega)).wr G2 (by omega)).wr G3 (by omega)).wr G4 (by omega)
  have fu : ∀ c a k, ¬ (c = 38 ∧ a = A + 1 + 26 + 1 * i) → jf u4 c a k = jf s c a k := fun c a k hc => by rw [f4 _ _ _ (by omega), f3 _ _ _ (by omega), f2 _ _ _ (by omega), f1 _ _ _ (by omega)]
  have fv : ∀ c a k, ¬ (c = 1000 ∧ H + 144 ≤ a ∧ a ≤ H + 147 ∧ k = i) → jf w4 c a k = jf t c a k := fun c a k hc => by rw [g4 _ _ _ (by omega), g3 _ _ _ (by omega), g2 _ _ _ (by omega), g1 _ _ _ (by omega)]
  have s0 : jf u4 38 (A + 1 + 26 + 1 * i) 0 = jf s 38 (A + 1 + 26 + 1 * i) 0 := by rw [f4 _ _ _ (by omega), f3 _ _ _ (by omega), f2 _ _ _ (by omega), f1 _ _ _ (by omega)]
  have s1 : jf u4 38 (A + 1 + 26 + 1 * i) 1 = 5 := by rw [f4 _ _ _ (by omega), f3 _ _ _ (by omega), f2 _ _ _ (by omega), p1]
  have s2 : jf u4 38 (A + 1 + 26 + 1 * i) 2 = y := by rw [f4 _ _ _ (by omega), f3 _ _ _ (by omega), p2]
  have s3 : jf u4 38 (A + 1 + 26 + 1 * i) 3 = e := by rw [f4 _ _ _ (by omega), p3]
  have s5 : jf u4 38 (A + 1 + 26 + 1 * i) 5 = 0 := by rw [f4 _ _ _ (by omega), f3 _ _ _ (by omega), f2 _ _ _ (by omega), f1 _ _ _ (by omega)]; exact c5
  have t1 : jf w4 1000 (H + 144) i = 5 := by rw [g4 _ _ _ (by omega), g3 _ _ _ (by omega), g2 _ _ _ (by omega), r1]
  have t2 : jf w4 1000 (H + 145) i = y := by rw [g4 _ _ _ (by omega), g3 _ _ _ (by omega), r2]
  have t3 : jf w4 1000 (H + 146) i = e := by rw [g4 _ _ _ (by omega), r3]
  have R : AR u4 w4 A H b lo NL I OL SL k z := g.1.symw i0 i1 fu cF fv tf (by
    unfold aS1
    rw [s0, s1, s2, s3, p4, s5, fv 1000 (H + 143) i (by omega), t1, t2, t3, r4]
    exact ⟨q1, q2, by rw [if_neg (by decide)], by decide, rfl, hy, rfl, ⟨he.1, he.2, fun q => absurd q (by decide)⟩, .inr rfl, .inl rfl, by rw [if_neg (by decide), if_pos rfl]⟩) (.inr hnc)
  exact .inr ⟨u4, w4, 0, rfl, rfl, g.bk R ⟨fu _ _ _ (by omega), fu _ _ _ (by omega)⟩ ⟨fv _ _ _ (by omega), fv _ _ _ (by omega)⟩, cF, tf, fv _ _ _ (by omega)⟩
theorem common2 (h : AG s t A H b lo NL I OL SL k z) : stO s t A H b lo NL I OL SL k z (m_X33_common s A) (m_X37_common t H) (dQ t H) := by
  rw [em_X33_common, em_X37_common]; unfold dm_X33_common dm_X37_common
  rw [h.2.1.2.2.1, y_are h, Option.bind_some]
  have bd : stO s t A H b lo NL I OL SL k z (u_X33_common_37 s A A) (u_X37_common_19 t H) (dQ t H) := by
    rw [eu_X33_common_37, eu_X37_common_19]; unfold du_X33_common_37 du_X37_common_19
    rw [eu_X33_common_38]; unfold du_X33_common_38
    exact .bad0 h (by decide) fun _ _ => rfl
  dsimp only
  by_cases c : z.2.2.2.1 = 3
  rotate_left
  · rw [if_neg c, if0 (fun e => c e.1), if_pos rfl]; exact bd
  rw [if_pos c, c_isNm h (by decide) (by omega), Option.bind_some, c_isX h (by decide) (by omega), c_isX h (by decide) (by omega)]
  have e0 : z.2.2.1 + 0 = z.2.2.1 := by omega
  have st0 := h.1.st0
  have o2 := (h.1.op (j := 2) (by decide) (by omega)).2.2.1
  by_cases cn : nmOp I (tO OL (z.2.2.1 + 0))
  rotate_left
  · rw [if0 cn, if_pos rfl]
    by_cases ca : z.2.2.2.1 = 3 ∧ (1 ≤ (3 : Int) → opSr 0 (tO OL z.2.2.1)) ∧ (2 ≤ (3 : Int) → opSr 0 (tO OL (z.2.2.1 + 1))) ∧ (3 ≤ (3 : Int) → opSr 0 (tO OL (z.2.2.1 + 2)))
    · rw [if1 ca, if_neg n10, y_isN h (by decide) (by omega), Option.bind_some]
      dsimp only
      rw [if0 cn, if_pos rfl]; exact bd
    · rw [if0 ca, if_pos rfl]; exact bd
  rw [if1 cn, if_neg n10, Option.bind_some]
  by_cases cx : opSr 0 (tO OL (z.2.2.1 + 1))
  rotate_left
  · rw [if0 cx, if_pos rfl, if0 (fun e => cx (e.2.2.1 (by decide))), if_pos rfl]; exact bd
  rw [if1 cx, if_neg n10, Option.bind_some]
  by_cases cy : opSr 0 (tO OL (z.2.2.1 + 2))
  rotate_left
  · rw [if0 cy, if_pos rfl, if0 (fun e => cy (e.2.2.2 (by decide))), if_pos rfl]; exact bd
  rw [if1 cy, if_neg n10, if1 ⟨c, fun _ => by rw [e0] at cn; exact cn.1, fun _ => cx, fun _ => cy⟩, if_neg n10, y_isN h (by decide) (by omega), Option.bind_some]
  dsimp only
  rw [if1 cn, if_neg n10, y_nmAt h (by decide) (by omega) cn, Option.bind_some, eu_X33_common_38]; unfold du_X33_common_38
  rw [needOk (by decide)]
  dsimp only
  rw [jth_ff, c_nmOf h (by decide) (by omega) cn, Option.bind_some]
  obtain ⟨m0, m1⟩ := opNm_in h (by decide) (by omega) cn
  refine symFor_st h m0 m1 (fun _ _ => rfl) (fun r => by dsimp only; rw [if_pos rfl, Wz_0]) fun u w i g c1 c2 i0 i1 hi sU sV => ?_
  dsimp only
  rw [jth_ff, if_neg (by omega), g.2.1.2.1, W32_in (z := z.2.2.1 + 1) (by omega) (by omega)]
  refine within2 (g := fun u1 d1 => (m_X33_plain u1 A 2).bind fun q2 => jth q2.2.1 (some (q2.1, true, q2.2.2)) (if q2.2.2 < 1 then u_X33_common_113 q2.1 A i d1 q2.2.2 A else if 64 < q2.2.2 then u_X33_common_113 q2.1 A i d1 q2.2.2 A else if (I_and q2.2.2 (W32 (q2.2.2 - 1))) = 0 then u_X33_common_114 q2.1 A i d1 q2.2.2 1 A else u_X33_common_113 q2.1 A i d1 q2.2.2 A)) (o := 15) g (by decide) (by omega) (.inl cx.1) (fun _ _ => ?_) (fun u1 d1 => ?_) rfl (fun r => ?_) fun u1 w1 d1 a1 b1 b2 ⟨v1, v2, v3, v4, v5⟩ hd hx1 hx2 hpl => ?_
  · rfl
  · dsimp only
    rw [jth_ff, eu_X33_common_76, eu_X33_common_77]; unfold du_X33_common_76
    rw [eu_X33_common_77]; unfold du_X33_common_77
    rfl
  · exact tw0 r
  dsimp only
  rw [if_neg n10, a1.2.1.2.1, W32_in (z := z.2.2.1 + 2) (by omega) (by omega)]
  refine (plain2 a1 (by decide) (by omega) (.inl cy.1)).bind (fun _ _ => rfl) (fun r => tw0 r) fun u2 w2 d2 a2 b3 b4 ⟨⟨v1', v2', v3', v4', v5'⟩, q1, q2, q3⟩ => ?_
  dsimp only
  rw [jth_ff, if_neg n10, ← q1]
  have bd2 : stO u2 w2 A H b lo NL I OL SL k z (u_X33_common_113 u2 A i d1 d2 A) (u_X37_common_111 w2 H) (dQ t H) := by
    rw [eu_X33_common_113, eu_X37_common_111]; unfold du_X33_common_113 du_X37_common_111
    rw [eu_X33_common_114]; unfold du_X33_common_114
    rw [a2.2.1.2.1, W32_in (z := z.2.2.1 + 2) (by omega) (by omega)]
    exact .badAt a2 (by decide) (by decide) (by omega) (fun _ _ => rfl) fun r => tw1 r
  by_cases l1 : d2 < 1
  · rw [if_pos l1, if_pos l1]; exact bd2
  rw [if_neg l1, if_neg l1]
  by_cases l2 : 64 < d2
  · rw [if_pos l2, if_pos l2]; exact bd2
  rw [if_neg l2, if_neg l2]
  by_cases l3 : I_and d2 (W32 (d2 - 1)) = 0
  rotate_left
  · rw [if_neg l3, if_neg l3]; exact bd2
  rw [if_pos l3, if_pos l3, eu_X33_common_114]; unfold du_X33_common_114
  rw [needAtOk (by decide)]
  dsimp only
  rw [jth_ff, ← hd]
  have sk := v5.trans v5'
  have nc := a2.1.nk i0 (by rw [sk.2 i i0 i1, ← hi, g.1.2.2.2.1.2.2.1.1 _ m0 m1 (by omega)]; exact m0)
  refine (comD a2 i0 (by have := sk.1; omega) (by omega) (by unfold jin; omega) nc).mono fun a b c hq => ?_
  show jf b 41 H 26 = jf t 41 H 26
  rw [hq, v2' _ _ _ (by omega) (by omega), v2 _ _ _ (by omega) (by omega), sV _ _ _ (by omega) (by omega)]
end jDirec3
