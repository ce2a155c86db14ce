/-! directives: numbers given to names, common places *-/
section jDirec2
variable {s t u w : jS} {v A H b lo W k c a hh x y m f d n o j i e : Int} {l : List Int} {NL : List (List Int)} {I : pI} {OL : List pvO} {SL : List pvS} {z : pvS} {zo : pvO} {Q Q' : jS → jS → Int → Prop}
theorem if0 {p : Prop} [Decidable p] (h : ¬ p) : (if p then (1 : Int) else 0) = 0 := if_neg h
theorem if1 {p : Prop} [Decidable p] (h : p) : (if p then (1 : Int) else 0) = 1 := if_pos h
theorem symD_st {G : jS × Int → Option (jS × Int)} (g : AG s t A H b lo NL I OL SL k z) (i0 : 0 ≤ i) (i1 : i < jf t 41 H 12) (x0 : 0 ≤ x ∧ x ≤ 4) (hy : jin y) (hnc : ∀ d, 0 ≤ d → d < 10 → ¬ jf t 1000 (H + 150) d = i) (hG : ∀ u : jS, G (u, 0) = some (u, 1)) : stO s t A H b lo NL I OL SL k z ((m_X33_define s A i x y 0).bind fun q5 => jth q5.2.1 (some (q5.1, true, q5.2.2)) (some (q5.1, false, 0))) ((jlt t 1000 (H + 144) 100 i).bind fun v6 => if v6 = (-2) then (m_X37_define t H i x y).bind G else (m_X37_fail t H 16).bind fun q8 => some (q8.1, Wz q8.2)) (dQ t H) := by
  have n100 := g.1.n100
  rw [jlt_in i0 (by omega), Option.bind_some]
  by_cases c : jf t 1000 (H + 144) i = -2
  · obtain ⟨u', w', e1, e2, e3, e4, e5, e6, e7⟩ := def2 g.1 i0 i1 c x0 hy hnc
    rw [if_pos c, e1, e2, Option.bind_some, Option.bind_some, hG]
    dsimp only
    rw [jth_ff]
    exact .inr ⟨u', w', 0, rfl, rfl, g.bk e3 ⟨e7 _ _ _ (by omega), e7 _ _ _ (by omega)⟩ ⟨e6 _ _ _ (by omega), e6 _ _ _ (by omega)⟩, e4, e5, e6 _ _ _ (by omega)⟩
  · obtain ⟨q, r, e1, e2, e3⟩ := defBad (x := x) (y := y) (e := 0) g.1 i0 i1 c
    rw [if_neg c]
    refine .inl ⟨q, r, ?_, ?_, e3⟩
    · rw [e1, Option.bind_some, e3.th]; rfl
    · rw [e2, Option.bind_some, Wz_0]
/-- a name's symbol does not come -/
theorem AR.nk (h : AR s t A H b lo NL I OL SL k z) (i0 : 0 ≤ i) (hm : 0 ≤ jf t 1000 (H + 143) i) : ∀ d, 0 ≤ d → d < 10 → ¬ jf t 1000 (H + 150) d = i := fun d d0 d1 hd => by
  have := (h.2.2.2.1.2.2.1.2.1 d d0 d1 (by omega)).1
  rw [hd] at this; omega
theorem equal2 (h : AG s t A H b lo NL I OL SL k z) : stO s t A H b lo NL I OL SL k z (m_X33_equal s A) (m_X37_equate t H) (dQ t H) := by
  rw [em_X33_equal, em_X37_equate]; unfold dm_X33_equal dm_X37_equate
  rw [h.2.1.2.2.1, y_are h, Option.bind_some]
  have bd : stO s t A H b lo NL I OL SL k z (u_X33_equal_29 s A A) (u_X37_equate_19 t H) (dQ t H) := by
    rw [eu_X33_equal_29, eu_X37_equate_19]; unfold du_X33_equal_29 du_X37_equate_19
    rw [eu_X33_equal_30]; unfold du_X33_equal_30
    exact .bad0 h (by decide) fun _ _ => rfl
  dsimp only
  by_cases c : z.2.2.2.1 = 2
  rotate_left
  · rw [if_neg c, if0 (fun e => c e.1), if_pos rfl]; exact bd
  rw [if_pos c, c_isNm h (by decide) (by omega), Option.bind_some, c_isX h (by decide) (by omega)]
  have e0 : z.2.2.1 + 0 = z.2.2.1 := by omega
  by_cases cn : nmOp I (tO OL (z.2.2.1 + 0))
  rotate_left
  · rw [if0 cn, if_pos rfl]
    by_cases ca : z.2.2.2.1 = 2 ∧ (1 ≤ (2 : Int) → opSr 0 (tO OL z.2.2.1)) ∧ (2 ≤ (2 : Int) → opSr 0 (tO OL (z.2.2.1 + 1))) ∧ (3 ≤ (2 : Int) → opSr 0 (tO OL (z.2.2.1 + 2)))
    · rw [if1 ca, if_neg n10, y_isN h (by decide) (by omega), Option.bind_some]
      dsimp only
      rw [if0 cn, if_pos rfl]; exact bd
    · rw [if0 ca, if_pos rfl]; exact bd
  rw [if1 cn, if_neg n10, Option.bind_some]
  by_cases cx : opSr 0 (tO OL (z.2.2.1 + 1))
  rotate_left
  · rw [if0 cx, if_pos rfl, if0 (fun e => cx (e.2.2.1 (by decide))), if_pos rfl]; exact bd
  rw [if1 cx, if_neg n10, if1 ⟨c, fun _ => by rw [e0] at cn; exact cn.1, fun _ => cx, fun e => absurd e (by decide)⟩, if_neg n10, y_isN h (by decide) (by omega), Option.bind_some]
  dsimp only
  rw [if1 cn, if_neg n10, y_nmAt h (by decide) (by omega) cn, Option.bind_some, eu_X33_equal_30]; unfold du_X33_equal_30
  rw [needOk (by decide)]
  dsimp only
  rw [jth_ff, c_nmOf h (by decide) (by omega) cn, Option.bind_some]
  obtain ⟨m0, m1⟩ := opNm_in h (by decide) (by omega) cn
  refine symFor_st h m0 m1 (fun _ _ => rfl) (fun r => by dsimp only; rw [if_pos rfl, Wz_0]) fun u w i g c1 c2 i0 i1 hi sU sV => ?_
  dsimp only
  rw [jth_ff, if_neg (by omega), g.2.1.2.1, W32_in (z := z.2.2.1 + 1) (by have := g.1.st0; have := (h.1.op (j := 1) (by decide) (by omega)).2.2.1; omega) (by have := (h.1.op (j := 1) (by decide) (by omega)).2.2.1; omega)]
  refine (plain2 g (by decide) (by omega) (.inl cx.1)).bind (fun _ _ => rfl) (fun r => tw0 r) fun u' w' d g' d1 d2 ⟨⟨v1, v2, v3, v4, v5⟩, q1, q2, q3⟩ => ?_
  dsimp only
  rw [jth_ff, if_neg n10, q1]
  have i1' : i < jf w' 41 H 12 := by have := v5.1; omega
  have nc := g'.1.nk i0 (by rw [v5.2 i i0 i1, ← hi, g.1.2.2.2.1.2.2.1.1 _ m0 m1 (by omega)]; exact m0)
  have := symD_st (G := fun q7 => some (q7.1, Wz 1)) g' i0 i1' (x := 4) (y := jf w' 41 H 52) (by decide) v4.1 nc (fun u => by rw [Wz_1])
  refine this.mono fun a b c hq => ?_
  show jf b 41 H 26 = jf t 41 H 26
  rw [hq, v2 _ _ _ (by omega) (by omega), sV _ _ _ (by omega) (by omega)]
end jDirec2
