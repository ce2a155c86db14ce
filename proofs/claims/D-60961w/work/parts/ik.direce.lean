/-! directives: which one (the cases are printed by gen_dir.py) -/
set_option maxRecDepth 100000
section jDirece
variable {s t u w t' s1 t1 : jS} {v A H b lo W k c a hh x y f d n o j e m p pl g' : Int} {l : List Int} {NL : List (List Int)} {I : pI} {OL : List pvO} {SL : List pvS} {z : pvS} {zo : pvO} {Q Q' : jS → jS → Int → Prop} {q : jS × Bool × Int} {r : jS} {xx : Option (jS × Bool × Int)} {yy : Option (jS × Int)}
theorem stO.finC (h : stO s t A H b lo NL I OL SL k z xx yy (dQ t H)) : stO s t A H b lo NL I OL SL k z (xx.bind fun q => jth q.2.1 (some (q.1, true, q.2.2)) (some (q.1, false, 0))) yy (dQ t H) := by
  rcases h with ⟨q, r, e1, e2, e3⟩ | ⟨u, w, v, e1, e2, e3, e4, e5, e6⟩
  · exact .inl ⟨q, r, by rw [e1, Option.bind_some, e3.th]; rfl, e2, e3⟩
  · refine .inr ⟨u, w, 0, ?_, e2, e3, e4, e5, e6⟩
    rw [e1, Option.bind_some]
    dsimp only
    rw [jth_ff]
theorem stO.finY (h : stO s t A H b lo NL I OL SL k z xx yy Q) : stO s t A H b lo NL I OL SL k z xx (yy.bind fun q => some (q.1, Wz q.2)) Q := by
  rcases h with ⟨q, r, e1, e2, e3⟩ | ⟨u, w, v, e1, e2, e3, e4, e5, e6⟩
  · exact .inl ⟨q, r, e1, by rw [e2, Option.bind_some, Wz_0], e3⟩
  · exact .inr ⟨u, w, v, e1, by rw [e2, Option.bind_some, Wz_1], e3, e4, e5, e6⟩
theorem dir_do {i : Nat} (g : AG s t A H b lo NL I OL SL k z) (hs : pSg s x l) (h16 : l.length ≤ 16) (hi : i < 16) (hl : l = cS i) : stW s t A H b lo NL I OL SL k z (u_X33_directive_395 s A x (i : Int)) (m_X37_directive t H (100 + (i : Int))) (dQ t H) := by
  have eqs : ∀ e : Nat, e < 202 → mp_J2_equals s x (jc s (e : Int)) = some (if l = cS e then 1 else 0) := fun e he => s_equals hs (g.con.1 e he).1 (by omega)
  have : i = 0 ∨ i = 1 ∨ i = 2 ∨ i = 3 ∨ i = 4 ∨ i = 5 ∨ i = 6 ∨ i = 7 ∨ i = 8 ∨ i = 9 ∨ i = 10 ∨ i = 11 ∨ i = 12 ∨ i = 13 ∨ i = 14 ∨ i = 15 := by omega
  rcases this with rfl | rfl | rfl | rfl | rfl | rfl | rfl | rfl | rfl | rfl | rfl | rfl | rfl | rfl | rfl | rfl
  · rw [show ((0 : Nat) : Int) = 0 from rfl, show (100 : Int) + 0 = 100 from rfl, eu_X33_directive_395, em_X37_directive]; unfold du_X33_directive_395 dm_X37_directive
    rw [if_pos (show (0 : Int) = 0 from rfl)]
    rw [if_pos (show (100 : Int) = 100 from rfl)]
    exact stO.out (section2 g (by decide) (by decide) (by decide)).finC
  · rw [show ((1 : Nat) : Int) = 1 from rfl, show (100 : Int) + 1 = 101 from rfl, eu_X33_directive_395, em_X37_directive]; unfold du_X33_directive_395 dm_X37_directive
    rw [if_neg (show ¬ (1 : Int) = 0 by decide), if_pos (show (1 : Int) = 1 from rfl)]
    rw [if_neg (show ¬ (101 : Int) = 100 by decide), if_pos (show (101 : Int) = 101 from rfl)]
    exact stO.out (section2 g (by decide) (by decide) (by decide)).finC
  · rw [show ((2 : Nat) : Int) = 2 from rfl, show (100 : Int) + 2 = 102 from rfl, eu_X33_directive_395, em_X37_directive]; unfold du_X33_directive_395 dm_X37_directive
    rw [if_neg (show ¬ (2 : Int) = 0 by decide), if_neg (show ¬ (2 : Int) = 1 by decide), if_pos (show (2 : Int) = 2 from rfl)]
    rw [if_neg (show ¬ (102 : Int) = 100 by decide), if_neg (show ¬ (102 : Int) = 101 by decide), if_pos (show (102 : Int) = 102 from rfl)]
    exact stO.out (section2 g (by decide) (by decide) (by decide)).finC
  · rw [show ((3 : Nat) : Int) = 3 from rfl, show (100 : Int) + 3 = 103 from rfl, eu_X33_directive_395, em_X37_directive]; unfold du_X33_directive_395 dm_X37_directive
    rw [if_neg (show ¬ (3 : Int) = 0 by decide), if_neg (show ¬ (3 : Int) = 1 by decide), if_neg (show ¬ (3 : Int) = 2 by decide), if_pos (show (3 : Int) = 3 from rfl)]
    rw [if_neg (show ¬ (103 : Int) = 100 by decide), if_neg (show ¬ (103 : Int) = 101 by decide), if_neg (show ¬ (103 : Int) = 102 by decide), if_pos (show (103 : Int) = 103 from rfl)]
    exact stO.out (section2 g (by decide) (by decide) (by decide)).finC
  · rw [show ((4 : Nat) : Int) = 4 from rfl, show (100 : Int) + 4 = 104 from rfl, eu_X33_directive_395, em_X37_directive]; unfold du_X33_directive_395 dm_X37_directive
    rw [if_neg (show ¬ (4 : Int) = 0 by decide), if_neg (show ¬ (4 : Int) = 1 by decide), if_neg (show ¬ (4 : Int) = 2 by decide), if_neg (show ¬ (4 : Int) = 3 by decide), if_pos (show (4 : Int) = 4 from rfl)]
    rw [if_neg (show ¬ (104 : Int) = 100 by decide), if_neg (show ¬ (104 : Int) = 101 by decide), if_neg (show ¬ (104 : Int) = 102 by decide), if_neg (show ¬ (104 : Int) = 103 by decide), if_pos (show (104 : Int) = 104 from rfl)]
    rw [eu_X33_directive_500, eu_X37_directive_100]; unfold du_X33_directive_500 du_X37_directive_100
    rw [show mp_J2_equals s x (jc s 5) = some (if l = cS 5 then 1 else 0) from eqs 5 (by decide), Option.bind_some, if_neg (show ¬ l = cS 5 by rw [hl]; decide), if_pos (show (104 : Int) = 104 from rfl), eu_X37_directive_112]; unfold du_X37_directive_112
    exact stO.out (bound2 g (.inl ⟨rfl, rfl⟩)).finC.finY
  · rw [show ((5 : Nat) : Int) = 5 from rfl, show (100 : Int) + 5 = 105 from rfl, eu_X33_directive_395, em_X37_directive]; unfold du_X33_directive_395 dm_X37_directive
    rw [if_neg (show ¬ (5 : Int) = 0 by decide), if_neg (show ¬ (5 : Int) = 1 by decide), if_neg (show ¬ (5 : Int) = 2 by decide), if_neg (show ¬ (5 : Int) = 3 by decide), if_neg (show ¬ (5 : Int) = 4 by decide), if_pos (show (5 : Int) = 5 from rfl)]
    rw [if_neg (show ¬ (105 : Int) = 100 by decide), if_neg (show ¬ (105 : Int) = 101 by decide), if_neg (show ¬ (105 : Int) = 102 by decide), if_neg (show ¬ (105 : Int) = 103 by decide), if_neg (show ¬ (105 : Int) = 104 by decide), if_pos (show (105 : Int) = 105 from rfl)]
    rw [eu_X33_directive_500, eu_X37_directive_100]; unfold du_X33_directive_500 du_X37_directive_100
    rw [show mp_J2_equals s x (jc s 5) = some (if l = cS 5 then 1 else 0) from eqs 5 (by decide), Option.bind_some, if_pos (show l = cS 5 from hl), if_neg (show ¬ (105 : Int) = 104 by decide), eu_X37_directive_112]; unfold du_X37_directive_112
    exact stO.out (bound2 g (.inr ⟨rfl, rfl⟩)).finC.finY
  · rw [show ((6 : Nat) : Int) = 6 from rfl, show (100 : Int) + 6 = 106 from rfl, eu_X33_directive_395, em_X37_directive]; unfold du_X33_directive_395 dm_X37_directive
    rw [if_neg (show ¬ (6 : Int) = 0 by decide), if_neg (show ¬ (6 : Int) = 1 by decide), if_neg (show ¬ (6 : Int) = 2 by decide), if_neg (show ¬ (6 : Int) = 3 by decide), if_neg (show ¬ (6 : Int) = 4 by decide), if_neg (show ¬ (6 : Int) = 5 by decide), if_pos (show (6 : Int) = 6 from rfl)]
    rw [if_neg (show ¬ (106 : Int) = 100 by decide), if_neg (show ¬ (106 : Int) = 101 by decide), if_neg (show ¬ (106 : Int) = 102 by decide), if_neg (show ¬ (106 : Int) = 103 by decide), if_neg (show ¬ (106 : Int) = 104 by decide), if_neg (show ¬ (106 : Int) = 105 by decide), if_pos (show (106 : Int) = 106 from rfl)]
    exact stO.out (equal2 g).finC.finY
  · rw [show ((7 : Nat) : Int) = 7 from rfl, show (100 : Int) + 7 = 107 from rfl, eu_X33_directive_395, em_X37_directive]; unfold du_X33_directive_395 dm_X37_directive
    rw [if_neg (show ¬ (7 : Int) = 0 by decide), if_neg (show ¬ (7 : Int) = 1 by decide), if_neg (show ¬ (7 : Int) = 2 by decide), if_neg (show ¬ (7 : Int) = 3 by decide), if_neg (show ¬ (7 : Int) = 4 by decide), if_neg (show ¬ (7 : Int) = 5 by decide), if_neg (show ¬ (7 : Int) = 6 by decide), if_pos (show (7 : Int) = 7 from rfl)]
    rw [if_neg (show ¬ (107 : Int) = 100 by decide), if_neg (show ¬ (107 : Int) = 101 by decide), if_neg (show ¬ (107 : Int) = 102 by decide), if_neg (show ¬ (107 : Int) = 103 by decide), if_neg (show ¬ (107 : Int) = 104 by decide), if_neg (show ¬ (107 : Int) = 105 by decide), if_neg (show ¬ (107 : Int) = 106 by decide), if_pos (show (107 : Int) = 107 from rfl)]
    exact stO.out (common2 g).finC.finY
  · rw [show ((8 : Nat) : Int) = 8 from rfl, show (100 : Int) + 8 = 108 from rfl, eu_X33_directive_395, em_X37_directive]; unfold du_X33_directive_395 dm_X37_directive
    rw [if_neg (show ¬ (8 : Int) = 0 by decide), if_neg (show ¬ (8 : Int) = 1 by decide), if_neg (show ¬ (8 : Int) = 2 by decide), if_neg (show ¬ (8 : Int) = 3 by decide), if_neg (show ¬ (8 : Int) = 4 by decide), if_neg (show ¬ (8 : Int) = 5 by decide), if_neg (show ¬ (8 : Int) = 6 by decide), if_neg (show ¬ (8 : Int) = 7 by decide), if_pos (show (8 : Int) = 8 from rfl)]
    rw [if_neg (show ¬ (108 : Int) = 100 by decide), if_neg (show ¬ (108 : Int) = 101 by decide), if_neg (show ¬ (108 : Int) = 102 by decide), if_neg (show ¬ (108 : Int) = 103 by decide), if_neg (show ¬ (108 : Int) = 104 by decide), if_neg (show ¬ (108 : Int) = 105 by decide), if_neg (show ¬ (108 : Int) = 106 by decide), if_neg (show ¬ (108 : Int) = 107 by decide), if_pos (show (108 : Int) = 108 from rfl)]
    rw [eu_X37_directive_126]; unfold du_X37_directive_126
    rw [W32_in (z := 108 - 108) (by decide) (by decide), i_shl_p (by decide) (by decide), W32_in (z := 1 * 2 ^ (108 - 108 : Int).toNat) (by decide) (by decide), show (1 : Int) * 2 ^ (108 - 108 : Int).toNat = 1 by decide]
    exact stO.out (numbers2 g (by decide)).finC.finY
  · rw [show ((9 : Nat) : Int) = 9 from rfl, show (100 : Int) + 9 = 109 from rfl, eu_X33_directive_395, em_X37_directive]; unfold du_X33_directive_395 dm_X37_directive
    rw [if_neg (show ¬ (9 : Int) = 0 by decide), if_neg (show ¬ (9 : Int) = 1 by decide), if_neg (show ¬ (9 : Int) = 2 by decide), if_neg (show ¬ (9 : Int) = 3 by decide), if_neg (show ¬ (9 : Int) = 4 by decide), if_neg (show ¬ (9 : Int) = 5 by decide), if_neg (show ¬ (9 : Int) = 6 by decide), if_neg (show ¬ (9 : Int) = 7 by decide), if_neg (show ¬ (9 : Int) = 8 by decide), if_pos (show (9 : Int) = 9 from rfl)]
    rw [if_neg (show ¬ (109 : Int) = 100 by decide), if_neg (show ¬ (109 : Int) = 101 by decide), if_neg (show ¬ (109 : Int) = 102 by decide), if_neg (show ¬ (109 : Int) = 103 by decide), if_neg (show ¬ (109 : Int) = 104 by decide), if_neg (show ¬ (109 : Int) = 105 by decide), if_neg (show ¬ (109 : Int) = 106 by decide), if_neg (show ¬ (109 : Int) = 107 by decide), if_neg (show ¬ (109 : Int) = 108 by decide), if_pos (show (109 : Int) = 109 from rfl)]
    rw [eu_X37_directive_126]; unfold du_X37_directive_126
    rw [W32_in (z := 109 - 108) (by decide) (by decide), i_shl_p (by decide) (by decide), W32_in (z := 1 * 2 ^ (109 - 108 : Int).toNat) (by decide) (by decide), show (1 : Int) * 2 ^ (109 - 108 : Int).toNat = 2 by decide]
    exact stO.out (numbers2 g (by decide)).finC.finY
  · rw [show ((10 : Nat) : Int) = 10 from rfl, show (100 : Int) + 10 = 110 from rfl, eu_X33_directive_395, em_X37_directive]; unfold du_X33_directive_395 dm_X37_directive
    rw [if_neg (show ¬ (10 : Int) = 0 by decide), if_neg (show ¬ (10 : Int) = 1 by decide), if_neg (show ¬ (10 : Int) = 2 by decide), if_neg (show ¬ (10 : Int) = 3 by decide), if_neg (show ¬ (10 : Int) = 4 by decide), if_neg (show ¬ (10 : Int) = 5 by decide), if_neg (show ¬ (10 : Int) = 6 by decide), if_neg (show ¬ (10 : Int) = 7 by decide), if_neg (show ¬ (10 : Int) = 8 by decide), if_neg (show ¬ (10 : Int) = 9 by decide), if_pos (show (10 : Int) = 10 from rfl)]
    rw [if_neg (show ¬ (110 : Int) = 100 by decide), if_neg (show ¬ (110 : Int) = 101 by decide), if_neg (show ¬ (110 : Int) = 102 by decide), if_neg (show ¬ (110 : Int) = 103 by decide), if_neg (show ¬ (110 : Int) = 104 by decide), if_neg (show ¬ (110 : Int) = 105 by decide), if_neg (show ¬ (110 : Int) = 106 by decide), if_neg (show ¬ (110 : Int) = 107 by decide), if_neg (show ¬ (110 : Int) = 108 by decide), if_neg (show ¬ (110 : Int) = 109 by decide), if_pos (show (110 : Int) = 110 from rfl)]
    rw [eu_X37_directive_126]; unfold du_X37_directive_126
    rw [W32_in (z := 110 - 108) (by decide) (by decide), i_shl_p (by decide) (by decide), W32_in (z := 1 * 2 ^ (110 - 108 : Int).toNat) (by decide) (by decide), show (1 : Int) * 2 ^ (110 - 108 : Int).toNat = 4 by decide]
    exact stO.out (numbers2 g (by decide)).finC.finY
  · rw [show ((11 : Nat) : Int) = 11 from rfl, show (100 : Int) + 11 = 111 from rfl, eu_X33_directive_395, em_X37_directive]; unfold du_X33_directive_395 dm_X37_directive
    rw [if_neg (show ¬ (11 : Int) = 0 by decide), if_neg (show ¬ (11 : Int) = 1 by decide), if_neg (show ¬ (11 : Int) = 2 by decide), if_neg (show ¬ (11 : Int) = 3 by decide), if_neg (show ¬ (11 : Int) = 4 by decide), if_neg (show ¬ (11 : Int) = 5 by decide), if_neg (show ¬ (11 : Int) = 6 by decide), if_neg (show ¬ (11 : Int) = 7 by decide), if_neg (show ¬ (11 : Int) = 8 by decide), if_neg (show ¬ (11 : Int) = 9 by decide), if_neg (show ¬ (11 : Int) = 10 by decide), if_pos (show (11 : Int) = 11 from rfl)]
    rw [if_neg (show ¬ (111 : Int) = 100 by decide), if_neg (show ¬ (111 : Int) = 101 by decide), if_neg (show ¬ (111 : Int) = 102 by decide), if_neg (show ¬ (111 : Int) = 103 by decide), if_neg (show ¬ (111 : Int) = 104 by decide), if_neg (show ¬ (111 : Int) = 105 by decide), if_neg (show ¬ (111 : Int) = 106 by decide), if_neg (show ¬ (111 : Int) = 107 by decide), if_neg (show ¬ (111 : Int) = 108 by decide), if_neg (show ¬ (111 : Int) = 109 by decide), if_neg (show ¬ (111 : Int) = 110 by decide), if_pos (show (111 : Int) = 111 from rfl)]
    rw [eu_X33_directive_540, eu_X37_directive_137]; unfold du_X33_directive_540 du_X37_directive_137
    rw [show mp_J2_equals s x (jc s 12) = some (if l = cS 12 then 1 else 0) from eqs 12 (by decide), Option.bind_some, if_neg (show ¬ l = cS 12 by rw [hl]; decide), if_neg (show ¬ (111 : Int) = 112 by decide), eu_X37_directive_149]; unfold du_X37_directive_149
    exact stO.out (strings2 g).finC.finY
  · rw [show ((12 : Nat) : Int) = 12 from rfl, show (100 : Int) + 12 = 112 from rfl, eu_X33_directive_395, em_X37_directive]; unfold du_X33_directive_395 dm_X37_directive
    rw [if_neg (show ¬ (12 : Int) = 0 by decide), if_neg (show ¬ (12 : Int) = 1 by decide), if_neg (show ¬ (12 : Int) = 2 by decide), if_neg (show ¬ (12 : Int) = 3 by decide), if_neg (show ¬ (12 : Int) = 4 by decide), if_neg (show ¬ (12 : Int) = 5 by decide), if_neg (show ¬ (12 : Int) = 6 by decide), if_neg (show ¬ (12 : Int) = 7 by decide), if_neg (show ¬ (12 : Int) = 8 by decide), if_neg (show ¬ (12 : Int) = 9 by decide), if_neg (show ¬ (12 : Int) = 10 by decide), if_neg (show ¬ (12 : Int) = 11 by decide), if_pos (show (12 : Int) = 12 from rfl)]
    rw [if_neg (show ¬ (112 : Int) = 100 by decide), if_neg (show ¬ (112 : Int) = 101 by decide), if_neg (show ¬ (112 : Int) = 102 by decide), if_neg (show ¬ (112 : Int) = 103 by decide), if_neg (show ¬ (112 : Int) = 104 by decide), if_neg (show ¬ (112 : Int) = 105 by decide), if_neg (show ¬ (112 : Int) = 106 by decide), if_neg (show ¬ (112 : Int) = 107 by decide), if_neg (show ¬ (112 : Int) = 108 by decide), if_neg (show ¬ (112 : Int) = 109 by decide), if_neg (show ¬ (112 : Int) = 110 by decide), if_neg (show ¬ (112 : Int) = 111 by decide), if_pos (show (112 : Int) = 112 from rfl)]
    rw [eu_X33_directive_540, eu_X37_directive_137]; unfold du_X33_directive_540 du_X37_directive_137
    rw [show mp_J2_equals s x (jc s 12) = some (if l = cS 12 then 1 else 0) from eqs 12 (by decide), Option.bind_some, if_pos (show l = cS 12 from hl), if_pos (show (112 : Int) = 112 from rfl), eu_X37_directive_149]; unfold du_X37_directive_149
    exact stO.out (strings2 g).finC.finY
  · rw [show ((13 : Nat) : Int) = 13 from rfl, show (100 : Int) + 13 = 113 from rfl, eu_X33_directive_395, em_X37_directive]; unfold du_X33_directive_395 dm_X37_directive
    rw [if_neg (show ¬ (13 : Int) = 0 by decide), if_neg (show ¬ (13 : Int) = 1 by decide), if_neg (show ¬ (13 : Int) = 2 by decide), if_neg (show ¬ (13 : Int) = 3 by decide), if_neg (show ¬ (13 : Int) = 4 by decide), if_neg (show ¬ (13 : Int) = 5 by decide), if_neg (show ¬ (13 : Int) = 6 by decide), if_neg (show ¬ (13 : Int) = 7 by decide), if_neg (show ¬ (13 : Int) = 8 by decide), if_neg (show ¬ (13 : Int) = 9 by decide), if_neg (show ¬ (13 : Int) = 10 by decide), if_neg (show ¬ (13 : Int) = 11 by decide), if_neg (show ¬ (13 : Int) = 12 by decide), if_pos (show (13 : Int) = 13 from rfl)]
    rw [if_neg (show ¬ (113 : Int) = 100 by decide), if_neg (show ¬ (113 : Int) = 101 by decide), if_neg (show ¬ (113 : Int) = 102 by decide), if_neg (show ¬ (113 : Int) = 103 by decide), if_neg (show ¬ (113 : Int) = 104 by decide), if_neg (show ¬ (113 : Int) = 105 by decide), if_neg (show ¬ (113 : Int) = 106 by decide), if_neg (show ¬ (113 : Int) = 107 by decide), if_neg (show ¬ (113 : Int) = 108 by decide), if_neg (show ¬ (113 : Int) = 109 by decide), if_neg (show ¬ (113 : Int) = 110 by decide), if_neg (show ¬ (113 : Int) = 111 by decide), if_neg (show ¬ (113 : Int) = 112 by decide), if_pos (show (113 : Int) = 113 from rfl)]
    exact stO.out (zeros2 g).finC.finY
  · rw [show ((14 : Nat) : Int) = 14 from rfl, show (100 : Int) + 14 = 114 from rfl, eu_X33_directive_395, em_X37_directive]; unfold du_X33_directive_395 dm_X37_directive
    rw [if_neg (show ¬ (14 : Int) = 0 by decide), if_neg (show ¬ (14 : Int) = 1 by decide), if_neg (show ¬ (14 : Int) = 2 by decide), if_neg (show ¬ (14 : Int) = 3 by decide), if_neg (show ¬ (14 : Int) = 4 by decide), if_neg (show ¬ (14 : Int) = 5 by decide), if_neg (show ¬ (14 : Int) = 6 by decide), if_neg (show ¬ (14 : Int) = 7 by decide), if_neg (show ¬ (14 : Int) = 8 by decide), if_neg (show ¬ (14 : Int) = 9 by decide), if_neg (show ¬ (14 : Int) = 10 by decide), if_neg (show ¬ (14 : Int) = 11 by decide), if_neg (show ¬ (14 : Int) = 12 by decide), if_neg (show ¬ (14 : Int) = 13 by decide), if_pos (show (14 : Int) = 14 from rfl)]
    rw [if_neg (show ¬ (114 : Int) = 100 by decide), if_neg (show ¬ (114 : Int) = 101 by decide), if_neg (show ¬ (114 : Int) = 102 by decide), if_neg (show ¬ (114 : Int) = 103 by decide), if_neg (show ¬ (114 : Int) = 104 by decide), if_neg (show ¬ (114 : Int) = 105 by decide), if_neg (show ¬ (114 : Int) = 106 by decide), if_neg (show ¬ (114 : Int) = 107 by decide), if_neg (show ¬ (114 : Int) = 108 by decide), if_neg (show ¬ (114 : Int) = 109 by decide), if_neg (show ¬ (114 : Int) = 110 by decide), if_neg (show ¬ (114 : Int) = 111 by decide), if_neg (show ¬ (114 : Int) = 112 by decide), if_neg (show ¬ (114 : Int) = 113 by decide), if_pos (show (114 : Int) = 114 from rfl)]
    exact stO.out (align2 g).finC.finY
  · rw [show ((15 : Nat) : Int) = 15 from rfl, show (100 : Int) + 15 = 115 from rfl, eu_X33_directive_395, em_X37_directive]; unfold du_X33_directive_395 dm_X37_directive
    rw [if_neg (show ¬ (15 : Int) = 0 by decide), if_neg (show ¬ (15 : Int) = 1 by decide), if_neg (show ¬ (15 : Int) = 2 by decide), if_neg (show ¬ (15 : Int) = 3 by decide), if_neg (show ¬ (15 : Int) = 4 by decide), if_neg (show ¬ (15 : Int) = 5 by decide), if_neg (show ¬ (15 : Int) = 6 by decide), if_neg (show ¬ (15 : Int) = 7 by decide), if_neg (show ¬ (15 : Int) = 8 by decide), if_neg (show ¬ (15 : Int) = 9 by decide), if_neg (show ¬ (15 : Int) = 10 by decide), if_neg (show ¬ (15 : Int) = 11 by decide), if_neg (show ¬ (15 : Int) = 12 by decide), if_neg (show ¬ (15 : Int) = 13 by decide), if_neg (show ¬ (15 : Int) = 14 by decide), if_pos (show (15 : Int) = 15 from rfl)]
    rw [if_neg (show ¬ (115 : Int) = 100 by decide), if_neg (show ¬ (115 : Int) = 101 by decide), if_neg (show ¬ (115 : Int) = 102 by decide), if_neg (show ¬ (115 : Int) = 103 by decide), if_neg (show ¬ (115 : Int) = 104 by decide), if_neg (show ¬ (115 : Int) = 105 by decide), if_neg (show ¬ (115 : Int) = 106 by decide), if_neg (show ¬ (115 : Int) = 107 by decide), if_neg (show ¬ (115 : Int) = 108 by decide), if_neg (show ¬ (115 : Int) = 109 by decide), if_neg (show ¬ (115 : Int) = 110 by decide), if_neg (show ¬ (115 : Int) = 111 by decide), if_neg (show ¬ (115 : Int) = 112 by decide), if_neg (show ¬ (115 : Int) = 113 by decide), if_neg (show ¬ (115 : Int) = 114 by decide)]
    exact (option2 g).fin fun _ _ _ _ q => q
theorem directive2 (h : AG s t A H b lo NL I OL SL k z) (m0 : 0 ≤ m) (m1 : m < NL.length) (hd : isIx 0 16 (tNa NL m) d) (d0 : ¬ d = -1) : stW s t A H b lo NL I OL SL k z (m_X33_directive s A (jf s 1026 (b + 5) m)) (m_X37_directive t H (100 + d)) (dQ t H) := by
  obtain ⟨u, e1, e2, e3, e4, e5⟩ := c_dirOf h m0 m1 hd
  have l16 := (h.1.nm m0 m1).2.2.2.2.2.2.1.1
  rw [e1]
  rcases hd with ⟨i, r1, r2, r3, r4⟩ | ⟨r1, -⟩
  · rw [r1]
    exact (dir_do e3 e5 l16 r2 (by rw [r3]; congr 1; omega)).pre e4 tF.rfl
  · exact absurd r1 d0
end jDirece
