/-! the linker: which upper word a low part belongs to, both sides *-/
set_option maxRecDepth 100000
section jLrt
variable {s t u u1 w' s' t' t1 : jS} {a b k m mm n nn o p q v l x c f g i j A H C K S X X' P Q V D F rr n' sec w r how val q0 kd wc wt sz Y y0 : Int} {O : Int → Int → Int → Int → Int} {d e z y : Int → Int → Int} {G B : Int → Int} {o' : Int → Int → Int → Int}
/-- the symbol that is meant -/
def smM (O : Int → Int → Int → Int → Int) (e : Int → Int → Int) (X X' : Int) : Prop := (sy O X 3 = 0 ∧ X' = X) ∨ (¬ sy O X 3 = 0 ∧ e 3 (e 1 X) = 1 ∧ X' = e 4 (e 1 X))
theorem smM.one (h : smM O e X i) (g : smM O e X j) : i = j := by unfold smM at h g; omega
theorem smM.vsy (h : smM O e X X') (hX : vsy S O X) (hv : gFv S O e) : vsy S O X' := by
  rcases h with ⟨h1, h2⟩ | ⟨h1, h2, h3⟩
  · rw [h2]; exact hX
  · have g1 := hv.2.2 X ⟨hX, h1⟩
    rw [h3]; exact ((hv.2.1 _ g1.1 g1.2).2.2.1 h2).1.1.1
/-- the component -/
theorem c_restS (h : LZD C H S O s t e d z G) (x0 : 0 ≤ x) (x1 : x < 6) (hS : sIn S x) (j0 : 0 ≤ j) (j3 : j < 300) (hi : jf s 22 (rlA (fAt C x + 614) j) 3 = i) (i0 : 0 ≤ i ∧ i < 100) (hX : vsy S O (100 * x + i)) (c35 : jf s 39 (C + 4275) 35 = x) (c36 : jf s 39 (C + 4275) 36 = j) : ∃ y, m_X35_rest s (C + 4275) how = u_X35_rest_120 s (C + 4275) how (fAt C x + 614) y ∧ ((y = -1 ∧ ∀ X', smM O e (100 * x + i) X' → ¬ X' / 100 = x) ∨ ∃ X', smM O e (100 * x + i) X' ∧ X' / 100 = x ∧ vsy S O X' ∧ y = syA C X') := by
  obtain ⟨-, -, -, -, -, ⟨hk, hg, ht, hv⟩, -⟩ := id h
  obtain ⟨X, eX⟩ : ∃ X, X = 100 * x + i := ⟨_, rfl⟩
  rw [← eX] at hX ⊢
  have z75 : ∀ g, u_X35_rest_75 s (C + 4275) how (fAt C x + 614) i g = u_X35_rest_120 s (C + 4275) how (fAt C x + 614) (-1) := fun g => by
    rw [eu_X35_rest_75]; unfold du_X35_rest_75
    rw [eu_X35_rest_76]; unfold du_X35_rest_76
    rw [if_pos rfl]
  have J14 : jlt s 1000 (C + 4275 + 14) 600 (W32 (W32 (100 * x) + i)) = some (if sy O X 3 = 0 then -1 else e 1 X) := by
    rw [W32_in (z := 100 * x) (by omega) (by omega), W32_in (by omega) (by omega), ← eX, jlt_in (by omega) (by omega), hg.2.1 X hX]
  have st : m_X35_rest s (C + 4275) how = if (if sy O X 3 = 0 then -1 else e 1 X) = -1 then u_X35_rest_71 s (C + 4275) how (fAt C x + 614) i (if sy O X 3 = 0 then -1 else e 1 X) else (m_X35_how s (C + 4275) (if sy O X 3 = 0 then -1 else e 1 X)).bind fun v4 => if v4 = 0 then (jlt s 1000 (C + 4275 + 18) 600 (if sy O X 3 = 0 then -1 else e 1 X)).bind fun v5 => if v5 = x then u_X35_rest_71 s (C + 4275) how (fAt C x + 614) i (if sy O X 3 = 0 then -1 else e 1 X) else u_X35_rest_75 s (C + 4275) how (fAt C x + 614) i (if sy O X 3 = 0 then -1 else e 1 X) else u_X35_rest_75 s (C + 4275) how (fAt C x + 614) i (if sy O X 3 = 0 then -1 else e 1 X) := by
    rw [em_X35_rest]; unfold dm_X35_rest
    rw [c35, jix_in x0 (by omega), Option.bind_some, c36, jix_in j0 (by omega), Option.bind_some, show C + 4275 + -4000 + 4041 + 1858 * x + 614 = fAt C x + 614 by unfold fAt; omega, show fAt C x + 614 + 4 + 309 + 1 * j = rlA (fAt C x + 614) j from rfl, hi, J14, Option.bind_some]
  rw [st]
  by_cases c : sy O X 3 = 0
  · rw [if_pos c, if_pos rfl, eu_X35_rest_71]; unfold du_X35_rest_71
    rw [eu_X35_rest_76]; unfold du_X35_rest_76
    have := (hk.sym hX).1
    rw [show X / 100 = x by omega, show X % 100 = i by omega] at this
    rw [if_neg n10, if_pos rfl, c35, this, Option.bind_some]
    exact ⟨_, rfl, .inr ⟨X, .inl ⟨c, rfl⟩, by omega, hX, rfl⟩⟩
  · have g1 := hv.2.2 X ⟨hX, c⟩
    have e6 := hv.1.2.1
    obtain ⟨a1, a2, a3, -⟩ := hg.2.2 _ g1.1 g1.2
    obtain ⟨-, ⟨e30, e31⟩, gm, -⟩ := hv.2.1 _ g1.1 g1.2
    rw [if_neg c, if_neg (by omega), em_X35_how]; unfold dm_X35_how
    rw [jlt_in g1.1 (by omega), Option.bind_some, Option.bind_some, a2]
    by_cases c1 : e 3 (e 1 X) = 1
    · obtain ⟨⟨hX', -⟩, -⟩ := gm c1
      obtain ⟨s18, s19⟩ := a3 c1
      rw [if_pos (by unfold hC; rw [if_neg (by omega), if_pos c1]), jlt_in g1.1 (by omega), Option.bind_some, s18]
      by_cases c2 : e 4 (e 1 X) / 100 = x
      · rw [if_pos c2, eu_X35_rest_71]; unfold du_X35_rest_71
        rw [eu_X35_rest_76]; unfold du_X35_rest_76
        have := (hk.sym hX'.1).1
        rw [c2] at this
        rw [if_neg n10, if_neg (by omega), jlt_in g1.1 (by omega), Option.bind_some, s19, c35, this, Option.bind_some]
        exact ⟨_, rfl, .inr ⟨_, .inr ⟨c, c1, rfl⟩, c2, hX'.1, rfl⟩⟩
      · rw [if_neg c2, z75]
        exact ⟨_, rfl, .inl ⟨rfl, fun X' hs => by unfold smM at hs; rcases hs with q | q; exact absurd q.1 c; rw [q.2.2]; exact c2⟩⟩
    · have hc0 : ¬ hC (e 3 (e 1 X)) = 0 := by
        unfold hC
        split
        · decide
        split
        · decide
        split <;> decide
      rw [if_neg hc0, z75]
      exact ⟨_, rfl, .inl ⟨rfl, fun X' hs => by unfold smM at hs; rcases hs with q | q; exact absurd q.1 c; exact absurd q.2.1 c1⟩⟩
/-- the twin -/
theorem t_restS (h : LZD C H S O s t e d z G) (x0 : 0 ≤ x) (x1 : x < 6) (j0 : 0 ≤ j) (j3 : j < 300) (hi : jf t 1000 (H + 187) (300 * x + j) = i) (i0 : 0 ≤ i ∧ i < 100) (hX : vsy S O (100 * x + i)) (hx : jf t 41 H 113 = x) : (m_X37_upperFor t H (300 * x + j) = some (-1) ∧ ∀ X', ¬ smM O e (100 * x + i) X') ∨ ∃ X', smM O e (100 * x + i) X' ∧ vsy S O X' ∧ m_X37_upperFor t H (300 * x + j) = u_X37_upperFor_50 t H (300 * x + j) X' := by
  obtain ⟨-, -, -, -, -, ⟨hk, hg, ht, hv⟩, -⟩ := id h
  obtain ⟨X, eX⟩ : ∃ X, X = 100 * x + i := ⟨_, rfl⟩
  rw [← eX] at hX ⊢
  obtain ⟨-, -, -, -, s5⟩ := hk.sym hX
  rw [em_X37_upperFor]; unfold dm_X37_upperFor
  simp only [jlet]
  rw [jlt_in (by omega) (by omega), Option.bind_some, hi, hx, W32_in (z := 100 * x) (by omega) (by omega), W32_in (by omega) (by omega), ← eX, jlt_in (by omega) (by omega), Option.bind_some, s5.2.2.2.1]
  by_cases c : sy O X 3 = 0
  · rw [if_pos c]
    exact .inr ⟨X, .inl ⟨c, rfl⟩, hX, rfl⟩
  · have g1 := hv.2.2 X ⟨hX, c⟩
    have e6 := hv.1.2.1
    obtain ⟨b1, b2, b3, -⟩ := ht.2.2 _ g1.1 g1.2
    obtain ⟨-, -, gm, -⟩ := hv.2.1 _ g1.1 g1.2
    rw [if_neg c, jlt_in (by omega) (by omega), Option.bind_some, ht.2.1 X ⟨hX, c⟩, jlt_in g1.1 (by omega), Option.bind_some, b2]
    by_cases c1 : e 3 (e 1 X) = 1
    · rw [if_pos c1, jlt_in g1.1 (by omega), Option.bind_some, b3 c1]
      exact .inr ⟨_, .inr ⟨c, c1, rfl⟩, (gm c1).1.1.1, rfl⟩
    · rw [if_neg c1]
      exact .inl ⟨rfl, fun X' hs => by unfold smM at hs; rcases hs with q | q; exact c q.1; exact c1 q.2.1⟩
/-- both -/
theorem x_restU (h : rmS C H S O s t e d z G x j 0 A K P) (c39 : jf s 39 (C + 4275) 39 = O x 5 j 4) (x0 : 0 ≤ x) (x1 : x < 6) (hS : sIn S x) (j0 : 0 ≤ j) (j1 : j < O x 2 2 0) (hk : O x 5 j 2 = 24 ∨ O x 5 j 2 = 25) :
    (m_X37_upperFor t H (300 * x + j) = some (-1) ∧ ∀ u' e', m_X35_need s (C + 4275) 0 7 = some (u', true, e') → m_X35_rest s (C + 4275) how = some (u', true, e')) ∨
    ∃ X' h', (vsy S O X' ∧ X' / 100 = x) ∧ (0 ≤ h' ∧ h' < O x 2 2 0) ∧ (O x 5 h' 2 = 23 ∧ O x 5 h' 1 = sy O X' 1) ∧ m_X37_upperFor t H (300 * x + j) = some (300 * x + h') ∧ m_X35_rest s (C + 4275) how = u_X35_rest_224 s (C + 4275) how (fAt C x + 614) (syA C X') h' 1 (C + 4275) := by
  obtain ⟨-, ⟨-, -, -, l3, -⟩, hut, vo, g, j3⟩ := h.1.rl x0 x1 hS j0 j1
  obtain ⟨hO, hT⟩ := h.1.ob x0 x1 hS
  obtain ⟨-, -, -, t3, t4⟩ := t_relr hut j0 j1
  obtain ⟨tg, hX, -⟩ := rl_tgt vo g x0 x1 hS j0 j1 (by omega) (by omega)
  have hkk := h.1.1.2.2.2.2.2.1.1
  have hv := h.1.1.2.2.2.2.2.1.2.2.2
  have no147 : ∀ u' e' y0, m_X35_need s (C + 4275) 0 7 = some (u', true, e') → u_X35_rest_147 s (C + 4275) how (fAt C x + 614) y0 (C + 4275) = some (u', true, e') := fun u' e' y0 hn => by
    rw [eu_X35_rest_147]; unfold du_X35_rest_147
    rw [eu_X35_rest_148]; unfold du_X35_rest_148
    rw [hn, Option.bind_some]; rfl
  obtain ⟨y0, e1, hy⟩ := c_restS (how := how) h.1.1 x0 x1 hS j0 j3 l3 tg hX h.2.1.1.1 h.2.1.1.2.1
  have e2 := t_restS h.1.1 x0 x1 j0 j3 t3 tg hX h.2.1.2.1
  -- the twin refuses when there is none in this unit
  have tno : (∀ X', smM O e (100 * x + O x 5 j 3) X' → ¬ X' / 100 = x) → m_X37_upperFor t H (300 * x + j) = some (-1) := fun hn => by
    rcases e2 with ⟨q, -⟩ | ⟨X', q1, q2, q3⟩
    · exact q
    · rw [q3, eu_X37_upperFor_50]; unfold du_X37_upperFor_50
      have := q2.1
      rw [jdv_in (by decide), I_div_n (by omega) (by omega) (by decide) (by decide), Option.bind_some, h.2.1.2.1, if_neg (hn X' q1)]
  rcases hy with ⟨q1, q2⟩ | ⟨X', q1, q2, q3, q4⟩
  · refine .inl ⟨tno q2, fun u' e' hn => ?_⟩
    rw [e1, eu_X35_rest_120]; unfold du_X35_rest_120
    rw [if_pos (by omega), no147 u' e' _ hn]
  · obtain ⟨-, ⟨y1, y2, -⟩, ⟨y3, y4, -⟩, -, ⟨u1, u2, -⟩⟩ := hkk.sym q3
    have e3 : m_X37_upperFor t H (300 * x + j) = if sy O X' 0 = 0 then if O x 5 j 4 = 0 then u_X37_upperFor_83 t H X' 0 else some (-1) else some (-1) := by
      rcases e2 with ⟨-, q⟩ | ⟨X2, z1, z2, z3⟩
      · exact absurd q1 (q X')
      · have := q3.1
        rw [z3, z1.one q1, eu_X37_upperFor_50]; unfold du_X37_upperFor_50
        rw [jdv_in (by decide), I_div_n (by omega) (by omega) (by decide) (by decide), Option.bind_some, h.2.1.2.1, if_pos q2, jlt_in (by omega) (by omega), Option.bind_some, u1, jlt_in (by omega) (by omega), t4]; rfl
    have e4 : m_X35_rest s (C + 4275) how = if sy O X' 0 = 0 then if O x 5 j 4 = 0 then u_X35_rest_148 s (C + 4275) how (fAt C x + 614) y0 1 (C + 4275) else u_X35_rest_147 s (C + 4275) how (fAt C x + 614) y0 (C + 4275) else u_X35_rest_147 s (C + 4275) how (fAt C x + 614) y0 (C + 4275) := by
      rw [e1, eu_X35_rest_120]; unfold du_X35_rest_120
      rw [if_neg (by omega), q4, jrd_in y3 y4, Option.bind_some, y1, c39]
    rw [e3, e4]
    by_cases c0 : sy O X' 0 = 0
    · rw [if_pos c0, if_pos c0]
      by_cases c4 : O x 5 j 4 = 0
      · rw [if_pos c4, if_pos c4]
        obtain ⟨h1, f1, f2⟩ := c_restL (a := sy O X' 1) (l := C + 4275) (how := how) hO hT vo (y0 := y0) ⟨by omega, by rw [q4]; exact y4⟩ (by rw [q4]; exact y2)
        obtain ⟨h2, f3, f4⟩ := t_restL hut vo g x0 x1 h.2.1.2.1 q3.1.1 q3.1.2 u2
        have := f1.one f3
        subst this
        rw [f2, f4, eu_X35_rest_212]; unfold du_X35_rest_212
        rcases f1 with ⟨f5, -⟩ | ⟨f5, f6, -⟩
        · refine .inl ⟨by rw [if_pos f5], fun u' e' hn => ?_⟩
          rw [if_pos f5, eu_X35_rest_224]; unfold du_X35_rest_224
          rw [hn, Option.bind_some]; rfl
        · exact .inr ⟨X', h1, ⟨q3, q2⟩, f5, f6, by rw [if_neg (by omega)], by rw [if_neg (by omega), q4]⟩
      · rw [if_neg c4, if_neg c4]
        exact .inl ⟨rfl, fun u' e' hn => no147 u' e' _ hn⟩
    · rw [if_neg c0, if_neg c0]
      exact .inl ⟨rfl, fun u' e' hn => no147 u' e' _ hn⟩
end jLrt
