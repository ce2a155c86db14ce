/-! the linker: the twin keeps what it read *-/
set_option maxRecDepth 100000
section jKeepU
variable {s t u w : jS} {a b k m p v l n x y c j X f z i q H r : Int} {o o' : Int → Int → Int → Int}
theorem tOb.uf (h : tOb t (H + 25) 1 o) (v : vOb o) (g : tUf H x t u) : tOb u (H + 25) 1 o := h.keep (fun a k a0 a1 => g.2 _ _ _ fun z => by have := z.2; unfold uPl at this; omega) v
theorem tk_a (h : tOb t (H + 25) 1 o) (v : vOb o) (x0 : 0 ≤ x) (x1 : x < 6) : ∃ w, m_X37_keepUnit t H x = u_X37_keepUnit_55 w H x ∧ tUf H x t w ∧ tUA w H x o := by
  rw [em_X37_keepUnit]; unfold dm_X37_keepUnit
  rw [eu_X37_keepUnit_2]; unfold du_X37_keepUnit_2
  obtain ⟨w, e, h1, h2⟩ := loopTo (C := jc3 b_X37_keepUnit_2) (fun p w => tUf H x t w ∧ ∀ j, 0 ≤ j → j < p → jf w 1000 (H + 171) (4 * x + j) = o 1 j 0 ∧ jf w 1000 (H + 172) (4 * x + j) = o 1 j 1) (fun p => [H, x, p]) 0 4 (by decide) (s := t) (F := fun w => u_X37_keepUnit_55 w H x) ⟨.rfl, fun j j0 j1 => by omega⟩ (fun p w p0 p1 ⟨e1, e2⟩ => by
    show ∃ w', b_X37_keepUnit_2 w H x p = some (.inl (w', [H, x, p + 1])) ∧ _
    unfold b_X37_keepUnit_2
    obtain ⟨a1, a2⟩ := (h.uf v e1).1 p p0 p1
    rw [if_pos p1, W32_in (z := 4 + p) (by omega) (by omega), W32_in (z := 4 * x) (by omega) (by omega), W32_in (z := 4 * x + p) (by omega) (by omega), W32_in (z := p + 1) (by omega) (by omega), jlt_in (by omega) (by omega), Option.bind_some, jst_in (by omega) (by omega), Option.bind_some]
    rw [show (4 : Int) * 1 + p = 4 + p by omega] at a1 a2
    rw [a1, jlt_in (by omega) (by omega), Option.bind_some, jf_neg (by omega), a2, jst_in (by omega) (by omega), Option.bind_some]
    refine ⟨_, rfl, (e1.jp (.inl rfl) (by unfold uPl; omega)).jp (.inl rfl) (by unfold uPl; omega), fun j j0 j1 => ?_⟩
    by_cases c : j = p
    · rw [c, jf_neg (by omega), jf_pos ⟨rfl, rfl, rfl⟩, jf_pos ⟨rfl, rfl, rfl⟩]; exact ⟨rfl, rfl⟩
    · rw [jf_neg (by omega), jf_neg (by omega), jf_neg (by omega), jf_neg (by omega)]; exact e2 j j0 (by omega)) (fun w _ => by
    show b_X37_keepUnit_2 w H x 4 = _
    unfold b_X37_keepUnit_2
    rw [if_neg (by decide)])
  exact ⟨w, e, h1, h2⟩
theorem tk_b (h : tOb t (H + 25) 1 o) (v : vOb o) (x0 : 0 ≤ x) (x1 : x < 6) : ∃ w, u_X37_keepUnit_55 t H x = u_X37_keepUnit_95 w H x ∧ (tUf H x t w ∧ ∀ a k, ¬ a = H + 170 → jf w 1000 a k = jf t 1000 a k) ∧ tUB w H x o := by
  rw [eu_X37_keepUnit_55]; unfold du_X37_keepUnit_55
  rw [eu_X37_keepUnit_57]; unfold du_X37_keepUnit_57
  obtain ⟨w, e, h1, h2⟩ := loopTo (C := jc3 b_X37_keepUnit_57) (fun p w => (tUf H x t w ∧ ∀ a k, ¬ a = H + 170 → jf w 1000 a k = jf t 1000 a k) ∧ ∀ j, 0 ≤ j → j < p → jf w 1000 (H + 170) (6144 * x + j) = jf t 1000 (H + 25 + 1) (6144 + j)) (fun p => [H, x, p]) 0 6144 (by decide) (s := t) (F := fun w => u_X37_keepUnit_95 w H x) ⟨⟨.rfl, fun _ _ _ => rfl⟩, fun j j0 j1 => by omega⟩ (fun p w p0 p1 ⟨⟨e1, e3⟩, e2⟩ => by
    show ∃ w', b_X37_keepUnit_57 w H x p = some (.inl (w', [H, x, p + 1])) ∧ _
    unfold b_X37_keepUnit_57
    rw [if_pos p1, W32_in (z := 6144 + p) (by omega) (by omega), W32_in (z := 6144 * x) (by omega) (by omega), W32_in (z := 6144 * x + p) (by omega) (by omega), W32_in (z := p + 1) (by omega) (by omega), jlt_in (by omega) (by omega), Option.bind_some, jst_in (by omega) (by omega), Option.bind_some, e3 _ _ (by omega)]
    refine ⟨_, rfl, ⟨e1.jp (.inl rfl) (by unfold uPl; omega), fun a k ha => by rw [jf_neg (by omega)]; exact e3 a k ha⟩, fun j j0 j1 => ?_⟩
    by_cases c : j = p
    · rw [c, jf_pos ⟨rfl, rfl, rfl⟩]
    · rw [jf_neg (by omega)]; exact e2 j j0 (by omega)) (fun w _ => by
    show b_X37_keepUnit_57 w H x 6144 = _
    unfold b_X37_keepUnit_57
    rw [if_neg (by decide)])
  refine ⟨w, e, h1, fun j k j0 j1 k0 k1 => ?_⟩
  have := (v.1 j j0 (by omega)).2.1
  rw [if_neg (by omega)] at this
  rw [h2 _ (by omega) (by omega)]
  have := h.2.1 j k j0 j1 k0 k1
  rw [show (6144 : Int) * 1 + (2048 * j + k) = 6144 + (2048 * j + k) by omega] at this
  exact this
theorem tk_t (h : tOb t (H + 25) 1 o) (v : vOb o) (g : gOb o) (x0 : 0 ≤ x) (x1 : x < 6) : ∃ w, u_X37_keepUnit_95 t H x = u_X37_keepUnit_169 w H x ∧ (tUf H x t w ∧ ∀ a k, ¬ (a = H + 173 ∨ a = H + 174 ∨ a = H + 175) → jf w 1000 a k = jf t 1000 a k) ∧ tUT w H x o := by
  obtain ⟨vA, vB, vC, vD, vE, vF⟩ := v.2.2.1
  rw [eu_X37_keepUnit_95]; unfold du_X37_keepUnit_95
  rw [t_qCt h v g, Option.bind_some, show qCt o 0 = o 2 0 0 from rfl, jst_in x0 x1, Option.bind_some]
  obtain ⟨y1, Y1⟩ : ∃ y1, y1 = jp t 1000 (H + 174) x (o 2 0 0) := ⟨_, rfl⟩
  obtain ⟨f1, p1, -⟩ := jpF Y1
  have u1 : tUf H x t y1 := by rw [Y1]; exact tUf.rfl.jp (.inl rfl) (by unfold uPl; omega)
  rw [← Y1, t_qCt (h.uf v u1) v g, Option.bind_some, show qCt o 3 = cn (isH o) (o 2 0 0) from rfl]
  have key : ∃ y2, (if 0 < cn (isH o) (o 2 0 0) then u_X37_keepUnit_130 y1 H x 1 x (H + 175) else u_X37_keepUnit_130 y1 H x 0 x (H + 175)) = u_X37_keepUnit_133 y2 H x 0 ∧ y2 = jp y1 1002 (H + 175) x (if 0 < cn (isH o) (o 2 0 0) then 1 else 0) := by
    by_cases c : 0 < cn (isH o) (o 2 0 0)
    · rw [if_pos c, if_pos c, eu_X37_keepUnit_130]; unfold du_X37_keepUnit_130
      rw [Wz_1, jst_in x0 x1, Option.bind_some]; exact ⟨_, rfl, rfl⟩
    · rw [if_neg c, if_neg c, eu_X37_keepUnit_130]; unfold du_X37_keepUnit_130
      rw [Wz_0, jst_in x0 x1, Option.bind_some]; exact ⟨_, rfl, rfl⟩
  obtain ⟨y2, e2, Y2⟩ := key
  obtain ⟨f2, p2, -⟩ := jpF Y2
  have u2 : tUf H x t y2 := by rw [Y2]; exact u1.jp (.inr rfl) (by unfold uPl; omega)
  rw [e2, eu_X37_keepUnit_133]; unfold du_X37_keepUnit_133
  have r174 : jf y2 1000 (H + 174) x = o 2 0 0 := by rw [f2 _ _ _ (by omega)]; exact p1
  obtain ⟨w, e, ⟨h1, h3⟩, h2⟩ := loopTo (C := jc3 b_X37_keepUnit_133) (fun p w => (tUf H x t w ∧ ∀ c a k, ¬ (c = 1000 ∧ a = H + 173) → jf w c a k = jf y2 c a k) ∧ ∀ j, 0 ≤ j → j < p → jf w 1000 (H + 173) (1024 * x + j) = o 3 j 0) (fun p => [H, x, p]) 0 (o 2 0 0) vA (s := y2) (F := fun w => u_X37_keepUnit_169 w H x) ⟨⟨u2, fun _ _ _ _ => rfl⟩, fun j j0 j1 => by omega⟩ (fun p w p0 p1 ⟨⟨e1, e3⟩, e2⟩ => by
    show ∃ w', b_X37_keepUnit_133 w H x p = some (.inl (w', [H, x, p + 1])) ∧ _
    unfold b_X37_keepUnit_133
    rw [jlt_in x0 x1, Option.bind_some, e3 _ _ _ (by omega), r174, if_pos p1, t_qSt (h.uf v e1) v, Option.bind_some, show qSt o p = o 3 p 0 from if_pos ⟨p0, p1⟩, W32_in (z := 1024 * x) (by omega) (by omega), W32_in (z := 1024 * x + p) (by omega) (by omega), W32_in (z := p + 1) (by omega) (by omega), jst_in (by omega) (by omega), Option.bind_some]
    refine ⟨_, rfl, ⟨e1.jp (.inl rfl) (by unfold uPl; omega), fun c a k ha => by rw [jf_neg (by omega)]; exact e3 c a k ha⟩, fun j j0 j1 => ?_⟩
    by_cases c : j = p
    · rw [c, jf_pos ⟨rfl, rfl, rfl⟩]
    · rw [jf_neg (by omega)]; exact e2 j j0 (by omega)) (fun w ⟨⟨e1, e3⟩, e2⟩ => by
    show b_X37_keepUnit_133 w H x (o 2 0 0) = _
    unfold b_X37_keepUnit_133
    rw [jlt_in x0 x1, Option.bind_some, e3 _ _ _ (by omega), r174, if_neg (Int.lt_irrefl _)])
  refine ⟨w, e, ⟨h1, fun a k ha => by rw [h3 _ _ _ (by omega), f2 _ _ _ (by omega), f1 _ _ _ (by omega)]⟩, ?_, ?_, h2⟩
  · rw [h3 _ _ _ (by omega)]; exact r174
  · rw [h3 _ _ _ (by omega)]; exact p2
/-- a symbol -/
theorem tk_sym (h : tOb t (H + 25) 1 o) (v : vOb o) (x0 : 0 ≤ x) (x1 : x < 6) (k0 : 0 ≤ k) (k1 : k < o 2 1 0) (h176 : jf t 1000 (H + 176) x = o 2 1 0) : ∃ w, b_X37_keepUnit_185 t H x k = some (.inl (w, [H, x, k + 1])) ∧ (jSm t w ∧ ∀ c a i, ¬ (c = 1000 ∧ (H + 177 ≤ a ∧ a ≤ H + 181 ∧ i = 100 * x + k ∨ a = H + 182 ∧ 16 * (100 * x + k) ≤ i ∧ i < 16 * (100 * x + k) + 16)) → jf w c a i = jf t c a i) ∧ tUy w H (100 * x + k) (o 4 k) := by
  obtain ⟨vA, vB, vC, vD, vE, vF⟩ := v.2.2.1
  obtain ⟨-, -, -, -, -, -, -, -, vs, ⟨vw0, vw1, -⟩, -⟩ := v.2.2.2.2.1 k k0 k1
  have qs : ∀ j, 0 ≤ j → j < 6 → qSy o k j = o 4 k j := fun j j0 j1 => if_pos ⟨⟨k0, k1⟩, j0, .inl j1⟩
  have K : ∀ w, (∀ a k, a ≤ H + 44 → jf w 1000 a k = jf t 1000 a k) → tOb w (H + 25) 1 o := fun w hw => h.keep (fun a k a0 a1 => hw a k (by omega)) v
  unfold b_X37_keepUnit_185
  rw [jlt_in x0 x1, Option.bind_some, h176, if_pos k1, W32_in (z := 100 * x) (by omega) (by omega), W32_in (z := 100 * x + k) (by omega) (by omega), jlet_e]
  obtain ⟨y, hy⟩ : ∃ y, y = 100 * x + k := ⟨_, rfl⟩
  rw [← hy]
  rw [t_qSy h v (by unfold jin; omega), Option.bind_some, qs 0 (by decide) (by decide), jst_in (by omega) (by omega), Option.bind_some]
  obtain ⟨y1, Y1⟩ : ∃ y1, y1 = jp t 1000 (H + 177) y (o 4 k 0) := ⟨_, rfl⟩
  obtain ⟨f1, p1, -⟩ := jpF Y1
  rw [← Y1, t_qSy (K y1 fun a k ha => f1 _ _ _ (by omega)) v (by unfold jin; omega), Option.bind_some, qs 1 (by decide) (by decide), jst_in (by omega) (by omega), Option.bind_some]
  obtain ⟨y2, Y2⟩ : ∃ y2, y2 = jp y1 1000 (H + 178) y (o 4 k 1) := ⟨_, rfl⟩
  obtain ⟨f2, p2, -⟩ := jpF Y2
  rw [← Y2, t_qSy (K y2 fun a k ha => by rw [f2 _ _ _ (by omega), f1 _ _ _ (by omega)]) v (by unfold jin; omega), Option.bind_some, qs 2 (by decide) (by decide), jst_in (by omega) (by omega), Option.bind_some]
  obtain ⟨y3, Y3⟩ : ∃ y3, y3 = jp y2 1000 (H + 179) y (o 4 k 2) := ⟨_, rfl⟩
  obtain ⟨f3, p3, -⟩ := jpF Y3
  rw [← Y3, t_qSy (K y3 fun a k ha => by rw [f3 _ _ _ (by omega), f2 _ _ _ (by omega), f1 _ _ _ (by omega)]) v (by unfold jin; omega), Option.bind_some, qs 3 (by decide) (by decide), jst_in (by omega) (by omega), Option.bind_some]
  obtain ⟨y4, Y4⟩ : ∃ y4, y4 = jp y3 1000 (H + 180) y (o 4 k 3) := ⟨_, rfl⟩
  obtain ⟨f4, p4, -⟩ := jpF Y4
  rw [← Y4, t_qSy (K y4 fun a k ha => by rw [f4 _ _ _ (by omega), f3 _ _ _ (by omega), f2 _ _ _ (by omega), f1 _ _ _ (by omega)]) v (by unfold jin; omega), Option.bind_some, qs 5 (by decide) (by decide), jst_in (by omega) (by omega), Option.bind_some]
  obtain ⟨y5, Y5⟩ : ∃ y5, y5 = jp y4 1000 (H + 181) y (o 4 k 5) := ⟨_, rfl⟩
  obtain ⟨f5, p5, -⟩ := jpF Y5
  rw [← Y5, eu_X37_keepUnit_280]; unfold du_X37_keepUnit_280
  have m5 : jSm t y5 := ((((jSm.rfl.wr Y1).wr Y2).wr Y3).wr Y4).wr Y5
  have F5 : ∀ c a i, ¬ (c = 1000 ∧ H + 177 ≤ a ∧ a ≤ H + 181 ∧ i = y) → jf y5 c a i = jf t c a i := fun c a i q => by rw [f5 _ _ _ (by omega), f4 _ _ _ (by omega), f3 _ _ _ (by omega), f2 _ _ _ (by omega), f1 _ _ _ (by omega)]
  obtain ⟨w, e, ⟨h1, h3⟩, h2⟩ := loopTo (C := jc5 b_X37_keepUnit_280) (fun p w => (jSm t w ∧ ∀ c a i, ¬ (c = 1000 ∧ a = H + 182 ∧ 16 * y ≤ i ∧ i < 16 * y + 16) → jf w c a i = jf y5 c a i) ∧ ∀ j, 0 ≤ j → j < p → jf w 1000 (H + 182) (16 * y + j) = o 4 k (6 + j)) (fun p => [H, x, k, y, p]) 0 (o 4 k 5) (by omega) (s := y5) (F := fun w => some (.inl (w, [H, x, k + 1]))) ⟨⟨m5, fun _ _ _ _ => rfl⟩, fun j j0 j1 => by omega⟩ (fun p w p0 p1 ⟨⟨e1, e3⟩, e2⟩ => by
    show ∃ w', b_X37_keepUnit_280 w H x k y p = some (.inl (w', [H, x, k, y, p + 1])) ∧ _
    unfold b_X37_keepUnit_280
    have hk : tOb w (H + 25) 1 o := K w fun a k ha => by rw [e3 _ _ _ (by omega), F5 _ _ _ (by omega)]
    rw [jlt_in (by omega) (by omega), Option.bind_some, e3 _ _ _ (by omega), p5, if_pos p1, W32_in (z := 6 + p) (by omega) (by omega), W32_in (z := 16 * y) (by omega) (by omega), W32_in (z := 16 * y + p) (by omega) (by omega), W32_in (z := p + 1) (by omega) (by omega), t_qSy hk v (by unfold jin; omega), Option.bind_some, show qSy o k (6 + p) = o 4 k (6 + p) from if_pos ⟨⟨k0, k1⟩, by omega, .inr (by omega)⟩, jst_in (by omega) (by omega), Option.bind_some]
    refine ⟨_, rfl, ⟨e1.jp, fun c a i ha => by rw [jf_neg (by omega)]; exact e3 c a i ha⟩, fun j j0 j1 => ?_⟩
    by_cases c : j = p
    · rw [c, jf_pos ⟨rfl, rfl, rfl⟩]
    · rw [jf_neg (by omega)]; exact e2 j j0 (by omega)) (fun w ⟨⟨e1, e3⟩, e2⟩ => by
    show b_X37_keepUnit_280 w H x k y (o 4 k 5) = _
    unfold b_X37_keepUnit_280
    rw [jlt_in (by omega) (by omega), Option.bind_some, e3 _ _ _ (by omega), p5, if_neg (Int.lt_irrefl _), eu_X37_keepUnit_322]; unfold du_X37_keepUnit_322
    rw [W32_in (z := k + 1) (by omega) (by omega)])
  refine ⟨w, e, ⟨h1, fun c a i q => by rw [h3 _ _ _ (by omega), F5 _ _ _ (by omega)]⟩, ?_, ?_, ?_, ?_, ?_, h2⟩
  · rw [h3 _ _ _ (by omega), f5 _ _ _ (by omega), f4 _ _ _ (by omega), f3 _ _ _ (by omega), f2 _ _ _ (by omega)]; exact p1
  · rw [h3 _ _ _ (by omega), f5 _ _ _ (by omega), f4 _ _ _ (by omega), f3 _ _ _ (by omega)]; exact p2
  · rw [h3 _ _ _ (by omega), f5 _ _ _ (by omega), f4 _ _ _ (by omega)]; exact p3
  · rw [h3 _ _ _ (by omega), f5 _ _ _ (by omega)]; exact p4
  · rw [h3 _ _ _ (by omega)]; exact p5
theorem tk_y (h : tOb t (H + 25) 1 o) (v : vOb o) (g : gOb o) (x0 : 0 ≤ x) (x1 : x < 6) : ∃ w, u_X37_keepUnit_169 t H x = u_X37_keepUnit_328 w H x ∧ (tUf H x t w ∧ ∀ c a k, ¬ (c = 1000 ∧ (a = H + 176 ∨ H + 177 ≤ a ∧ a ≤ H + 182)) → jf w c a k = jf t c a k) ∧ tUY w H x o := by
  obtain ⟨vA, vB, vC, vD, vE, vF⟩ := v.2.2.1
  rw [eu_X37_keepUnit_169]; unfold du_X37_keepUnit_169
  rw [t_qCt h v g, Option.bind_some, show qCt o 1 = o 2 1 0 from rfl, jst_in x0 x1, Option.bind_some]
  obtain ⟨y1, Y1⟩ : ∃ y1, y1 = jp t 1000 (H + 176) x (o 2 1 0) := ⟨_, rfl⟩
  obtain ⟨f1, p1, -⟩ := jpF Y1
  have u1 : tUf H x t y1 := by rw [Y1]; exact tUf.rfl.jp (.inl rfl) (by unfold uPl; omega)
  rw [← Y1, eu_X37_keepUnit_185]; unfold du_X37_keepUnit_185
  obtain ⟨w, e, ⟨h1, h3⟩, h2⟩ := loopTo (C := jc3 b_X37_keepUnit_185) (fun p w => (tUf H x t w ∧ ∀ c a k, ¬ (c = 1000 ∧ H + 177 ≤ a ∧ a ≤ H + 182) → jf w c a k = jf y1 c a k) ∧ ∀ j, 0 ≤ j → j < p → tUy w H (100 * x + j) (o 4 j)) (fun p => [H, x, p]) 0 (o 2 1 0) vC (s := y1) (F := fun w => u_X37_keepUnit_328 w H x) ⟨⟨u1, fun _ _ _ _ => rfl⟩, fun j j0 j1 => by omega⟩ (fun p w p0 p1' ⟨⟨e1, e3⟩, e2⟩ => by
    obtain ⟨w', a1, ⟨a2, a3⟩, a4⟩ := tk_sym (h.uf v e1) v x0 x1 p0 p1' (by rw [e3 _ _ _ (by omega)]; exact p1)
    refine ⟨w', a1, ⟨⟨e1.1.trans a2, fun c a k q => ?_⟩, fun c a k q => by rw [a3 _ _ _ (by omega)]; exact e3 c a k q⟩, fun j j0 j1 => ?_⟩
    · rw [a3 c a k (fun z => q ⟨.inl z.1, by unfold uPl; omega⟩)]; exact e1.2 c a k q
    · by_cases c : j = p
      · rw [c]; exact a4
      · obtain ⟨b1, b2, b3, b4, b5, b6⟩ := e2 j j0 (by omega)
        obtain ⟨-, -, -, -, -, -, -, -, vs, ⟨vw0, vw1, -⟩, -⟩ := v.2.2.2.2.1 j j0 (by omega)
        refine ⟨by rw [a3 _ _ _ (by omega)]; exact b1, by rw [a3 _ _ _ (by omega)]; exact b2, by rw [a3 _ _ _ (by omega)]; exact b3, by rw [a3 _ _ _ (by omega)]; exact b4, by rw [a3 _ _ _ (by omega)]; exact b5, fun i i0 i1 => by rw [a3 _ _ _ (by omega)]; exact b6 i i0 i1⟩) (fun w ⟨⟨e1, e3⟩, e2⟩ => by
    show b_X37_keepUnit_185 w H x (o 2 1 0) = _
    unfold b_X37_keepUnit_185
    rw [jlt_in x0 x1, Option.bind_some, e3 _ _ _ (by omega), p1, if_neg (Int.lt_irrefl _)])
  exact ⟨w, e, ⟨h1, fun c a k q => by rw [h3 _ _ _ (by omega), f1 _ _ _ (by omega)]⟩, by rw [h3 _ _ _ (by omega)]; exact p1, h2⟩
theorem tk_r (h : tOb t (H + 25) 1 o) (v : vOb o) (g : gOb o) (x0 : 0 ≤ x) (x1 : x < 6) : ∃ w, u_X37_keepUnit_328 t H x = some (w, 0) ∧ (tUf H x t w ∧ ∀ c a k, ¬ (c = 1000 ∧ H + 183 ≤ a ∧ a ≤ H + 188) → jf w c a k = jf t c a k) ∧ tUR w H x o := by
  obtain ⟨vA, vB, vC, vD, vE, vF⟩ := v.2.2.1
  rw [eu_X37_keepUnit_328]; unfold du_X37_keepUnit_328
  rw [t_qCt h v g, Option.bind_some, show qCt o 2 = o 2 2 0 from rfl, jst_in x0 x1, Option.bind_some]
  obtain ⟨y1, Y1⟩ : ∃ y1, y1 = jp t 1000 (H + 183) x (o 2 2 0) := ⟨_, rfl⟩
  obtain ⟨f1, p1, -⟩ := jpF Y1
  have u1 : tUf H x t y1 := by rw [Y1]; exact tUf.rfl.jp (.inl rfl) (by unfold uPl; omega)
  rw [← Y1, eu_X37_keepUnit_344]; unfold du_X37_keepUnit_344
  obtain ⟨w, e, ⟨h1, h3⟩, h2⟩ := loopTo (C := jc3 b_X37_keepUnit_344) (fun p w => (tUf H x t w ∧ ∀ c a k, ¬ (c = 1000 ∧ H + 184 ≤ a ∧ a ≤ H + 188) → jf w c a k = jf y1 c a k) ∧ ∀ j, 0 ≤ j → j < p → tUr w H (300 * x + j) (o 5 j)) (fun p => [H, x, p]) 0 (o 2 2 0) vE (s := y1) (F := fun w => some (w, 0)) ⟨⟨u1, fun _ _ _ _ => rfl⟩, fun j j0 j1 => by omega⟩ (fun k w k0 k1 ⟨⟨e1, e3⟩, e2⟩ => by
    show ∃ w', b_X37_keepUnit_344 w H x k = some (.inl (w', [H, x, k + 1])) ∧ _
    unfold b_X37_keepUnit_344
    have hw := h.uf v e1
    have K : ∀ y, (∀ a k, a ≤ H + 44 → jf y 1000 a k = jf w 1000 a k) → tOb y (H + 25) 1 o := fun y hy => hw.keep (fun a k a0 a1 => hy a k (by omega)) v
    have qs : ∀ j, 0 ≤ j → j < 5 → qRl o k j = o 5 k j := fun j j0 j1 => if_pos ⟨⟨k0, k1⟩, j0, j1⟩
    rw [jlt_in x0 x1, Option.bind_some, e3 _ _ _ (by omega), p1, if_pos k1, W32_in (z := 300 * x) (by omega) (by omega), W32_in (z := 300 * x + k) (by omega) (by omega), W32_in (z := k + 1) (by omega) (by omega), jlet_e]
    obtain ⟨y, hy⟩ : ∃ y, y = 300 * x + k := ⟨_, rfl⟩
    rw [← hy]
    rw [t_qRl hw v, Option.bind_some, qs 0 (by decide) (by decide), jst_in (by omega) (by omega), Option.bind_some]
    obtain ⟨y1, Y1⟩ : ∃ y1, y1 = jp w 1000 (H + 184) y (o 5 k 0) := ⟨_, rfl⟩
    obtain ⟨f1, p1, -⟩ := jpF Y1
    rw [← Y1, t_qRl (K y1 fun a k ha => f1 _ _ _ (by omega)) v, Option.bind_some, qs 1 (by decide) (by decide), jst_in (by omega) (by omega), Option.bind_some]
    obtain ⟨y2, Y2⟩ : ∃ y2, y2 = jp y1 1000 (H + 185) y (o 5 k 1) := ⟨_, rfl⟩
    obtain ⟨f2, p2, -⟩ := jpF Y2
    rw [← Y2, t_qRl (K y2 fun a k ha => by rw [f2 _ _ _ (by omega), f1 _ _ _ (by omega)]) v, Option.bind_some, qs 2 (by decide) (by decide), jst_in (by omega) (by omega), Option.bind_some]
    obtain ⟨y3, Y3⟩ : ∃ y3, y3 = jp y2 1000 (H + 186) y (o 5 k 2) := ⟨_, rfl⟩
    obtain ⟨f3, p3, -⟩ := jpF Y3
    rw [← Y3, t_qRl (K y3 fun a k ha => by rw [f3 _ _ _ (by omega), f2 _ _ _ (by omega), f1 _ _ _ (by omega)]) v, Option.bind_some, qs 3 (by decide) (by decide), jst_in (by omega) (by omega), Option.bind_some]
    obtain ⟨y4, Y4⟩ : ∃ y4, y4 = jp y3 1000 (H + 187) y (o 5 k 3) := ⟨_, rfl⟩
    obtain ⟨f4, p4, -⟩ := jpF Y4
    rw [← Y4, t_qRl (K y4 fun a k ha => by rw [f4 _ _ _ (by omega), f3 _ _ _ (by omega), f2 _ _ _ (by omega), f1 _ _ _ (by omega)]) v, Option.bind_some, qs 4 (by decide) (by decide), jst_in (by omega) (by omega), Option.bind_some]
    obtain ⟨y5, Y5⟩ : ∃ y5, y5 = jp y4 1000 (H + 188) y (o 5 k 4) := ⟨_, rfl⟩
    obtain ⟨f5, p5, -⟩ := jpF Y5
    rw [← Y5]
    have m5 : jSm w y5 := ((((jSm.rfl.wr Y1).wr Y2).wr Y3).wr Y4).wr Y5
    have F5 : ∀ c a i, ¬ (c = 1000 ∧ H + 184 ≤ a ∧ a ≤ H + 188 ∧ i = y) → jf y5 c a i = jf w c a i := fun c a i q => by rw [f5 _ _ _ (by omega), f4 _ _ _ (by omega), f3 _ _ _ (by omega), f2 _ _ _ (by omega), f1 _ _ _ (by omega)]
    refine ⟨y5, rfl, ⟨⟨e1.1.trans m5, fun c a k q => ?_⟩, fun c a k q => by rw [F5 _ _ _ (by omega)]; exact e3 c a k q⟩, fun j j0 j1 => ?_⟩
    · rw [F5 c a k (fun z => q ⟨.inl z.1, by unfold uPl; omega⟩)]; exact e1.2 c a k q
    · by_cases c : j = k
      · rw [c, ← hy]
        refine ⟨?_, ?_, ?_, ?_, p5⟩
        · rw [f5 _ _ _ (by omega), f4 _ _ _ (by omega), f3 _ _ _ (by omega), f2 _ _ _ (by omega)]; exact p1
        · rw [f5 _ _ _ (by omega), f4 _ _ _ (by omega), f3 _ _ _ (by omega)]; exact p2
        · rw [f5 _ _ _ (by omega), f4 _ _ _ (by omega)]; exact p3
        · rw [f5 _ _ _ (by omega)]; exact p4
      · obtain ⟨b1, b2, b3, b4, b5⟩ := e2 j j0 (by omega)
        refine ⟨by rw [F5 _ _ _ (by omega)]; exact b1, by rw [F5 _ _ _ (by omega)]; exact b2, by rw [F5 _ _ _ (by omega)]; exact b3, by rw [F5 _ _ _ (by omega)]; exact b4, by rw [F5 _ _ _ (by omega)]; exact b5⟩) (fun w ⟨⟨e1, e3⟩, e2⟩ => by
    show b_X37_keepUnit_344 w H x (o 2 2 0) = _
    unfold b_X37_keepUnit_344
    rw [jlt_in x0 x1, Option.bind_some, e3 _ _ _ (by omega), p1, if_neg (Int.lt_irrefl _)])
  exact ⟨w, e, ⟨h1, fun c a k q => by rw [h3 _ _ _ (by omega), f1 _ _ _ (by omega)]⟩, by rw [h3 _ _ _ (by omega)]; exact p1, h2⟩
theorem t_keepUnit (h : tOb t (H + 25) 1 o) (v : vOb o) (g : gOb o) (x0 : 0 ≤ x) (x1 : x < 6) : ∃ w, m_X37_keepUnit t H x = some (w, 0) ∧ tUf H x t w ∧ tUn w H x o := by
  obtain ⟨w1, e1, f1, a1⟩ := tk_a h v x0 x1
  obtain ⟨w2, e2, ⟨f2, g2⟩, a2⟩ := tk_b (h.uf v f1) v x0 x1
  obtain ⟨w3, e3, ⟨f3, g3⟩, a3⟩ := tk_t (h.uf v (f1.trans f2)) v g x0 x1
  obtain ⟨w4, e4, ⟨f4, g4⟩, a4⟩ := tk_y (h.uf v ((f1.trans f2).trans f3)) v g x0 x1
  obtain ⟨w5, e5, ⟨f5, g5⟩, a5⟩ := tk_r (h.uf v (((f1.trans f2).trans f3).trans f4)) v g x0 x1
  refine ⟨w5, by rw [e1, e2, e3, e4, e5], (((f1.trans f2).trans f3).trans f4).trans f5, fun j j0 j1 => ?_, fun j k j0 j1 k0 k1 => ?_, ⟨?_, ?_, fun k k0 k1 => ?_⟩, ⟨?_, fun k k0 k1 => ?_⟩, a5⟩
  · rw [g5 _ _ _ (by omega), g5 _ _ _ (by omega), g4 _ _ _ (by omega), g4 _ _ _ (by omega), g3 _ _ (by omega), g3 _ _ (by omega), g2 _ _ (by omega), g2 _ _ (by omega)]; exact a1 j j0 j1
  · rw [g5 _ _ _ (by omega), g4 _ _ _ (by omega), g3 _ _ (by omega)]; exact a2 j k j0 j1 k0 k1
  · rw [g5 _ _ _ (by omega), g4 _ _ _ (by omega)]; exact a3.1
  · rw [g5 _ _ _ (by omega), g4 _ _ _ (by omega)]; exact a3.2.1
  · rw [g5 _ _ _ (by omega), g4 _ _ _ (by omega)]; exact a3.2.2 k k0 k1
  · rw [g5 _ _ _ (by omega)]; exact a4.1
  · obtain ⟨b1, b2, b3, b4, b5, b6⟩ := a4.2 k k0 k1
    refine ⟨by rw [g5 _ _ _ (by omega)]; exact b1, by rw [g5 _ _ _ (by omega)]; exact b2, by rw [g5 _ _ _ (by omega)]; exact b3, by rw [g5 _ _ _ (by omega)]; exact b4, by rw [g5 _ _ _ (by omega)]; exact b5, fun i i0 i1 => by rw [g5 _ _ _ (by omega)]; exact b6 i i0 i1⟩
end jKeepU
