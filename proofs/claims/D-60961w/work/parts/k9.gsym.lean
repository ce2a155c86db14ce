/-! the linker: a symbol is named, the component -/
set_option maxRecDepth 100000
section jGsym
variable {s t u w r q' : jS} {a b g k m n p v l x y z c j X f i H C P Q P' Q' S : Int} {O : Int → Int → Int → Int → Int} {d e : Int → Int → Int} {E : Int → Int}
theorem hC_0 {h : Int} (hh : h = 0 ∨ h = 1) : hC h = 0 ↔ h = 1 := by
  rcases hh with rfl | rfl <;> decide
/-- how and by which symbol -/
theorem gRc.mean (h : gRc C S O s n e) (g0 : 0 ≤ g) (g1 : g < e 0 0) (g6 : g < 600) : ∃ u, m_X35_means s (C + 4275) g 0 (x / 100) (x % 100) = some (u, 0) ∧ gRc C S O u n (gB e x g) ∧ gW C s u ∧ ∀ k, jf u 1000 (C + 4275 + 14) k = jf s 1000 (C + 4275 + 14) k ∧ jf u 1000 (C + 4275 + 24) k = jf s 1000 (C + 4275 + 24) k := by
  rw [em_X35_means]; unfold dm_X35_means
  rw [jst_in g0 g6, Option.bind_some, jst_in g0 g6, Option.bind_some, jst_in g0 g6, Option.bind_some]
  obtain ⟨y1, Y1⟩ : ∃ y1, y1 = jp s 1000 (C + 4275 + 17) g 0 := ⟨_, rfl⟩
  obtain ⟨f1, p1, -⟩ := jpF Y1
  obtain ⟨y2, Y2⟩ : ∃ y2, y2 = jp y1 1000 (C + 4275 + 18) g (x / 100) := ⟨_, rfl⟩
  obtain ⟨f2, p2, -⟩ := jpF Y2
  obtain ⟨y3, Y3⟩ : ∃ y3, y3 = jp y2 1000 (C + 4275 + 19) g (x % 100) := ⟨_, rfl⟩
  obtain ⟨f3, p3, -⟩ := jpF Y3
  rw [← Y1, ← Y2, ← Y3]
  have FY : ∀ c a k, ¬ (c = 1000 ∧ C + 4275 + 17 ≤ a ∧ a ≤ C + 4275 + 19 ∧ k = g) → jf y3 c a k = jf s c a k := fun c a k q => by rw [f3 _ _ _ (by omega), f2 _ _ _ (by omega), f1 _ _ _ (by omega)]
  obtain ⟨h1, h2, h3, h4⟩ := h
  have B1 : gB e x g 1 = e 1 := funext fun k => gB_no (by omega)
  have B0 : gB e x g 0 0 = e 0 0 := gB_no (by omega)
  refine ⟨y3, rfl, ⟨by rw [B0, FY _ _ _ (by omega)]; exact h1, fun x x1 hx => by rw [B1, FY _ _ _ (by omega), FY _ _ _ (by omega)]; exact h2 x x1 hx, fun j j0 j1 => ?_, fun j j0 j1 => ?_⟩, ((gW.rfl.wr Y1 (by omega)).wr Y2 (by omega)).wr Y3 (by omega), fun k => ⟨FY _ _ _ (by omega), FY _ _ _ (by omega)⟩⟩
  · rw [B0] at j1
    obtain ⟨⟨a1, a2⟩, a3, a4, a5⟩ := h3 j j0 j1
    rw [gB_no (f := 2) (by omega), FY _ (C + 4275 + 15) _ (by omega), FY _ (C + 4275 + 16) _ (by omega), FY _ (C + 4275 + 23) _ (by omega)]
    refine ⟨⟨a1, a2⟩, ?_⟩
    by_cases c : j = g
    · rw [c, gB_3, gB_4]
      refine ⟨?_, fun _ => ⟨?_, p3⟩, by rw [← c]; exact a5⟩
      · rw [f3 _ _ _ (by omega), f2 _ _ _ (by omega)]; exact p1
      · rw [f3 _ _ _ (by omega)]; exact p2
    · rw [gB_no (f := 3) (by omega), gB_no (f := 4) (by omega), FY _ _ _ (by omega), FY _ _ _ (by omega), FY _ _ _ (by omega)]
      exact ⟨a3, a4, a5⟩
  · rw [B0] at j1
    rw [B1, FY _ _ _ (by omega), FY _ _ _ (by omega)]; exact h4 j j0 j1
/-- the symbol is counted -/
theorem gRc.fin (h : gRc C S O s x e) (hx : gsy S O x) (hV : ∀ k, k < x → gsy S O k → e 1 k < e 0 0) (g0 : 0 ≤ g) (g1 : g < e 0 0) (h14 : jf s 1000 (C + 4275 + 14) x = g) (h24 : jf s 1000 (C + 4275 + 24) x = -1) (F : ∀ c a k, ¬ (c = 1000 ∧ (a = C + 4275 + 20 ∨ a = C + 4275 + 21) ∧ k = g) → jf u c a k = jf s c a k)
    (h20 : jf u 1000 (C + 4275 + 20) g = if sy O x 0 = 5 then jmx (jf s 1000 (C + 4275 + 20) g) (sy O x 2) else jf s 1000 (C + 4275 + 20) g) (h21 : jf u 1000 (C + 4275 + 21) g = if sy O x 0 = 5 then jmx (jf s 1000 (C + 4275 + 21) g) (sy O x 1) else jf s 1000 (C + 4275 + 21) g) : gRc C S O u (x + 1) (dU e 1 x g) := by
  obtain ⟨h1, h2, h3, h4⟩ := h
  have x0 := hx.1.1.1
  have D0 : dU e 1 x g 0 0 = e 0 0 := dU_no (by omega)
  have D1 : ∀ k, dU e 1 x g 1 k = if k = x then g else e 1 k := fun k => by
    by_cases c : k = x
    · rw [c, dU_at, if_pos rfl]
    · rw [dU_no (by omega), if_neg c]
  refine ⟨by rw [D0, F _ _ _ (by omega)]; exact h1, fun k k1 hk => ?_, fun j j0 j1 => ?_, fun j j0 j1 => ?_⟩
  · rw [F _ _ _ (by omega), F _ _ _ (by omega), D1]
    by_cases c : k = x
    · rw [c, if_neg hx.2, if_pos rfl]; exact ⟨h14, h24⟩
    · rw [if_neg c]; exact h2 k (by omega) hk
  · rw [D0] at j1
    rw [dU_no (f := 1) (c := 2) (by omega), dU_no (f := 1) (c := 3) (by omega), dU_no (f := 1) (c := 4) (by omega), F _ _ _ (by omega), F _ _ _ (by omega), F _ _ _ (by omega), F _ _ _ (by omega), F _ _ _ (by omega), F _ _ _ (by omega)]
    exact h3 j j0 j1
  · rw [D0] at j1
    obtain ⟨c1, c2⟩ := cm_s (S := S) (O := O) (E := dU e 1 x g 1) (g := j) x0
    obtain ⟨c3, c4⟩ := cm_cg (S := S) (O := O) (E := e 1) (E' := dU e 1 x g 1) (g := j) x.toNat fun k k0 k1 => by rw [D1, if_neg (by omega)]
    obtain ⟨a1, a2⟩ := h4 j j0 j1
    rw [c1, c2, c3, c4, D1, if_pos rfl, ← a1, ← a2]
    by_cases c : j = g
    · rw [c, h20, h21]
      by_cases c5 : sy O x 0 = 5
      · rw [if_pos c5, if_pos c5, if_pos ⟨hx, rfl, c5⟩, if_pos ⟨hx, rfl, c5⟩]; exact ⟨rfl, rfl⟩
      · rw [if_neg c5, if_neg c5, if_neg (fun z => c5 z.2.2), if_neg (fun z => c5 z.2.2)]; exact ⟨rfl, rfl⟩
    · rw [if_neg (fun z => c z.2.1.symm), if_neg (fun z => c z.2.1.symm), F _ _ _ (by omega), F _ _ _ (by omega)]; exact ⟨rfl, rfl⟩
theorem gAd_ok (hV : gVd S O n e) (hf : isF O e x g) : (g < gAd e x g 0 0 ∧ (gAd e x g 3 g = 0 ∨ gAd e x g 3 g = 1)) ∧ gAd e x g 0 0 ≤ e 0 0 + 1 ∧ e 0 0 ≤ gAd e x g 0 0 := by
  obtain ⟨⟨n0, n1⟩, v2, v3⟩ := hV
  obtain ⟨⟨a0, a1⟩, -⟩ := hf
  rw [gAd_0 a1]
  by_cases c : g = e 0 0
  · rw [if_pos c, gAd_3 c]; exact ⟨⟨by omega, .inl rfl⟩, by omega, by omega⟩
  · rw [if_neg c, gAd_no (by omega)]
    refine ⟨⟨by omega, ?_⟩, by omega, by omega⟩
    rcases (v2 g a0 (by omega)).2 with z | z
    · exact .inl z
    · exact .inr z.1
/-- where the symbol is said twice -/
abbrev twi (O : Int → Int → Int → Int → Int) (e : Int → Int → Int) (x g : Int) : Prop := strg O x ∧ gAd e x g 3 g = 1
theorem c_gsym (h : lkB C H S O s t) (hg : gRc C S O s x e) (hV : gVd S O x e) (hv : vsy S O x) : (sy O x 3 = 0 ∧ ∃ u, b_X35_nameAll_24 s (C + 4275) i (x / 100) (x % 100) = some (.inl (u, [C + 4275, i, x / 100, x % 100 + 1])) ∧ gRc C S O u (x + 1) e ∧ gW C s u) ∨ (¬ sy O x 3 = 0 ∧ ∃ g, isF O e x g ∧ ∃ u, gW C s u ∧ ((twi O e x g ∧ b_X35_nameAll_24 s (C + 4275) i (x / 100) (x % 100) = jinr (jinr (u_X35_nameAll_162 u (C + 4275) (x / 100) (x % 100)))) ∨ (¬ twi O e x g ∧ b_X35_nameAll_24 s (C + 4275) i (x / 100) (x % 100) = some (.inl (u, [C + 4275, i, x / 100, x % 100 + 1])) ∧ gRc C S O u (x + 1) (gS O e x g)))) := by
  obtain ⟨x1, x2, ⟨x3, x4, x5, x6⟩, x7, -⟩ := h.sym hv
  obtain ⟨⟨v0, v1⟩, v2, v3⟩ := id hv
  obtain ⟨z1, z2, z3, z4⟩ := h.2.2.1 (x / 100) (by omega) (by omega) v2
  have eA : C + 4275 + -4000 + 4041 + 1858 * (x / 100) = fAt C (x / 100) := by unfold fAt; omega
  unfold b_X35_nameAll_24
  rw [jix_in (by omega) (by omega), Option.bind_some, eA, c_qCt z1 z3 z4, Option.bind_some, show qCt (O (x / 100)) 1 = O (x / 100) 2 1 0 from rfl, if_pos v3, x1, Option.bind_some, W32_in (z := 100 * (x / 100)) (by omega) (by omega), W32_in (z := 100 * (x / 100) + x % 100) (by omega) (by omega), show 100 * (x / 100) + x % 100 = x by omega, jst_in v0 v1, Option.bind_some, jst_in v0 v1, Option.bind_some]
  obtain ⟨y1, Y1⟩ : ∃ y1, y1 = jp s 1000 (C + 4275 + 14) x (-1) := ⟨_, rfl⟩
  obtain ⟨f1, p1, -⟩ := jpF Y1
  obtain ⟨y2, Y2⟩ : ∃ y2, y2 = jp y1 1000 (C + 4275 + 24) x (-1) := ⟨_, rfl⟩
  obtain ⟨f2, p2, -⟩ := jpF Y2
  rw [← Y1, ← Y2]
  have W2 : gW C s y2 := (gW.rfl.wr Y1 (by omega)).wr Y2 (by omega)
  have hB2 := h.gw W2
  have hg2 : gRc C S O y2 x e := hg.cg (fun k hk => ⟨by rw [f2 _ _ _ (by omega), f1 _ _ _ (by omega)], by rw [f2 _ _ _ (by omega), f1 _ _ _ (by omega)]⟩) (fun a k a0 a1 => by rw [f2 _ _ _ (by omega), f1 _ _ _ (by omega)]) (by rw [f2 _ _ _ (by omega), f1 _ _ _ (by omega)])
  have q14 : jf y2 1000 (C + 4275 + 14) x = -1 := by rw [f2 _ _ _ (by omega)]; exact p1
  obtain ⟨-, x2', ⟨x3', x4', x5', x6'⟩, -, -⟩ := hB2.sym hv
  have wx : W32 (x % 100 + 1) = x % 100 + 1 := W32_in (by omega) (by omega)
  rw [jrd_in x3' x4', Option.bind_some, x2'.2.2.2.1]
  by_cases c0 : sy O x 3 = 0
  · refine .inl ⟨c0, y2, ?_, ?_, W2⟩
    · rw [if_pos c0, eu_X35_nameAll_237]; unfold du_X35_nameAll_237
      rw [wx]
    · obtain ⟨h1, h2, h3, h4⟩ := hg2
      refine ⟨h1, fun k k1 hk => ?_, h3, fun j j0 j1 => ?_⟩
      · by_cases c : k = x
        · rw [c, if_pos c0]; exact ⟨q14, p2⟩
        · exact h2 k (by omega) hk
      · obtain ⟨c1, c2⟩ := cm_s (S := S) (O := O) (E := e 1) (g := j) v0
        rw [c1, c2, if_neg (fun z => z.1.2 c0), if_neg (fun z => z.1.2 c0)]; exact h4 j j0 j1
  have hx : gsy S O x := ⟨hv, c0⟩
  rw [if_neg c0]
  obtain ⟨g, hf, r, er, r1, r2, r3, r4⟩ := c_gfor hB2 hg2 hV hx
  refine .inr ⟨c0, g, hf, ?_⟩
  obtain ⟨⟨ga1, ga2⟩, ga3, ga4⟩ := gAd_ok hV hf
  have g0 := hf.1.1
  have g6 : g < 600 := by have := hf.1.2; have := hV.1.2; omega
  rw [er, Option.bind_some, r1, jst_in v0 v1, Option.bind_some]
  obtain ⟨y3, Y3⟩ : ∃ y3, y3 = jp r.1 1000 (C + 4275 + 14) x g := ⟨_, rfl⟩
  obtain ⟨f3, p3, -⟩ := jpF Y3
  rw [← Y3]
  have W3 : gW C s y3 := (W2.trans r3).wr Y3 (by omega)
  have hB3 := h.gw W3
  obtain ⟨-, s2, ⟨s3, s4, -, -⟩, -, -⟩ := hB3.sym hv
  have hg3 : gRc C S O y3 x (gAd e x g) := r2.cg (fun k hk => ⟨f3 _ _ _ (by omega), f3 _ _ _ (by omega)⟩) (fun a k a0 a1 => f3 _ _ _ (by omega)) (f3 _ _ _ (by omega))
  have q24 : jf y3 1000 (C + 4275 + 24) x = -1 := by rw [f3 _ _ _ (by omega), (r4 x).2]; exact p2
  obtain ⟨y, hy⟩ : ∃ y, y = syA C x := ⟨_, rfl⟩
  rw [← hy] at s2 s3 s4 ⊢
  have t145 : ∀ y0, y0 = 0 ∨ y0 = 1 → u_X35_nameAll_124 y3 (C + 4275) i (x / 100) (x % 100) y g y0 = u_X35_nameAll_145 y3 (C + 4275) i (x / 100) (x % 100) y g (if sy O x 3 = 1 ∧ y0 = 1 then 1 else 0) := fun y0 hy0 => by
    rw [eu_X35_nameAll_124]; unfold du_X35_nameAll_124
    rw [jrd_in s3 s4, Option.bind_some, s2.2.2.2.1, eu_X35_nameAll_144]; unfold du_X35_nameAll_144
    by_cases cb : sy O x 3 = 1
    · rw [if_pos cb]
      rcases hy0 with rfl | rfl
      · rw [if_pos rfl, if_neg (fun z => absurd z.2 (by decide))]
      · rw [if_neg n10, if_pos ⟨cb, rfl⟩]
    · rw [if_neg cb, if_neg (fun z => cb z.1)]
  have k145 : ((jrd y3 20 y 1).bind fun v9 => if v9 < 0 then u_X35_nameAll_123 y3 (C + 4275) i (x / 100) (x % 100) y g else (jrd y3 20 y 1).bind fun v10 => if 4 < v10 then u_X35_nameAll_123 y3 (C + 4275) i (x / 100) (x % 100) y g else u_X35_nameAll_124 y3 (C + 4275) i (x / 100) (x % 100) y g 1) = u_X35_nameAll_145 y3 (C + 4275) i (x / 100) (x % 100) y g (if strg O x then 1 else 0) := by
    rw [jrd_in s3 s4, Option.bind_some, Option.bind_some, s2.1, eu_X35_nameAll_123]; unfold du_X35_nameAll_123
    rw [t145 0 (.inl rfl), t145 1 (.inr rfl), if_neg (show ¬ (sy O x 3 = 1 ∧ (0 : Int) = 1) from fun z => absurd z.2 (by decide))]
    by_cases c1 : sy O x 0 < 0
    · rw [if_pos c1, if_neg (show ¬ strg O x by omega)]
    · rw [if_neg c1]
      by_cases c2 : 4 < sy O x 0
      · rw [if_pos c2, if_neg (show ¬ strg O x by omega)]
      · rw [if_neg c2]
        by_cases c3 : sy O x 3 = 1
        · rw [if_pos ⟨c3, rfl⟩, if_pos (show strg O x by omega)]
        · rw [if_neg (fun z => c3 z.1), if_neg (show ¬ strg O x by omega)]
  have t184 : ∀ y4 e2, lkB C H S O y4 t → gRc C S O y4 x e2 → e2 1 = e 1 → g < e2 0 0 → e 0 0 ≤ e2 0 0 → jf y4 1000 (C + 4275 + 14) x = g → jf y4 1000 (C + 4275 + 24) x = -1 → ∃ u, gW C y4 u ∧ u_X35_nameAll_184 y4 (C + 4275) i (x / 100) (x % 100) y g = some (.inl (u, [C + 4275, i, x / 100, x % 100 + 1])) ∧ gRc C S O u (x + 1) (dU e2 1 x g) := fun y4 e2 hB4 hg4 he2 hl hl' h14 h24 => by
    obtain ⟨-, a2, ⟨a3, a4, -, -⟩, -, -⟩ := hB4.sym hv
    rw [← hy] at a2 a3 a4
    have hVe : ∀ k, k < x → gsy S O k → e2 1 k < e2 0 0 := fun k k1 hk => by
      have := (hV.2.2 k k1 hk).2
      rw [he2]; omega
    rw [eu_X35_nameAll_184]; unfold du_X35_nameAll_184
    rw [jrd_in a3 a4, Option.bind_some, a2.1]
    by_cases c5 : sy O x 0 = 5
    · rw [if_pos c5, jlt_in g0 g6, Option.bind_some, jrd_in a3 a4, Option.bind_some, a2.2.2.1, jst_in g0 g6, Option.bind_some]
      obtain ⟨y5, Y5⟩ : ∃ y5, y5 = jp y4 1000 (C + 4275 + 20) g (jmx (jf y4 1000 (C + 4275 + 20) g) (sy O x 2)) := ⟨_, rfl⟩
      obtain ⟨f5, p5, k5, -⟩ := jpF Y5
      rw [← Y5, jlt_in g0 g6, Option.bind_some, jrd_in a3 (by rw [k5]; exact a4), Option.bind_some, f5 20 _ _ (by omega), a2.2.1, f5 _ _ _ (by omega), jst_in g0 g6, Option.bind_some]
      obtain ⟨y6, Y6⟩ : ∃ y6, y6 = jp y5 1000 (C + 4275 + 21) g (jmx (jf y4 1000 (C + 4275 + 21) g) (sy O x 1)) := ⟨_, rfl⟩
      obtain ⟨f6, p6, -⟩ := jpF Y6
      rw [← Y6, eu_X35_nameAll_237]; unfold du_X35_nameAll_237
      rw [wx]
      exact ⟨y6, (gW.rfl.wr Y5 (by omega)).wr Y6 (by omega), rfl, hg4.fin hx hVe g0 hl h14 h24 (fun c a k q => by rw [f6 _ _ _ (by omega), f5 _ _ _ (by omega)]) (by rw [f6 _ _ _ (by omega), if_pos c5]; exact p5) (by rw [if_pos c5]; exact p6)⟩
    · rw [if_neg c5, eu_X35_nameAll_237]; unfold du_X35_nameAll_237
      rw [wx]
      exact ⟨y4, gW.rfl, rfl, hg4.fin hx hVe g0 hl h14 h24 (fun _ _ _ _ => rfl) (by rw [if_neg c5]) (by rw [if_neg c5])⟩
  have A1 : gAd e x g 1 = e 1 := funext fun k => gAd_no (by omega)
  rw [k145, eu_X35_nameAll_145]; unfold du_X35_nameAll_145
  by_cases cs : strg O x
  rotate_left
  · rw [if_neg cs, if_pos rfl, eu_X35_nameAll_170]; unfold du_X35_nameAll_170
    rw [if_pos rfl]
    obtain ⟨u, u1, u2, u3⟩ := t184 y3 (gAd e x g) hB3 hg3 A1 ga1 ga4 p3 q24
    refine ⟨u, W3.trans u1, .inr ⟨fun z => cs z.1, u2, ?_⟩⟩
    unfold gS; rw [if_neg cs]; exact u3
  · rw [if_pos cs, if_neg n10, jlt_in g0 g6, Option.bind_some, (hg3.2.2.1 g g0 ga1).2.1]
    by_cases ct : gAd e x g 3 g = 1
    · rw [if_pos ((hC_0 ga2).mpr ct)]
      exact ⟨y3, W3, .inl ⟨⟨cs, ct⟩, rfl⟩⟩
    · rw [if_neg (fun z => ct ((hC_0 ga2).mp z)), eu_X35_nameAll_170]; unfold du_X35_nameAll_170
      obtain ⟨y4, e4, g4, w4, r5⟩ := hg3.mean (x := x) g0 ga1 g6
      rw [if_neg n10, e4, Option.bind_some]
      have B1 : gB (gAd e x g) x g 1 = e 1 := by rw [← A1]; exact funext fun k => gB_no (by omega)
      have B0 : gB (gAd e x g) x g 0 0 = gAd e x g 0 0 := gB_no (by omega)
      obtain ⟨u, u1, u2, u3⟩ := t184 y4 (gB (gAd e x g) x g) (hB3.gw w4) g4 B1 (by rw [B0]; exact ga1) (by rw [B0]; exact ga4) (by rw [(r5 x).1]; exact p3) (by rw [(r5 x).2]; exact q24)
      refine ⟨u, (W3.trans w4).trans u1, .inr ⟨fun z => ct z.2, u2, ?_⟩⟩
      unfold gS; rw [if_pos cs]; exact u3
end jGsym
