/-! the linker: a symbol is named, the twin *-/
set_option maxRecDepth 100000
section jTsym
variable {s t u w r q' : jS} {a b g k m n p v l x y z c j X f i H C P Q P' Q' S : Int} {O : Int → Int → Int → Int → Int} {d e : Int → Int → Int} {E : Int → Int} {V W : Int → Int}
theorem t_alike (hx : tUy t H x V) (hy : tUy t H y W) (vx : vNm V) (vy : vNm W) (x0 : 0 ≤ x ∧ x < 600) (y0 : 0 ≤ y ∧ y < 600) : ∃ r, m_X37_areNamesAlike t H x y = some r ∧ (r = 0 ∨ r = 1) ∧ (r = 1 ↔ sameNm V W) := by
  obtain ⟨-, -, -, -, a1, a2⟩ := hx
  obtain ⟨-, -, -, -, b1, b2⟩ := hy
  obtain ⟨v0, v1, -⟩ := vx
  obtain ⟨w0, w1, -⟩ := vy
  rw [em_X37_areNamesAlike]; unfold dm_X37_areNamesAlike
  rw [jlt_in x0.1 x0.2, Option.bind_some, jlt_in y0.1 y0.2, Option.bind_some, a1, b1, eu_X37_areNamesAlike_20]; unfold du_X37_areNamesAlike_20
  rw [eu_X37_areNamesAlike_24]; unfold du_X37_areNamesAlike_24
  have z0 : ∀ i, jlpR (jc5 b_X37_areNamesAlike_24) [H, x, y, 0, i] t = some 0 := fun i => by
    refine jlpR_r (r := some 0) ?_
    show b_X37_areNamesAlike_24 t H x y 0 i = _
    unfold b_X37_areNamesAlike_24
    rw [jlt_in x0.1 x0.2, Option.bind_some, a1, if_pos rfl, Wz_0]
    split <;> rfl
  by_cases c : V 5 = W 5
  · rw [if_pos c]
    have st : ∀ k, 0 ≤ k → k < V 5 → b_X37_areNamesAlike_24 t H x y 1 k = if V (6 + k) = W (6 + k) then some (.inl [H, x, y, 1, k + 1]) else some (.inl [H, x, y, 0, k + 1]) := fun k k0 k1 => by
      unfold b_X37_areNamesAlike_24
      rw [jlt_in x0.1 x0.2, Option.bind_some, a1, if_pos k1, if_neg n10, W32_in (z := 16 * x) (by omega) (by omega), W32_in (z := 16 * x + k) (by omega) (by omega), W32_in (z := 16 * y) (by omega) (by omega), W32_in (z := 16 * y + k) (by omega) (by omega), jlt_in (by omega) (by omega), Option.bind_some, jlt_in (by omega) (by omega), Option.bind_some, a2 k k0 k1, b2 k k0 (by omega), eu_X37_areNamesAlike_71]; unfold du_X37_areNamesAlike_71
      rw [W32_in (z := k + 1) (by omega) (by omega)]
    have en : b_X37_areNamesAlike_24 t H x y 1 (V 5) = jinr (some 1) := by
      unfold b_X37_areNamesAlike_24
      rw [jlt_in x0.1 x0.2, Option.bind_some, a1, if_neg (Int.lt_irrefl _), Wz_1]
    have key : ∀ (m : Nat) (k : Int), 0 ≤ k → k ≤ V 5 → V 5 - k = m → ∃ r, jlpR (jc5 b_X37_areNamesAlike_24) [H, x, y, 1, k] t = some r ∧ (r = 0 ∨ r = 1) ∧ (r = 1 ↔ ∀ j, k ≤ j → j < V 5 → V (6 + j) = W (6 + j)) := by
      intro m
      induction m with
      | zero =>
        intro k k0 k1 hm
        have hk : k = V 5 := by omega
        rw [hk]
        exact ⟨1, jlpR_r (r := some 1) en, .inr rfl, fun _ j j0 j1 => by omega, fun _ => rfl⟩
      | succ m ih =>
        intro k k0 k1 hm
        have h1 := st k k0 (by omega)
        by_cases c2 : V (6 + k) = W (6 + k)
        · rw [if_pos c2] at h1
          obtain ⟨r, e1, e2, e3⟩ := ih (k + 1) (by omega) (by omega) (by omega)
          refine ⟨r, by rw [jlpR_l (vs' := [H, x, y, 1, k + 1]) h1]; exact e1, e2, e3.trans ⟨fun h j j0 j1 => ?_, fun h j j0 j1 => h j (by omega) j1⟩⟩
          by_cases cj : j = k
          · rw [cj]; exact c2
          · exact h j (by omega) j1
        · rw [if_neg c2] at h1
          exact ⟨0, by rw [jlpR_l (vs' := [H, x, y, 0, k + 1]) h1]; exact z0 _, .inl rfl, fun z => absurd z (by decide), fun h => absurd (h k (Int.le_refl _) (by omega)) c2⟩
    obtain ⟨r, e1, e2, e3⟩ := key (V 5).toNat 0 (Int.le_refl _) v0 (by omega)
    exact ⟨r, e1, e2, e3.trans ⟨fun h => ⟨c, fun i i0 i1 => h i i0 i1⟩, fun h j j0 j1 => h.2 j j0 j1⟩⟩
  · rw [if_neg c]
    exact ⟨0, z0 0, .inl rfl, fun z => absurd z (by decide), fun h => absurd h.1 c⟩
/-- globals' rows alone -/
def tGw (H : Int) (t u : jS) : Prop := jSm t u ∧ ∀ c a k, ¬ (c = 41 ∧ a = H ∧ k = 81) → ¬ (c = 1000 ∧ H + 189 ≤ a ∧ a ≤ H + 196) → jf u c a k = jf t c a k
theorem tGw.rfl : tGw H t t := ⟨jSm.rfl, fun _ _ _ _ _ => Eq.refl _⟩
theorem tGw.trans (h : tGw H t u) (g : tGw H u w) : tGw H t w := ⟨h.1.trans g.1, fun c a k q1 q2 => (g.2 c a k q1 q2).trans (h.2 c a k q1 q2)⟩
theorem tGw.wr {v2 : jS} (h : tGw H t u) (e : v2 = jp u c a k x) (hc : c = 41 ∧ a = H ∧ k = 81 ∨ c = 1000 ∧ H + 189 ≤ a ∧ a ≤ H + 196) : tGw H t v2 := ⟨by rw [e]; exact h.1.jp, fun c' a' k' q1 q2 => by
  rw [e, jf_neg (by omega)]; exact h.2 c' a' k' q1 q2⟩
theorem tGw.lf (h : tGw H t u) : tLF H t u := ⟨h.1, fun c a k q1 _ _ q4 => h.2 c a k (by omega) (by omega)⟩
theorem lkB.tgw (h : lkB C H S O s t) (g : tGw H t u) : lkB C H S O s u := h.kp (Int.le_refl _) (fun _ _ _ => ⟨rfl, rfl, fun _ _ => rfl⟩) rfl (fun _ => rfl) (fun c a k a0 a1 => g.2 _ _ _ (by omega) (by omega)) (g.2 _ _ _ (by omega) (by omega)) (g.2 _ _ _ (by omega) (by omega))
theorem t_isIn (h : lkB C H S O s t) : m_X37_isIn t H x = some (if sIn S x then 1 else 0) := by
  rw [e_X37_isIn, h.2.2.2.2.1]
  have := I_and_1 (I_shr S x)
  by_cases c : I_and (I_shr S x) 1 = 1
  · rw [if_pos c, if_pos (show sIn S x by omega)]
  · rw [if_neg c, if_neg (show ¬ sIn S x by omega)]
theorem t_isDef (h : tUy t H x V) (x0 : 0 ≤ x ∧ x < 600) : m_X37_isDefinition t H x = some (if 0 ≤ V 0 ∧ V 0 ≤ 4 then 1 else 0) := by
  rw [em_X37_isDefinition]; unfold dm_X37_isDefinition
  rw [jlt_in x0.1 x0.2, Option.bind_some, h.1, Option.bind_some, Wz_0, Wz_1]
  by_cases c1 : V 0 < 0
  · rw [if_pos c1, if_neg (by omega)]
  · rw [if_neg c1]
    by_cases c2 : 4 < V 0
    · rw [if_pos c2, if_neg (by omega)]
    · rw [if_neg c2, if_pos (by omega)]
theorem t_gsym (h : lkB C H S O s t) (hg : gRt H S O t x e) (hV : gVd S O x e) (hv : vsy S O x) : (sy O x 3 = 0 ∧ b_X37_findGlobals_26 t H (x / 100) (x % 100) = some (.inl (t, [H, x / 100, x % 100 + 1])) ∧ gRt H S O t (x + 1) e) ∨ (¬ sy O x 3 = 0 ∧ ∃ g, isF O e x g ∧ ∃ u, tGw H t u ∧ ((twi O e x g ∧ b_X37_findGlobals_26 t H (x / 100) (x % 100) = jinr (jinr (u_X37_findGlobals_187 u H (x / 100) (x % 100)))) ∨ (¬ twi O e x g ∧ b_X37_findGlobals_26 t H (x / 100) (x % 100) = some (.inl (u, [H, x / 100, x % 100 + 1])) ∧ gRt H S O u (x + 1) (gS O e x g)))) := by
  obtain ⟨-, -, -, x7, x8⟩ := h.sym hv
  obtain ⟨⟨v0, v1⟩, v2, v3⟩ := id hv
  obtain ⟨z1, z2, z3, z4⟩ := h.2.2.1 (x / 100) (by omega) (by omega) v2
  obtain ⟨g1, g2, g3⟩ := id hg
  have wx : W32 (x % 100 + 1) = x % 100 + 1 := W32_in (by omega) (by omega)
  unfold b_X37_findGlobals_26
  rw [jlt_in (by omega) (by omega), Option.bind_some, z2.2.2.2.1.1, if_pos v3, jlet_e, W32_in (z := 100 * (x / 100)) (by omega) (by omega), W32_in (z := 100 * (x / 100) + x % 100) (by omega) (by omega), show 100 * (x / 100) + x % 100 = x by omega, jlt_in v0 v1, Option.bind_some, x8.2.2.2.1, eu_X37_findGlobals_211]; unfold du_X37_findGlobals_211
  rw [wx]
  by_cases c0 : sy O x 3 = 0
  · rw [if_pos c0]
    refine .inl ⟨c0, rfl, g1, fun k k1 hk => ?_, g3⟩
    by_cases c : k = x
    · rw [c] at hk; exact absurd c0 hk.2
    · exact g2 k (by omega) hk
  have hx : gsy S O x := ⟨hv, c0⟩
  rw [if_neg c0]
  refine .inr ⟨c0, ?_⟩
  rw [eu_X37_findGlobals_58]; unfold du_X37_findGlobals_58
  obtain ⟨⟨n0, n1⟩, e2, e3⟩ := id hV
  have vn := x7.2.2.2.2.2.2.2.2.2.1
  have st : ∀ j, 0 ≤ j → j < e 0 0 → (¬ sameNm (sy O (e 2 j)) (sy O x) → b_X37_findGlobals_58 t H (x / 100) (x % 100) x j = some (.inl (t, [H, x / 100, x % 100, x, j + 1]))) ∧ (sameNm (sy O (e 2 j)) (sy O x) → b_X37_findGlobals_58 t H (x / 100) (x % 100) x j = jinr (u_X37_findGlobals_88 t H (x / 100) (x % 100) x j)) := fun j j0 j1 => by
    obtain ⟨⟨hy, -⟩, -⟩ := e2 j j0 j1
    obtain ⟨-, -, -, y7, y8⟩ := h.sym hy.1
    obtain ⟨r, er, r0, r1⟩ := t_alike y8 x8 y7.2.2.2.2.2.2.2.2.2.1 vn hy.1.1 ⟨v0, v1⟩
    unfold b_X37_findGlobals_58
    rw [g1, if_pos j1, jlt_in j0 (by omega), Option.bind_some, (g3 j j0 j1).1, er, Option.bind_some, W32_in (by omega) (by omega)]
    refine ⟨fun hn => ?_, fun hn => ?_⟩
    · rw [if_pos (by
        rcases r0 with z | z
        · exact z
        · exact absurd (r1.mp z) hn)]
    · rw [if_neg (by have := r1.mpr hn; omega)]
  obtain ⟨g, hf, eg⟩ : ∃ g, isF O e x g ∧ jlpW (jc5 b_X37_findGlobals_58) [H, x / 100, x % 100, x, 0] t = u_X37_findGlobals_88 t H (x / 100) (x % 100) x g := by
    rcases jseekW (C := jc5 b_X37_findGlobals_58) (s := t) (fun j => [H, x / 100, x % 100, x, j]) (fun j => sameNm (sy O (e 2 j)) (sy O x)) (fun j => u_X37_findGlobals_88 t H (x / 100) (x % 100) x j) (u_X37_findGlobals_88 t H (x / 100) (x % 100) x (e 0 0)) 0 (e 0 0) n0 (fun j j0 j1 hj => (st j j0 j1).1 hj) (fun j j0 j1 hj => (st j j0 j1).2 hj) (by
        show b_X37_findGlobals_58 t H (x / 100) (x % 100) x (e 0 0) = _
        unfold b_X37_findGlobals_58
        rw [g1, if_neg (Int.lt_irrefl _)]) with ⟨j, j0, j1, hj, hm, ej⟩ | ⟨hm, ej⟩
    · exact ⟨j, ⟨⟨j0, by omega⟩, fun i i0 i1 => hm i i0 i1, fun _ => hj⟩, ej⟩
    · exact ⟨e 0 0, ⟨⟨n0, Int.le_refl _⟩, fun i i0 i1 => hm i i0 i1, fun z => absurd z (Int.lt_irrefl _)⟩, ej⟩
  refine ⟨g, hf, ?_⟩
  rw [eg, eu_X37_findGlobals_88]; unfold du_X37_findGlobals_88
  obtain ⟨⟨ga1, ga2⟩, ga3, ga4⟩ := gAd_ok hV hf
  have g0 := hf.1.1
  have g6 : g < 600 := by have := hf.1.2; omega
  have A1 : ∀ k, gAd e x g 1 k = e 1 k := fun k => gAd_no (by omega)
  -- a new one
  obtain ⟨y, ey, hy, wy⟩ : ∃ y, (if g = jf t 41 H 81 then (jst t 1000 (H + 190) 600 g x).bind fun s1 => (jst s1 1000 (H + 191) 600 g 0).bind fun s2 => (jst s2 1000 (H + 193) 600 g 0).bind fun s3 => (jst s3 1000 (H + 194) 600 g 0).bind fun s4 => (jst s4 1000 (H + 195) 600 g (-1)).bind fun s5 => jls (jp s5 41 H 81 (W32 ((jf s5 41 H 81) + 1))) fun s6 => u_X37_findGlobals_147 s6 H (x / 100) (x % 100) x g else u_X37_findGlobals_147 t H (x / 100) (x % 100) x g) = u_X37_findGlobals_147 y H (x / 100) (x % 100) x g ∧ gRt H S O y x (gAd e x g) ∧ tGw H t y := by
    rw [g1]
    by_cases c : g = e 0 0
    · rw [if_pos c, jst_in g0 g6, Option.bind_some]
      obtain ⟨y1, Y1⟩ : ∃ y1, y1 = jp t 1000 (H + 190) g x := ⟨_, rfl⟩
      obtain ⟨f1, p1, -⟩ := jpF Y1
      rw [← Y1, jst_in g0 g6, Option.bind_some]
      obtain ⟨y2, Y2⟩ : ∃ y2, y2 = jp y1 1000 (H + 191) g 0 := ⟨_, rfl⟩
      obtain ⟨f2, p2, -⟩ := jpF Y2
      rw [← Y2, jst_in g0 g6, Option.bind_some]
      obtain ⟨y3, Y3⟩ : ∃ y3, y3 = jp y2 1000 (H + 193) g 0 := ⟨_, rfl⟩
      obtain ⟨f3, p3, -⟩ := jpF Y3
      rw [← Y3, jst_in g0 g6, Option.bind_some]
      obtain ⟨y4, Y4⟩ : ∃ y4, y4 = jp y3 1000 (H + 194) g 0 := ⟨_, rfl⟩
      obtain ⟨f4, p4, -⟩ := jpF Y4
      rw [← Y4, jst_in g0 g6, Option.bind_some]
      obtain ⟨y5, Y5⟩ : ∃ y5, y5 = jp y4 1000 (H + 195) g (-1) := ⟨_, rfl⟩
      obtain ⟨f5, p5, -⟩ := jpF Y5
      rw [← Y5, f5 41 _ _ (by omega), f4 41 _ _ (by omega), f3 41 _ _ (by omega), f2 41 _ _ (by omega), f1 41 _ _ (by omega), g1, W32_in (by omega) (by omega)]
      obtain ⟨y6, E_y6⟩ : ∃ y6, y6 = jp y5 41 H 81 (e 0 0 + 1) := ⟨_, rfl⟩
      obtain ⟨f_y6, p_y6, -⟩ := jpF E_y6
      rw [jls_e, ← E_y6]
      have FY : ∀ a k, ¬ k = g → jf y6 1000 a k = jf t 1000 a k := fun a k q => by
        rw [f_y6 _ _ _ (by omega), f5 _ _ _ (by omega), f4 _ _ _ (by omega), f3 _ _ _ (by omega), f2 _ _ _ (by omega), f1 _ _ _ (by omega)]
      refine ⟨y6, rfl, ⟨?_, fun k k1 hk => ?_, fun j j0 j1 => ?_⟩, (((((tGw.rfl.wr Y1 (by omega)).wr Y2 (by omega)).wr Y3 (by omega)).wr Y4 (by omega)).wr Y5 (by omega)).wr E_y6 (by omega)⟩
      · rw [gAd_0 (by omega), if_pos c, c]; exact p_y6
      · rw [A1, f_y6 _ _ _ (by omega), f5 _ _ _ (by omega), f4 _ _ _ (by omega), f3 _ _ _ (by omega), f2 _ _ _ (by omega), f1 _ _ _ (by omega)]; exact g2 k k1 hk
      · rw [gAd_0 (by omega), if_pos c] at j1
        by_cases cj : j = g
        · rw [cj, gAd_2 c, gAd_3 c]
          refine ⟨?_, ?_, fun z => absurd z (by decide), ?_, ?_⟩
          · rw [f_y6 _ _ _ (by omega), f5 _ _ _ (by omega), f4 _ _ _ (by omega), f3 _ _ _ (by omega), f2 _ _ _ (by omega)]; exact p1
          · rw [f_y6 _ _ _ (by omega), f5 _ _ _ (by omega), f4 _ _ _ (by omega), f3 _ _ _ (by omega)]; exact p2
          · rw [f_y6 _ _ _ (by omega), f5 _ _ _ (by omega), f4 _ _ _ (by omega)]; exact p3
          · rw [f_y6 _ _ _ (by omega), f5 _ _ _ (by omega)]; exact p4
        · rw [FY _ _ cj, FY _ _ cj, FY _ _ cj, FY _ _ cj, FY _ _ cj, gAd_no (f := 2) (by omega), gAd_no (f := 3) (by omega), gAd_no (f := 4) (by omega)]
          exact g3 j j0 (by omega)
    · rw [if_neg c]
      have e0 : gAd e x g = e := by
        funext f k
        exact gAd_no (by omega)
      exact ⟨t, rfl, by rw [e0]; exact hg, tGw.rfl⟩
  rw [ey, eu_X37_findGlobals_147]; unfold du_X37_findGlobals_147
  rw [jst_in v0 v1, Option.bind_some]
  obtain ⟨y1, Y1⟩ : ∃ y1, y1 = jp y 1000 (H + 189) x g := ⟨_, rfl⟩
  obtain ⟨f1, p1, -⟩ := jpF Y1
  have W1 : tGw H t y1 := wy.wr Y1 (by omega)
  obtain ⟨-, -, -, -, x9⟩ := (h.tgw W1).sym hv
  rw [← Y1, jlt_in v0 v1, Option.bind_some, x9.2.2.2.1]
  obtain ⟨h1, h2, h3⟩ := hy
  have fin : ∀ (e2 : Int → Int → Int) (y2 : jS), (∀ a k, ¬ (a = H + 191 ∨ a = H + 192) → jf y2 1000 a k = jf y1 1000 a k) → jf y2 41 H 81 = jf y1 41 H 81 → e2 0 0 = gAd e x g 0 0 → e2 1 = gAd e x g 1 → e2 2 = gAd e x g 2 → (∀ j, 0 ≤ j → j < gAd e x g 0 0 → jf y2 1000 (H + 191) j = e2 3 j ∧ (e2 3 j = 1 → jf y2 1000 (H + 192) j = e2 4 j)) → gRt H S O y2 (x + 1) (dU e2 1 x g) := fun e2 y2 F F8 q0 q1 q2 q3 => by
    refine ⟨by rw [dU_no (by omega), q0, F8, f1 _ _ _ (by omega)]; exact h1, fun k k1 hk => ?_, fun j j0 j1 => ?_⟩
    · rw [F _ _ (by omega)]
      by_cases c : k = x
      · rw [c, dU_at]; exact p1
      · rw [dU_no (by omega), q1, f1 _ _ _ (by omega)]; exact h2 k (by omega) hk
    · rw [dU_no (by omega), q0] at j1
      obtain ⟨b1, b2⟩ := q3 j j0 j1
      obtain ⟨a1, -, -, a4, a5⟩ := h3 j j0 j1
      rw [dU_no (f := 1) (c := 2) (by omega), dU_no (f := 1) (c := 3) (by omega), dU_no (f := 1) (c := 4) (by omega), q2, F (H + 190) j (by omega), F (H + 193) j (by omega), F (H + 194) j (by omega), f1 1000 (H + 190) j (by omega), f1 1000 (H + 193) j (by omega), f1 1000 (H + 194) j (by omega)]
      exact ⟨a1, b1, b2, a4, a5⟩
  by_cases cs : strg O x
  rotate_left
  · have e0 : (if sy O x 3 = 1 then (m_X37_isDefinition y1 H x).bind fun v3 => if v3 = 0 then some (.inl (y1, [H, x / 100, x % 100 + 1])) else (jlt y1 1000 (H + 191) 600 g).bind fun v4 => if v4 = 1 then jinr (jinr (u_X37_findGlobals_187 y1 H (x / 100) (x % 100))) else (jst y1 1000 (H + 191) 600 g 1).bind fun s5 => (jst s5 1000 (H + 192) 600 g x).bind fun s6 => some (.inl (s6, [H, x / 100, x % 100 + 1])) else some (.inl (y1, [H, x / 100, x % 100 + 1]))) = (some (.inl (y1, [H, x / 100, x % 100 + 1])) : Option ((jS × List Int) ⊕ ((jS × List Int) ⊕ (jS × Int)))) := by
      by_cases c1 : sy O x 3 = 1
      · rw [if_pos c1, t_isDef x9 ⟨v0, v1⟩, if_neg (show ¬ (0 ≤ sy O x 0 ∧ sy O x 0 ≤ 4) from fun z => cs ⟨c1, z⟩), Option.bind_some, if_pos rfl]
      · rw [if_neg c1]
    refine ⟨y1, W1, .inr ⟨fun z => cs z.1, ?_, ?_⟩⟩
    · rw [eu_X37_findGlobals_211]; unfold du_X37_findGlobals_211
      rw [wx]; exact e0
    · unfold gS; rw [if_neg cs]
      refine fin _ y1 (fun _ _ _ => rfl) rfl rfl rfl rfl fun j j0 j1 => ?_
      obtain ⟨-, a2, a3, -⟩ := h3 j j0 j1
      rw [f1 _ _ _ (by omega), f1 _ _ _ (by omega)]; exact ⟨a2, a3⟩
  · rw [if_pos cs.1, t_isDef x9 ⟨v0, v1⟩, if_pos cs.2, Option.bind_some, if_neg n10, jlt_in g0 g6, Option.bind_some, f1 _ _ _ (by omega), (h3 g g0 ga1).2.1]
    by_cases ct : gAd e x g 3 g = 1
    · rw [if_pos ct]
      exact ⟨y1, W1, .inl ⟨⟨cs, ct⟩, rfl⟩⟩
    · rw [if_neg ct, jst_in g0 g6, Option.bind_some]
      obtain ⟨y2, Y2⟩ : ∃ y2, y2 = jp y1 1000 (H + 191) g 1 := ⟨_, rfl⟩
      obtain ⟨f2, p2, -⟩ := jpF Y2
      rw [← Y2, jst_in g0 g6, Option.bind_some]
      obtain ⟨y3, Y3⟩ : ∃ y3, y3 = jp y2 1000 (H + 192) g x := ⟨_, rfl⟩
      obtain ⟨f3, p3, -⟩ := jpF Y3
      rw [← Y3, eu_X37_findGlobals_211]; unfold du_X37_findGlobals_211
      rw [wx]
      refine ⟨y3, (W1.wr Y2 (by omega)).wr Y3 (by omega), .inr ⟨fun z => ct z.2, rfl, ?_⟩⟩
      unfold gS; rw [if_pos cs]
      refine fin _ y3 (fun a k q => by rw [f3 _ _ _ (by omega), f2 _ _ _ (by omega)]) (by rw [f3 _ _ _ (by omega), f2 _ _ _ (by omega)]) (gB_no (by omega)) (funext fun k => gB_no (by omega)) (funext fun k => gB_no (by omega)) fun j j0 j1 => ?_
      by_cases c : j = g
      · rw [c, gB_3, gB_4]
        exact ⟨by rw [f3 _ _ _ (by omega)]; exact p2, fun _ => p3⟩
      · obtain ⟨-, a2, a3, -⟩ := h3 j j0 j1
        rw [gB_no (f := 3) (by omega), gB_no (f := 4) (by omega), f3 _ _ _ (by omega), f3 _ _ _ (by omega), f2 _ _ _ (by omega), f2 _ _ _ (by omega), f1 _ _ _ (by omega), f1 _ _ _ (by omega)]; exact ⟨a2, a3⟩
end jTsym
