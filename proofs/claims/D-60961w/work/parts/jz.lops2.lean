/-! the component's layout is built: its calls -/
set_option maxRecDepth 100000
section jLops2
variable {s t u w' : jS} {a k m o p v l n x y c j X f z B i q w S P Q P' Q' K : Int} {d e : Int → Int → Int}
theorem ini53 (q : jS) (x : Int) (hx : 0 ≤ x) : m_X53_init q x = some (q, 0) := by rw [em_X53_init]; unfold dm_X53_init; rw [jck0_in hx]
theorem ini54 (q : jS) (x : Int) (hx : 0 ≤ x) : m_X54_init q x = some (q, 0) := by rw [em_X54_init]; unfold dm_X54_init; rw [jck0_in hx, ini53 q x hx]; rfl
theorem ini55 (q : jS) (x : Int) (hx : 0 ≤ x) : m_X55_init q x = some (q, 0) := by rw [em_X55_init]; unfold dm_X55_init; rw [jck0_in hx, ini53 q x hx]; rfl
theorem ini57 (q : jS) (x : Int) (hx : 0 ≤ x) : m_X57_init q x = some (q, 0) := by rw [em_X57_init]; unfold dm_X57_init; rw [jck0_in hx, ini53 q x hx]; rfl
theorem ini58 (q : jS) (x : Int) (hx : 0 ≤ x) : m_X58_init q x = some (q, 0) := by rw [em_X58_init]; unfold dm_X58_init; rw [jck0_in hx, ini57 q x hx]; rfl
theorem ini59 (q : jS) (x : Int) (hx : 0 ≤ x) : m_X59_init q x = some (q, 0) := by rw [em_X59_init]; unfold dm_X59_init; rw [jck0_in hx, ini57 q x hx]; rfl
theorem c_nextPlain (h : cBu s B d) (v : vLy d) (h1 : d 0 1 < 256) (hb : jBd s 1 9) : ∃ u x, m_X36_nextPlain s B = some (u, x) ∧ NXo s B d 72 u x := by
  rw [em_X36_nextPlain]; unfold dm_X36_nextPlain
  rw [eu_X36_nextPlain_28]; unfold du_X36_nextPlain_28
  exact nx_two (nf := 4) (sl := 7) (a := B + 4) (c := 1021) (K := 72) (.inl rfl) (by decide) rfl (by decide) h v h1 ⟨hb.1, by have := hb.2; omega⟩ ini54 (by decide)
theorem c_nextFill (h : cBu s B d) (v : vLy d) (h1 : d 0 1 < 256) (hb : jBd s 1 9) : ∃ u x, m_X36_nextFill s B = some (u, x) ∧ NXo s B d 73 u x := by
  rw [em_X36_nextFill]; unfold dm_X36_nextFill
  rw [eu_X36_nextFill_28]; unfold du_X36_nextFill_28
  exact nx_two (nf := 5) (sl := 8) (a := B + 5) (c := 1016) (K := 73) (.inr (.inl rfl)) (by decide) rfl (by decide) h v h1 ⟨hb.1, by have := hb.2; omega⟩ ini55 (by decide)
theorem c_nextCall (h : cBu s B d) (v : vLy d) (h1 : d 0 1 < 256) (hb : jBd s 1 9) : ∃ u x, m_X36_nextCall s B = some (u, x) ∧ NXo s B d 76 u x := by
  rw [em_X36_nextCall]; unfold dm_X36_nextCall
  rw [eu_X36_nextCall_28]; unfold du_X36_nextCall_28
  exact nx_two (nf := 8) (sl := 9) (a := B + 6) (c := 1015) (K := 76) (.inr (.inr (.inl rfl))) (by decide) rfl (by decide) h v h1 ⟨hb.1, by have := hb.2; omega⟩ ini58 (by decide)
theorem c_nextLoad (h : cBu s B d) (v : vLy d) (h1 : d 0 1 < 256) (hb : jBd s 1 9) : ∃ u x, m_X36_nextLoad s B = some (u, x) ∧ NXo s B d 77 u x := by
  rw [em_X36_nextLoad]; unfold dm_X36_nextLoad
  rw [eu_X36_nextLoad_28]; unfold du_X36_nextLoad_28
  exact nx_two (nf := 9) (sl := 10) (a := B + 7) (c := 1018) (K := 77) (.inr (.inr (.inr rfl))) (by decide) rfl (by decide) h v h1 ⟨hb.1, by have := hb.2; omega⟩ ini59 (by decide)
/-- what an operation gives: none, if full, or e -/
def lpO (s : jS) (B N M : Int) (e : Int → Int → Int) (r : jS × Int) : Prop := (N = M ∧ r = (s, -1)) ∨ (N < M ∧ r.2 = N ∧ cBu r.1 B e ∧ lbW B s r.1 1 9)
theorem c_can (h : cLs s B d) (v : vLy d) (h0 : 0 < d 0 0) : m_X36_can s B (d 0 0 - 1) = some (if d 0 1 = 256 then 0 else 1) := by
  have := v.1; have := v.2.1
  rw [e_X36_can, h.2.1.1, h.2.1.2.1, W32_in (by omega) (by omega)]
  by_cases c : d 0 1 = 256
  · rw [if_neg (by omega), if_pos c]
  · rw [if_pos (by omega), if_neg c]
theorem c_isLb (h : cLs s B d) (v : vLy d) (l0 : 0 ≤ l) (l1 : l < d 0 2) : m_X36_isLabel s B l = some 1 := by
  have := v.2.2.1
  rw [e_X36_isLabel, h.2.1.2.2.1, W32_in (by omega) (by omega), if_pos (by omega)]
theorem c_lplain (h : cBu s B d) (v : vLy d) (h0 : 0 < d 0 0) (hb : jBd s 1 9) (hn : 0 ≤ n ∧ n ≤ 4096) : jE (m_X36_plain s B (d 0 0 - 1) n) (lpO s B (d 0 1) 256 (dPc d 0 n 0 0 0 0)) := by
  have v1 := v.2.1
  rw [em_X36_plain]; unfold dm_X36_plain
  rw [c_can h.1 v h0, Option.bind_some]
  by_cases c : d 0 1 = 256
  · rw [if_pos c, if_pos rfl]; exact jS_end (.inl ⟨c, rfl⟩)
  obtain ⟨u, x, hu, hx⟩ := c_nextPlain h v (by omega) hb
  obtain ⟨x0, x1, x2⟩ := hx.2.2.2.2.1
  rw [if_neg c, if_neg n10, e_X36_in, if_pos (by omega), Option.bind_some, if_neg n10, hu, Option.bind_some, jct_in (leafT (ty := 88) rfl rfl (by decide) ⟨x0, x1, x2⟩), em_X54_renew]; unfold dm_X54_renew
  dsimp only
  obtain ⟨u2, E_u2⟩ : ∃ u2, u2 = jp u 72 x 3 n := ⟨_, rfl⟩
  obtain ⟨f_u2, p_u2, -⟩ := jpF E_u2
  rw [jls_e, ← E_u2]
  rw [Option.bind_some]
  obtain ⟨y, ey, hy, ly⟩ := hx.fin (S := 0) (n := n) (w := 0) (l := 0) (c := 0) (z := 0) v h0 (by omega) (by decide) (by decide) (jSm.rfl.wr E_u2) (fun c a k q => f_u2 _ _ _ (by omega)) ⟨fun _ => p_u2, fun q => absurd q (by decide), fun q => by omega, fun q => absurd q (by decide), fun q => absurd q (by decide), fun q => absurd q (by decide)⟩
  dsimp only
  rw [ey]
  exact jS_end (.inr ⟨by omega, rfl, hy, ly⟩)
theorem c_lfill (h : cBu s B d) (v : vLy d) (h0 : 0 < d 0 0) (hb : jBd s 1 9) (hw : 0 ≤ w ∧ w ≤ 12) (hn : 0 ≤ n ∧ n ≤ 4096) : jE (m_X36_fill s B (d 0 0 - 1) w n) (lpO s B (d 0 1) 256 (dPc d 4 n w 0 0 0)) := by
  have v1 := v.2.1
  rw [em_X36_fill]; unfold dm_X36_fill
  rw [c_can h.1 v h0, Option.bind_some]
  by_cases c : d 0 1 = 256
  · rw [if_pos c, if_pos rfl]; exact jS_end (.inl ⟨c, rfl⟩)
  obtain ⟨u, x, hu, hx⟩ := c_nextFill h v (by omega) hb
  obtain ⟨x0, x1, x2⟩ := hx.2.2.2.2.1
  rw [if_neg c, if_neg n10, e_X36_in, if_pos (by omega), Option.bind_some, if_neg n10, e_X36_in, if_pos (by omega), Option.bind_some, if_neg n10, hu, Option.bind_some, jct_in (leafT (ty := 89) rfl rfl (by decide) ⟨x0, x1, x2⟩), em_X55_renew]; unfold dm_X55_renew
  dsimp only
  obtain ⟨u1, E_u1⟩ : ∃ u1, u1 = jp u 73 x 3 w := ⟨_, rfl⟩
  obtain ⟨f_u1, p_u1, -⟩ := jpF E_u1
  rw [jls_e, ← E_u1]
  obtain ⟨u2, E_u2⟩ : ∃ u2, u2 = jp u1 73 x 4 n := ⟨_, rfl⟩
  obtain ⟨f_u2, p_u2, -⟩ := jpF E_u2
  rw [jls_e, ← E_u2]
  rw [Option.bind_some]
  obtain ⟨y, ey, hy, ly⟩ := hx.fin (S := 4) (n := n) (w := w) (l := 0) (c := 0) (z := 0) v h0 (by omega) (by decide) (by decide) ((jSm.rfl.wr E_u1).wr E_u2) (fun c a k q => by rw [f_u2 _ _ _ (by omega), f_u1 _ _ _ (by omega)]) ⟨fun q => absurd q (by decide), fun _ => ⟨by rw [f_u2 _ _ _ (by omega)]; exact p_u1, p_u2⟩, fun q => by omega, fun q => absurd q (by decide), fun q => absurd q (by decide), fun q => absurd q (by decide)⟩
  dsimp only
  rw [ey]
  exact jS_end (.inr ⟨by omega, rfl, hy, ly⟩)
/-- one that moves gets its aim -/
theorem c_aimed (hK : K = 76 ∨ K = 77) (hx : 0 ≤ x ∧ x < jn u ∧ jK u x = K) (g c' : Int) : ∃ y, m_X57_aimed u x g c' = some (y, x) ∧ jSm u y ∧ (∀ c a k, ¬ (c = K ∧ a = x ∧ 0 ≤ k ∧ k ≤ 3) → jf y c a k = jf u c a k) ∧ jf y K x 0 = g ∧ jf y K x 1 = c' ∧ (jf y K x 2 = if K = 76 then 8 else 4) ∧ jf y K x 3 = 0 := by
  obtain ⟨x0, x1, x2⟩ := hx
  have jw : ∀ (s : jS) (i z : Int), jK s = jK u → jwp s [(76, i), (77, i)] x z = some (jp s K x i z) := fun s i z hs => by
    rcases hK with rfl | rfl <;> simp [jwp, hs, x0, x2]
  have gr : ∀ s : jS, jSm u s → mp_X57_greatest s x = some (if K = 76 then 8 else 4) := fun s hm => by
    rw [emp_X57_greatest]; unfold dmp_X57_greatest
    have e1 : jK s x = K := by rw [hm.1]; exact x2
    have e2 : x < jn s := by rw [hm.2.2.1]; exact x1
    rcases hK with rfl | rfl
    · rw [if_pos ⟨x0, e1⟩, jct_in (leafT (ty := 92) rfl rfl (by decide) ⟨x0, e2, e1⟩), e_X58_greatest]; rfl
    · rw [if_neg (by omega), if_pos ⟨x0, e1⟩, jct_in (leafT (ty := 93) rfl rfl (by decide) ⟨x0, e2, e1⟩), e_X59_greatest]; rfl
  rw [em_X57_aimed]; unfold dm_X57_aimed
  obtain ⟨y1, Y1⟩ : ∃ y1, y1 = jp u K x 0 g := ⟨_, rfl⟩
  obtain ⟨f1, p1, -⟩ := jpF Y1
  have m1 : jSm u y1 := jSm.rfl.wr Y1
  obtain ⟨y2, Y2⟩ : ∃ y2, y2 = jp y1 K x 1 c' := ⟨_, rfl⟩
  obtain ⟨f2, p2, -⟩ := jpF Y2
  have m2 : jSm u y2 := m1.wr Y2
  obtain ⟨y3, Y3⟩ : ∃ y3, y3 = jp y2 K x 2 (if K = 76 then 8 else 4) := ⟨_, rfl⟩
  obtain ⟨f3, p3, -⟩ := jpF Y3
  have m3 : jSm u y3 := m2.wr Y3
  obtain ⟨y4, Y4⟩ : ∃ y4, y4 = jp y3 K x 3 0 := ⟨_, rfl⟩
  obtain ⟨f4, p4, -⟩ := jpF Y4
  rw [jw u 0 g rfl, Option.bind_some, ← Y1, jw y1 1 c' m1.1, Option.bind_some, ← Y2, gr y2 m2, Option.bind_some, jw y2 2 _ m2.1, Option.bind_some, ← Y3, jzb_in (.inl rfl : (0 : Int) = 0 ∨ (0 : Int) = 1), Option.bind_some, jw y3 3 0 m3.1, Option.bind_some, ← Y4]
  refine ⟨y4, rfl, m3.wr Y4, fun c a k q => by rw [f4 _ _ _ (by omega), f3 _ _ _ (by omega), f2 _ _ _ (by omega), f1 _ _ _ (by omega)], ?_, ?_, ?_, p4⟩
  · rw [f4 _ _ _ (by omega), f3 _ _ _ (by omega), f2 _ _ _ (by omega)]; exact p1
  · rw [f4 _ _ _ (by omega), f3 _ _ _ (by omega)]; exact p2
  · rw [f4 _ _ _ (by omega)]; exact p3
theorem c_lcall (h : cBu s B d) (v : vLy d) (h0 : 0 < d 0 0) (hb : jBd s 1 9) (hl : 0 ≤ l ∧ l < d 0 2) (hz : z = 0 ∨ z = 1) : jE (m_X36_call s B (d 0 0 - 1) l c z) (lpO s B (d 0 1) 256 (dPc d 1 0 0 l c z)) := by
  have v1 := v.2.1
  have v2 := v.2.2.1
  rw [em_X36_call]; unfold dm_X36_call
  rw [c_can h.1 v h0, Option.bind_some]
  by_cases cc : d 0 1 = 256
  · rw [if_pos cc, if_pos rfl]; exact jS_end (.inl ⟨cc, rfl⟩)
  obtain ⟨u, x, hu, hx⟩ := c_nextCall h v (by omega) hb
  obtain ⟨x0, x1, x2⟩ := hx.2.2.2.2.1
  rw [if_neg cc, if_neg n10, c_isLb h.1 v hl.1 hl.2, Option.bind_some, if_neg n10, hu, Option.bind_some, jct_in (leafT (ty := 92) rfl rfl (by decide) ⟨x0, x1, x2⟩), em_X58_renew]; unfold dm_X58_renew
  dsimp only
  rw [jzb_in hz, Option.bind_some]
  obtain ⟨u1, E_u1⟩ : ∃ u1, u1 = jp u 76 x 7 z := ⟨_, rfl⟩
  obtain ⟨f_u1, p_u1, -⟩ := jpF E_u1
  rw [jls_e, ← E_u1]
  rw [Option.bind_some]
  dsimp only
  have m1 : jSm u u1 := jSm.rfl.wr E_u1
  rw [jlt_in hl.1 (by omega), Option.bind_some, f_u1 _ _ _ (by omega), emp_X58_aimed]; unfold dmp_X58_aimed
  obtain ⟨u2, e2, m2, F2, g0, g1, g2, g3⟩ := c_aimed (K := 76) (.inl rfl) (u := u1) (x := x) ⟨x0, by rw [m1.2.2.1]; exact x1, by rw [m1.1]; exact x2⟩ (jf u 1017 (B + 3) l) c
  rw [if_pos ⟨x0, by rw [m1.1]; exact x2⟩, e2, Option.bind_some]
  obtain ⟨y, ey, hy, ly⟩ := hx.fin (S := 1) (n := 0) (w := 0) (l := l) (c := c) (z := z) v h0 (by omega) (by decide) (by decide) (m1.trans m2) (fun c a k q => by rw [F2 _ _ _ (by omega), f_u1 _ _ _ (by omega)]) ⟨fun q => absurd q (by decide), fun q => absurd q (by decide), fun q => ⟨by rw [show kOf 1 = 76 from rfl, g0]; show _ = jf u2 1017 (B + 3) l; rw [F2 _ _ _ (by omega), f_u1 _ _ _ (by omega)], g1, g2, g3⟩, fun _ => by rw [F2 _ _ _ (by omega)]; exact p_u1, fun q => absurd q (by decide), fun q => absurd q (by decide)⟩
  dsimp only
  rw [ey]
  exact jS_end (.inr ⟨by omega, rfl, hy, ly⟩)
theorem c_lupper (h : cBu s B d) (v : vLy d) (h0 : 0 < d 0 0) (hb : jBd s 1 9) (hl : 0 ≤ l ∧ l < d 0 2) (hz : z = 0 ∨ z = 1) : jE (m_X36_upper s B (d 0 0 - 1) l c z) (lpO s B (d 0 1) 256 (dPc d 2 0 0 l c z)) := by
  have v1 := v.2.1
  have v2 := v.2.2.1
  rw [em_X36_upper]; unfold dm_X36_upper
  rw [c_can h.1 v h0, Option.bind_some]
  by_cases cc : d 0 1 = 256
  · rw [if_pos cc, if_pos rfl]; exact jS_end (.inl ⟨cc, rfl⟩)
  obtain ⟨u, x, hu, hx⟩ := c_nextLoad h v (by omega) hb
  obtain ⟨x0, x1, x2⟩ := hx.2.2.2.2.1
  rw [if_neg cc, if_neg n10, c_isLb h.1 v hl.1 hl.2, Option.bind_some, if_neg n10, hu, Option.bind_some, jct_in (leafT (ty := 93) rfl rfl (by decide) ⟨x0, x1, x2⟩), em_X59_renew]; unfold dm_X59_renew
  dsimp only
  rw [jzb_in (.inr rfl : (1 : Int) = 0 ∨ (1 : Int) = 1), Option.bind_some, jzb_in hz]
  obtain ⟨u0, E_u0⟩ : ∃ u0, u0 = jp u 77 x 7 1 := ⟨_, rfl⟩
  obtain ⟨f_u0, p_u0, -⟩ := jpF E_u0
  rw [jls_e, ← E_u0]
  rw [Option.bind_some]
  obtain ⟨u1, E_u1⟩ : ∃ u1, u1 = jp u0 77 x 8 z := ⟨_, rfl⟩
  obtain ⟨f_u1, p_u1, -⟩ := jpF E_u1
  rw [jls_e, ← E_u1]
  rw [Option.bind_some]
  dsimp only
  have m1 : jSm u u1 := (jSm.rfl.wr E_u0).wr E_u1
  rw [jlt_in hl.1 (by omega), Option.bind_some, f_u1 _ _ _ (by omega), f_u0 _ _ _ (by omega), emp_X59_aimed]; unfold dmp_X59_aimed
  obtain ⟨u2, e2, m2, F2, g0, g1, g2, g3⟩ := c_aimed (K := 77) (.inr rfl) (u := u1) (x := x) ⟨x0, by rw [m1.2.2.1]; exact x1, by rw [m1.1]; exact x2⟩ (jf u 1017 (B + 3) l) c
  rw [if_pos ⟨x0, by rw [m1.1]; exact x2⟩, e2, Option.bind_some]
  obtain ⟨y, ey, hy, ly⟩ := hx.fin (S := 2) (n := 0) (w := 0) (l := l) (c := c) (z := z) v h0 (by omega) (by decide) (by decide) (m1.trans m2) (fun c a k q => by rw [F2 _ _ _ (by omega), f_u1 _ _ _ (by omega), f_u0 _ _ _ (by omega)]) ⟨fun q => absurd q (by decide), fun q => absurd q (by decide), fun q => ⟨by rw [show kOf 2 = 77 from rfl, g0]; show _ = jf u2 1017 (B + 3) l; rw [F2 _ _ _ (by omega), f_u1 _ _ _ (by omega), f_u0 _ _ _ (by omega)], g1, g2, g3⟩, fun q => absurd q (by decide), fun _ => ⟨by rw [F2 _ _ _ (by omega), f_u1 _ _ _ (by omega)]; exact p_u0, by rw [F2 _ _ _ (by omega)]; exact p_u1⟩, fun q => absurd q (by decide)⟩
  dsimp only
  rw [ey]
  exact jS_end (.inr ⟨by omega, rfl, hy, ly⟩)
theorem c_lnear (h : cBu s B d) (v : vLy d) (h0 : 0 < d 0 0) (hb : jBd s 1 9) (hl : 0 ≤ l ∧ l < d 0 2) : jE (m_X36_near s B (d 0 0 - 1) l c) (lpO s B (d 0 1) 256 (dPc d 3 0 0 l c 0)) := by
  have v1 := v.2.1
  have v2 := v.2.2.1
  rw [em_X36_near]; unfold dm_X36_near
  rw [c_can h.1 v h0, Option.bind_some]
  by_cases cc : d 0 1 = 256
  · rw [if_pos cc, if_pos rfl]; exact jS_end (.inl ⟨cc, rfl⟩)
  obtain ⟨u, x, hu, hx⟩ := c_nextLoad h v (by omega) hb
  obtain ⟨x0, x1, x2⟩ := hx.2.2.2.2.1
  rw [if_neg cc, if_neg n10, c_isLb h.1 v hl.1 hl.2, Option.bind_some, if_neg n10, hu, Option.bind_some, jct_in (leafT (ty := 93) rfl rfl (by decide) ⟨x0, x1, x2⟩), em_X59_renew]; unfold dm_X59_renew
  dsimp only
  rw [jzb_in (.inl rfl : (0 : Int) = 0 ∨ (0 : Int) = 1), Option.bind_some]
  obtain ⟨u0, E_u0⟩ : ∃ u0, u0 = jp u 77 x 7 0 := ⟨_, rfl⟩
  obtain ⟨f_u0, p_u0, -⟩ := jpF E_u0
  rw [jls_e, ← E_u0]
  rw [Option.bind_some]
  obtain ⟨u1, E_u1⟩ : ∃ u1, u1 = jp u0 77 x 8 0 := ⟨_, rfl⟩
  obtain ⟨f_u1, p_u1, -⟩ := jpF E_u1
  rw [jls_e, ← E_u1]
  rw [Option.bind_some]
  dsimp only
  have m1 : jSm u u1 := (jSm.rfl.wr E_u0).wr E_u1
  rw [jlt_in hl.1 (by omega), Option.bind_some, f_u1 _ _ _ (by omega), f_u0 _ _ _ (by omega), emp_X59_aimed]; unfold dmp_X59_aimed
  obtain ⟨u2, e2, m2, F2, g0, g1, g2, g3⟩ := c_aimed (K := 77) (.inr rfl) (u := u1) (x := x) ⟨x0, by rw [m1.2.2.1]; exact x1, by rw [m1.1]; exact x2⟩ (jf u 1017 (B + 3) l) c
  rw [if_pos ⟨x0, by rw [m1.1]; exact x2⟩, e2, Option.bind_some]
  obtain ⟨y, ey, hy, ly⟩ := hx.fin (S := 3) (n := 0) (w := 0) (l := l) (c := c) (z := 0) v h0 (by omega) (by decide) (by decide) (m1.trans m2) (fun c a k q => by rw [F2 _ _ _ (by omega), f_u1 _ _ _ (by omega), f_u0 _ _ _ (by omega)]) ⟨fun q => absurd q (by decide), fun q => absurd q (by decide), fun q => ⟨by rw [show kOf 3 = 77 from rfl, g0]; show _ = jf u2 1017 (B + 3) l; rw [F2 _ _ _ (by omega), f_u1 _ _ _ (by omega), f_u0 _ _ _ (by omega)], g1, g2, g3⟩, fun q => absurd q (by decide), fun q => absurd q (by decide), fun _ => by rw [F2 _ _ _ (by omega), f_u1 _ _ _ (by omega)]; exact p_u0⟩
  dsimp only
  rw [ey]
  exact jS_end (.inr ⟨by omega, rfl, hy, ly⟩)
end jLops2
