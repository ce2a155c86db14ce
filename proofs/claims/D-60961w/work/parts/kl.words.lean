/-! the linker: words of a unit, their kinds, on both sides *-/
set_option maxRecDepth 100000
section jLw
variable {s t u w r q' : jS} {a b g k m n p v l x y c j X f i H C P Q P' Q' S : Int} {O : Int → Int → Int → Int → Int} {o : Int → Int → Int → Int} {d d' e z : Int → Int → Int}
noncomputable def wd4 (a b c d : Int) : Int := I_or (I_or (I_or a (I_shl b 8)) (I_shl c 16)) (I_shl d 24)
noncomputable def uW (o : Int → Int → Int → Int) (a : Int) : Int := wd4 (o 0 0 a) (o 0 0 (a + 1)) (o 0 0 (a + 2)) (o 0 0 (a + 3))
theorem uW_in : -2147483648 ≤ uW o a ∧ uW o a ≤ 2147483647 := I_or_b _ _
theorem shl_sb (h0 : 0 ≤ v) (h1 : v < 256) : I_shl (sb v) 24 = I_shl v 24 := by
  rw [i_shl_p (by decide) (by decide), i_shl_p (by decide) (by decide)]
  refine W32_cong ?_
  have e : (2 : Int) ^ (24 : Int).toNat = 16777216 := by decide
  rw [e]
  unfold sb; split <;> omega
theorem c_wordIn (h : cOb s b o) (hT : jTt s 34 b) (v : vOb o) (a0 : 0 ≤ a) (a1 : a + 4 ≤ o 1 0 0) : m_X35_wordIn s b a = some (uW o a) := by
  obtain ⟨⟨b0, b1⟩, ⟨f1, f2, f3, f4, f5⟩, -⟩ := T34 hT
  obtain ⟨g1, g2⟩ := f5 0 (by decide) (by decide)
  obtain ⟨t1, t2, t3, t4, t5⟩ := T35 g2
  have e1 : (b + 1) + 4 + 2 * 0 = b + 5 := by omega
  rw [e1] at g1 t1 t2 t3 t4 t5
  have hN : jN s (b + 5 + 1) = 2048 := by
    have := h.1 0 (by decide) (by decide)
    rw [e1, if_neg (by decide)] at this; exact this
  have h2048 := (v.1 0 (by decide) (by decide)).2.1
  rw [if_neg (by decide)] at h2048
  have B : ∀ k, 0 ≤ k → k < 4 → jld s 1001 (b + 5 + 1) (a + k) = some (sb (o 0 0 (a + k))) ∧ 0 ≤ o 0 0 (a + k) ∧ o 0 0 (a + k) < 256 := fun k k0 k1 => by
    have := h.2.2.1 0 (a + k) (by decide) (by decide) (by omega) (by omega)
    rw [e1] at this
    refine ⟨?_, v.2.1 0 (a + k) (by decide) (by decide) (by omega) (by omega)⟩
    unfold jld
    rw [if_pos ⟨t4, t5, by omega, by rw [hN]; omega⟩, this]
  obtain ⟨p0, p1, p2⟩ := B 0 (by decide) (by decide)
  obtain ⟨q0, q1, q2⟩ := B 1 (by decide) (by decide)
  obtain ⟨r0, r1, r2⟩ := B 2 (by decide) (by decide)
  obtain ⟨s0, s1, s2⟩ := B 3 (by decide) (by decide)
  rw [Int.add_zero] at p0 p1 p2
  have e2 : jld s 1013 (b + 1) 0 = some (b + 5) := by
    unfold jld
    rw [if_pos ⟨f2, f3, by decide, by rw [f4]; decide⟩, g1]
  rw [em_X35_wordIn]; unfold dm_X35_wordIn
  rw [jrd_in b0 b1, Option.bind_some, f1, e2, Option.bind_some, jrd_in t1 t2, Option.bind_some, t3, p0, Option.bind_some, W32_in (by omega) (by omega), q0, Option.bind_some, W32_in (by omega) (by omega), r0, Option.bind_some, W32_in (by omega) (by omega), s0, Option.bind_some, sb_and p1 p2, sb_and q1 q2, sb_and r1 r2, shl_sb s1 s2]
  rfl
theorem t_unitW (h : tUn t H x o) (v : vOb o) (x0 : 0 ≤ x) (x1 : x < 6) (a0 : 0 ≤ a) (a1 : a + 4 ≤ o 1 0 0) : m_X37_unitWord t H x a = some (uW o a) := by
  have h2048 := (v.1 0 (by decide) (by decide)).2.1
  rw [if_neg (by decide)] at h2048
  have B : ∀ k, 0 ≤ k → k < 4 → jf t 1000 (H + 170) (6144 * x + (a + k)) = o 0 0 (a + k) := fun k k0 k1 => by
    have := h.2.1 0 (a + k) (by decide) (by decide) (by omega) (by omega)
    rw [show 2048 * 0 + (a + k) = a + k by omega] at this; exact this
  have b0 := B 0 (by decide) (by decide)
  have b1 := B 1 (by decide) (by decide)
  have b2 := B 2 (by decide) (by decide)
  have b3 := B 3 (by decide) (by decide)
  rw [Int.add_zero] at b0
  have hz : jf t 1000 (H + 171) (4 * x) = o 1 0 0 := by
    have := (h.1 0 (by decide) (by decide)).1
    rw [Int.add_zero] at this; exact this
  rw [em_X37_unitWord]; unfold dm_X37_unitWord
  simp only [jlet]
  rw [W32_in (z := 6144 * x) (by omega) (by omega), W32_in (z := 6144 * x + a) (by omega) (by omega), jlt_in (by omega) (by omega), Option.bind_some, W32_in (z := 6144 * x + a + 1) (by omega) (by omega), jlt_in (by omega) (by omega), Option.bind_some, W32_in (z := 4 * x) (by omega) (by omega), jlt_in (by omega) (by omega), Option.bind_some, hz, W32_in (z := a + 4) (by omega) (by omega), if_neg (by omega), W32_in (z := 6144 * x + a + 2) (by omega) (by omega), jlt_in (by omega) (by omega), Option.bind_some, W32_in (z := 6144 * x + a + 3) (by omega) (by omega), jlt_in (by omega) (by omega), Option.bind_some, b0, Int.add_assoc, b1, Int.add_assoc, b2, Int.add_assoc, b3]
  rfl
/-- the words' own: the component's kinds, the twin's rows -/
def wrS (C H : Int) (s t : jS) : Prop := (pWd s (C + 1) ∧ pWl s (C + 1) (C + 4148)) ∧ pRows t (H + 5) ∧ ∀ a, a < C + 15464 → ¬ (70 ≤ jK s a ∧ jK s a ≤ 77)
theorem wrS.bw (h : wrS C H s t) (hn : C + 15464 ≤ jn s) (g : cBW C s u P Q) (g' : tBW H t w) : wrS C H u w := by
  obtain ⟨⟨h1, h2⟩, h3, h4⟩ := h
  have g1 : jGw s u P Q (fun a => C + 4148 ≤ a) := g.1.shrink fun c a k a0 ha hb => by
    rcases ha with q | q
    · exact absurd (show C + 4148 ≤ a by omega) hb
    · exact absurd q (h4 a (by omega))
  refine ⟨h1.gl h2 g1 fun a ha => .inl ha, fun i i0 i1 => ?_, fun a ha => ?_⟩
  · rw [g'.2 _ _ _ (by omega) (by omega)]; exact h3 i i0 i1
  · rw [g.1.K (by omega)]; exact h4 a ha
/-- only the words' scratch is written -/
def tW6 (H : Int) (t u : jS) : Prop := jSm t u ∧ ∀ c a k, ¬ (a = H + 4 ∨ a = H + 6) → jf u c a k = jf t c a k
theorem tW6.rfl : tW6 H t t := ⟨jSm.rfl, fun _ _ _ _ => Eq.refl _⟩
theorem tW6.trans (h : tW6 H t u) (g : tW6 H u w) : tW6 H t w := ⟨h.1.trans g.1, fun c a k q => (g.2 c a k q).trans (h.2 c a k q)⟩
theorem tW6.bw (h : tW6 H t u) : tBW H t u := ⟨h.1, fun c a k q1 q2 => h.2 c a k (by omega)⟩
theorem pw4_bw {p : jP4} : tW6 H t (pw4 t (H + 6) p) := ⟨⟨rfl, rfl, rfl, rfl, rfl, rfl, rfl⟩, fun c a k q1 => by
  rw [jf_pw4, if_neg (by omega)]⟩
theorem x_kind (h : wrS C H s t) (hw : -2147483648 ≤ v ∧ v ≤ 2147483647) : ∃ r u, m_X2_kind s (C + 1) v = some r ∧ m_X38_kind t (H + 4) v = some (u, r) ∧ isKd v r ∧ tW6 H t u ∧ pRows u (H + 5) := by
  obtain ⟨⟨⟨h1, -⟩, -⟩, h3, -⟩ := h
  obtain ⟨r, e1, k1⟩ := c_kind h1 hw
  rw [em_X38_kind]; unfold dm_X38_kind
  obtain ⟨y1, E_y1⟩ : ∃ y1, y1 = jp t 42 (H + 4) 0 0 := ⟨_, rfl⟩
  obtain ⟨f_y1, p_y1, -⟩ := jpF E_y1
  rw [jls_e, ← E_y1]
  have hR : pRows y1 (H + 5) := fun i i0 i1 => by rw [f_y1 _ _ _ (by omega)]; exact h3 i i0 i1
  have e5 : H + 4 + 1 = H + 5 := by omega
  have e6 : H + 4 + 2 = H + 6 := by omega
  obtain ⟨q, r', e2, k2, -⟩ := t_find (V := H + 4) (by rw [e5]; exact hR) hw
  have kk := isKd_one k1 k2
  subst kk
  rw [e2, Option.bind_some, e6]
  refine ⟨r, _, e1, rfl, k2, ?_, pRows_pw4 hR (by omega)⟩
  refine tW6.trans (u := y1) ⟨jSm.rfl.wr E_y1, fun c a k q1 => f_y1 _ _ _ (by omega)⟩ pw4_bw
theorem pPt_d {r0 : Int} (h : isKd v r0) (hr : r0 = 0 ∨ r0 = 3) : p4g (pPt r0.toNat v) 0 = v / 128 % 32 := by
  obtain ⟨k0, k1, k2, k3, k4⟩ := isKd_t h (by omega)
  unfold pTk at k2
  cases hq : pRes r0.toNat v with
  | none => rw [hq] at k2; cases k2
  | some q =>
    have hp : pPt r0.toNat v = pAdj r0.toNat q := by unfold pPt; rw [hq]
    have hF : cFd r0.toNat 0 = (4, 0, [7, 8, 9, 10, 11]) := by
      rcases hr with rfl | rfl <;> rfl
    rw [hp, take_adj (by omega) hq (by decide), hF, if_neg (by decide)]
    unfold fTake
    rw [if_neg (by decide), if_pos (.inl rfl)]
    have := tks_run v 7 (fun i => [(7 : Int), 8, 9, 10, 11].getD i (-1)) 5 fun i hi => by
      have : i = 0 ∨ i = 1 ∨ i = 2 ∨ i = 3 ∨ i = 4 := by omega
      rcases this with rfl | rfl | rfl | rfl | rfl <;> rfl
    exact this.trans (by unfold pSl; rfl)
theorem c_d (hw : -2147483648 ≤ v ∧ v ≤ 2147483647) : I_and (I_shr v 7) 31 = v / 128 % 32 := by
  rw [I_and_31, i_shr_p hw (by decide) (by decide)]; rfl
/-- the register of a word whose kind is told -/
theorem t_partD (hR : pRows t (H + 5)) (hw : -2147483648 ≤ v ∧ v ≤ 2147483647) : ∃ u q, m_X38_part t (H + 4) v 0 = some (u, q) ∧ (isKd v 0 ∨ isKd v 3 → q = v / 128 % 32) ∧ tW6 H t u := by
  have e5 : H + 4 + 1 = H + 5 := by omega
  have e6 : H + 4 + 2 = H + 6 := by omega
  rw [em_X38_part]; unfold dm_X38_part
  obtain ⟨q, r', e2, k2, k3⟩ := t_find (V := H + 4) (by rw [e5]; exact hR) hw
  rw [e2, Option.bind_some, e6]
  dsimp only
  obtain ⟨t1, T1⟩ : ∃ t1, t1 = pw4 t (H + 6) q := ⟨_, rfl⟩
  have b1 : tW6 H t t1 := by rw [T1]; exact pw4_bw
  have hR1 : pRows t1 (H + 5) := by rw [T1]; exact pRows_pw4 hR (by omega)
  have r1 : jf t1 1000 (H + 6) 0 = p4g q 0 := by rw [T1, jf_pw4, if_pos (by omega)]; rfl
  rw [← T1]
  have go : ∀ y, ∃ u z, u_X38_part_35 t1 (H + 4) 0 y (H + 4) = some (u, z) ∧ (y = 0 → z = p4g q 0) ∧ tW6 H t u := fun y => by
    rw [eu_X38_part_35]; unfold du_X38_part_35
    obtain ⟨y1, E_y1⟩ : ∃ y1, y1 = jp t1 42 (H + 4) 0 y := ⟨_, rfl⟩
    obtain ⟨f_y1, p_y1, -⟩ := jpF E_y1
    rw [jls_e, ← E_y1]
    have b2 : tW6 H t y1 := b1.trans ⟨jSm.rfl.wr E_y1, fun c a k q1 => f_y1 _ _ _ (by omega)⟩
    rw [p_y1]
    by_cases c : y = 0
    · rw [if_pos c, jlt_in (by decide) (by decide), Option.bind_some, e6, f_y1 _ _ _ (by omega), r1]
      exact ⟨_, _, rfl, fun _ => rfl, b2⟩
    · rw [if_neg c]
      exact ⟨_, _, rfl, fun z => absurd z c, b2⟩
  by_cases c : r' = -1
  · rw [if_pos c, eu_X38_part_34]; unfold du_X38_part_34
    obtain ⟨u, z, e, -, b⟩ := go 1
    refine ⟨u, z, e, fun hk => ?_, b⟩
    rcases hk with hk | hk
    · have := isKd_one k2 hk; omega
    · have := isKd_one k2 hk; omega
  · obtain ⟨d0, d1, -⟩ := isKd_t k2 c
    rw [if_neg c, if_neg (by decide), if_pos (by decide), s_X38_has _ _ _ _ (by rw [e5]; exact hR1) d0 d1 (by decide) (by decide), Option.bind_some]
    by_cases hh : pHas r'.toNat (0 : Int).toNat = true
    · rw [if_pos hh, if_neg (by decide)]
      obtain ⟨u, z, e, hz, b⟩ := go 0
      refine ⟨u, z, e, fun hk => ?_, b⟩
      rw [hz rfl, k3 c]
      rcases hk with hk | hk
      · have := isKd_one k2 hk
        rw [this] at k2 ⊢; exact pPt_d k2 (.inl rfl)
      · have := isKd_one k2 hk
        rw [this] at k2 ⊢; exact pPt_d k2 (.inr rfl)
    · rw [if_neg hh, if_pos rfl, eu_X38_part_34]; unfold du_X38_part_34
      obtain ⟨u, z, e, -, b⟩ := go 1
      refine ⟨u, z, e, fun hk => ?_, b⟩
      rcases hk with hk | hk
      · have := isKd_one k2 hk
        rw [this] at hh; exact absurd (by decide +kernel) hh
      · have := isKd_one k2 hk
        rw [this] at hh; exact absurd (by decide +kernel) hh
end jLw
